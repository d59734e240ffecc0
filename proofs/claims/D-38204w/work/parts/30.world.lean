/-! WORLDS: cells named by tags (kind, index); the component's works as such a world -/
set_option maxRecDepth 100000
def tAt (g : GT) (A : Nat → Prop) (lv : Nat → Nat → Prop) (ad : Nat → Nat → Nat) (ct : Nat → Nat → va_E) (H : Heap) : Prop :=
  (∀ j i, lv j i → mAt g (ad j i) (ct j i) H ∧ A (ad j i)) ∧ ∀ j i j' i', lv j i → lv j' i' → ad j i = ad j' i' → j = j' ∧ i = i'
def tF (lv : Nat → Nat → Prop) (ad : Nat → Nat → Nat) : Nat → Prop := fun q => ∃ j i, lv j i ∧ q = ad j i
theorem tAt.at {g : GT} {A : Nat → Prop} {lv : Nat → Nat → Prop} {ad : Nat → Nat → Nat} {ct : Nat → Nat → va_E} {H : Heap} (h : tAt g A lv ad ct H) {j i : Nat} (hl : lv j i) : mAt g (ad j i) (ct j i) H := (h.1 j i hl).1
theorem tAt.inA {g : GT} {A : Nat → Prop} {lv : Nat → Nat → Prop} {ad : Nat → Nat → Nat} {ct : Nat → Nat → va_E} {H : Heap} (h : tAt g A lv ad ct H) {j i : Nat} (hl : lv j i) : A (ad j i) := (h.1 j i hl).2
theorem tAt.ne {g : GT} {A : Nat → Prop} {lv : Nat → Nat → Prop} {ad : Nat → Nat → Nat} {ct : Nat → Nat → va_E} {H : Heap} (h : tAt g A lv ad ct H) {j i j' i' : Nat} (hl : lv j i) (hl' : lv j' i') (hn : ¬ (j = j' ∧ i = i')) : ad j i ≠ ad j' i' := fun e => hn (h.2 j i j' i' hl hl' e)
theorem tAt.weaken {g : GT} {A B : Nat → Prop} {lv : Nat → Nat → Prop} {ad : Nat → Nat → Nat} {ct : Nat → Nat → va_E} {H : Heap} (h : tAt g A lv ad ct H) (hAB : ∀ q, A q → B q) : tAt g B lv ad ct H := ⟨fun j i hl => ⟨(h.1 j i hl).1, hAB _ (h.1 j i hl).2⟩, h.2⟩
theorem tAt.self {g : GT} {A : Nat → Prop} {lv : Nat → Nat → Prop} {ad : Nat → Nat → Nat} {ct : Nat → Nat → va_E} {H : Heap} (h : tAt g A lv ad ct H) (sz : Nat) : tAt g (fA (tF lv ad) sz) lv ad ct H := ⟨fun j i hl => ⟨(h.1 j i hl).1, Or.inl ⟨j, i, hl, rfl⟩⟩, h.2⟩
theorem tAt.ft {g : GT} {A : Nat → Prop} {lv : Nat → Nat → Prop} {ad : Nat → Nat → Nat} {ct : Nat → Nat → va_E} {H : Heap} (h : tAt g A lv ad ct H) : ∀ q, tF lv ad q → A q := fun _ ⟨_, _, hl, e⟩ => by rw [e]; exact (h.1 _ _ hl).2
theorem tAt.ftlt {g : GT} {A : Nat → Prop} {lv : Nat → Nat → Prop} {ad : Nat → Nat → Nat} {ct : Nat → Nat → va_E} {H : Heap} (h : tAt g A lv ad ct H) : ∀ q, tF lv ad q → q < H.size := fun _ ⟨_, _, hl, e⟩ => by rw [e]; exact (h.1 _ _ hl).1.lt
theorem tAt.kept {g : GT} {A : Nat → Prop} {lv : Nat → Nat → Prop} {ad : Nat → Nat → Nat} {ct : Nat → Nat → va_E} {H H1 : Heap} (h : tAt g A lv ad ct H) (hq : ∀ q, q < H.size → tF lv ad q → H1[q]? = H[q]?) : tAt g A lv ad ct H1 :=
  ⟨fun j i hl => ⟨(h.1 j i hl).1.kept (hq _ (h.1 j i hl).1.lt ⟨j, i, hl, rfl⟩), (h.1 j i hl).2⟩, h.2⟩
/-- one cell has changed -/
theorem tAt.put {g : GT} {A : Nat → Prop} {lv : Nat → Nat → Prop} {ad : Nat → Nat → Nat} {ct ct' : Nat → Nat → va_E} {H H1 : Heap} (h : tAt g A lv ad ct H) (j0 i0 : Nat) (hl : lv j0 i0) (hat : mAt g (ad j0 i0) (ct' j0 i0) H1) (hoq : ∀ q, q < H.size → q ≠ ad j0 i0 → H1[q]? = H[q]?)
    (hct : ∀ j i, lv j i → ¬ (j = j0 ∧ i = i0) → ct' j i = ct j i) : tAt g A lv ad ct' H1 := by
  refine ⟨fun j i hl' => ⟨?_, (h.1 j i hl').2⟩, h.2⟩
  by_cases hji : j = j0 ∧ i = i0
  · obtain ⟨rfl, rfl⟩ := hji
    exact hat
  · rw [hct j i hl' hji]
    exact (h.1 j i hl').1.kept (hoq _ (h.1 j i hl').1.lt (h.ne hl' hl hji))
/-- objects as functions of their components' places -/
def ob4 (c0 c1 c2 c3 : Int32) : Nat → Int32 := fun k => match k with | 0 => c0 | 1 => c1 | 2 => c2 | _ => c3
def ob8 (c0 c1 c2 c3 c4 c5 c6 c7 : Int32) : Nat → Int32 := fun k => match k with | 0 => c0 | 1 => c1 | 2 => c2 | 3 => c3 | 4 => c4 | 5 => c5 | 6 => c6 | _ => c7
def ob9 (c0 c1 c2 c3 c4 c5 c6 c7 c8 : Int32) : Nat → Int32 := fun k => match k with | 0 => c0 | 1 => c1 | 2 => c2 | 3 => c3 | 4 => c4 | 5 => c5 | 6 => c6 | 7 => c7 | _ => c8
def ob11 (c0 c1 c2 c3 c4 c5 c6 c7 c8 c9 c10 : Int32) : Nat → Int32 := fun k => match k with | 0 => c0 | 1 => c1 | 2 => c2 | 3 => c3 | 4 => c4 | 5 => c5 | 6 => c6 | 7 => c7 | 8 => c8 | 9 => c9 | _ => c10
abbrev eF (o : Nat → Int32) : List Value := [.int (o 0), .int (o 1), .int (o 2), .int (o 3), .int (o 4), .int (o 5), .int (o 6), .int (o 7), .int (o 8), .int (o 9), .int (o 10)]
abbrev eT (o : Nat → Int32) : List Value := [.int (o 0), .int (o 1), .int (o 2), .int (o 3)]
abbrev eL (o : Nat → Int32) : List Value := [.int (o 0), .int (o 1), .int (o 2), .int (o 3), .int (o 4), .int (o 5), .int (o 6), .int (o 7), .int (o 8)]
/-- the component's works: ints (hour, arrivals, mill, starting, idle, idled, stops, rate, water, order, syrup, lost, fibre, oil, money), sweetTons, arrays (dayTons, allTons, points), fields, trucks, loads, how many of each -/
abbrev CT : Type := (Nat → Int32) × Int64 × (Nat → Nat → Int32) × (Nat → Nat → Int32) × (Nat → Nat → Int32) × (Nat → Nat → Int32) × (Nat → Nat)
/-- where it lies: addresses, capacities, modCounts -/
abbrev LT : Type := (Nat → Nat → Nat) × (Nat → Nat) × (Nat → Int32)
def cLv (la : LT) (n : Nat → Nat) : Nat → Nat → Prop := fun j i => match j with | 0 => i < 7 | 1 => i < 3 ∧ la.2.1 i ≠ 0 | 2 => i < n 0 | 3 => i < n 1 | 4 => i < n 2 | _ => False
def eW (ad : Nat → Nat → Nat) (sc : Nat → Int32) (sw : Int64) : List Value := [.ref (ad 0 1), .ref (ad 0 2), .ref (ad 0 3), .ref (ad 0 4), .ref (ad 0 5), .ref (ad 0 6), .int (sc 0), .int (sc 1), .int (sc 2), .int (sc 3), .int (sc 4), .int (sc 5), .int (sc 6), .int (sc 7), .int (sc 8), .int (sc 9), .int (sc 10), .int (sc 11), .int (sc 12), .int (sc 13), .int (sc 14), .long sw]
/-- a list's elements -/
def elF (ad : Nat → Nat → Nat) (n : Nat → Nat) (k : Nat) : Nat → Option Nat := fun j => if j < n k then some (ad (2 + k) j) else none
def eAL (la : LT) (n : Nat → Nat) (k : Nat) : va_E := .inr (2, [.int (la.2.2 k), .ref (la.1 1 k), .int (nI (n k))])
def cCt (g : GT) (la : LT) (C : CT) : Nat → Nat → va_E := fun j i => match j with
  | 0 => match i with
    | 0 => .inr (1, eW la.1 C.1 C.2.1)
    | 1 => eAL la C.2.2.2.2.2.2 0
    | 2 => eAL la C.2.2.2.2.2.2 1
    | 3 => eAL la C.2.2.2.2.2.2 2
    | 4 => .inl (g.2.1 0, 4, .inl (C.2.2.1 0))
    | 5 => .inl (g.2.1 0, 4, .inl (C.2.2.1 1))
    | _ => .inl (g.2.1 0, 4, .inl (C.2.2.1 2))
  | 1 => .inl (g.2.1 2, la.2.1 i, rfs (elF la.1 C.2.2.2.2.2.2 i))
  | 2 => .inr (5, eF (C.2.2.2.1 i))
  | 3 => .inr (7, eT (C.2.2.2.2.1 i))
  | _ => .inr (9, eL (C.2.2.2.2.2.1 i))
def cOk (g : GT) (la : LT) (n : Nat → Nat) : Prop := ∀ k, k < 3 → n k ≤ la.2.1 k ∧ la.2.1 k < 2 ^ 24 ∧ (la.2.1 k = 0 → la.1 1 k = g.2.2 1) ∧ 2 * la.2.1 k ≤ 20 + 3 * n k
/-- the works stand in the heap -/
def cw (g : GT) (A : Nat → Prop) (la : LT) (C : CT) (H : Heap) : Prop := tAt g A (cLv la C.2.2.2.2.2.2) la.1 (cCt g la C) H ∧ cOk g la C.2.2.2.2.2.2
abbrev cF (la : LT) (n : Nat → Nat) : Nat → Prop := tF (cLv la n) la.1
section CW
variable {g : GT} {A B : Nat → Prop} {la : LT} {H H1 : Heap} {sc sc' : Nat → Int32} {sw sw' : Int64} {ar : Nat → Nat → Int32} {fd tr ld : Nat → Nat → Int32} {n : Nat → Nat} {i k a : Nat} {o : Nat → Int32}
theorem cw.w (h : cw g A la (sc, sw, ar, fd, tr, ld, n) H) : mAt g (la.1 0 0) (.inr (1, eW la.1 sc sw)) H := h.1.at (j := 0) (i := 0) (by show 0 < 7; decide)
theorem cw.al0 (h : cw g A la (sc, sw, ar, fd, tr, ld, n) H) : mAt g (la.1 0 1) (.inr (2, [.int (la.2.2 0), .ref (la.1 1 0), .int (nI (n 0))])) H := h.1.at (j := 0) (i := 1) (by show 1 < 7; decide)
theorem cw.al1 (h : cw g A la (sc, sw, ar, fd, tr, ld, n) H) : mAt g (la.1 0 2) (.inr (2, [.int (la.2.2 1), .ref (la.1 1 1), .int (nI (n 1))])) H := h.1.at (j := 0) (i := 2) (by show 2 < 7; decide)
theorem cw.al2 (h : cw g A la (sc, sw, ar, fd, tr, ld, n) H) : mAt g (la.1 0 3) (.inr (2, [.int (la.2.2 2), .ref (la.1 1 2), .int (nI (n 2))])) H := h.1.at (j := 0) (i := 3) (by show 3 < 7; decide)
theorem cw.ar0 (h : cw g A la (sc, sw, ar, fd, tr, ld, n) H) : mAt g (la.1 0 4) (.inl (g.2.1 0, 4, .inl (ar 0))) H := h.1.at (j := 0) (i := 4) (by show 4 < 7; decide)
theorem cw.ar1 (h : cw g A la (sc, sw, ar, fd, tr, ld, n) H) : mAt g (la.1 0 5) (.inl (g.2.1 0, 4, .inl (ar 1))) H := h.1.at (j := 0) (i := 5) (by show 5 < 7; decide)
theorem cw.ar2 (h : cw g A la (sc, sw, ar, fd, tr, ld, n) H) : mAt g (la.1 0 6) (.inl (g.2.1 0, 4, .inl (ar 2))) H := h.1.at (j := 0) (i := 6) (by show 6 < 7; decide)
theorem cw.ed (h : cw g A la (sc, sw, ar, fd, tr, ld, n) H) (hk : k < 3) (h0 : la.2.1 k ≠ 0) : mAt g (la.1 1 k) (.inl (g.2.1 2, la.2.1 k, rfs (elF la.1 n k))) H := h.1.at (j := 1) (i := k) ⟨hk, h0⟩
theorem cw.f (h : cw g A la (sc, sw, ar, fd, tr, ld, n) H) (hi : i < n 0) : mAt g (la.1 2 i) (.inr (5, eF (fd i))) H := h.1.at (j := 2) (i := i) hi
theorem cw.t (h : cw g A la (sc, sw, ar, fd, tr, ld, n) H) (hi : i < n 1) : mAt g (la.1 3 i) (.inr (7, eT (tr i))) H := h.1.at (j := 3) (i := i) hi
theorem cw.l (h : cw g A la (sc, sw, ar, fd, tr, ld, n) H) (hi : i < n 2) : mAt g (la.1 4 i) (.inr (9, eL (ld i))) H := h.1.at (j := 4) (i := i) hi
theorem cw.fS (h : cw g A la (sc, sw, ar, va_up fd i o, tr, ld, n) H) (hi : i < n 0) : mAt g (la.1 2 i) (.inr (5, eF o)) H := by have h9 := h.f hi; rw [va_up_self] at h9; exact h9
theorem cw.tS (h : cw g A la (sc, sw, ar, fd, va_up tr i o, ld, n) H) (hi : i < n 1) : mAt g (la.1 3 i) (.inr (7, eT o)) H := by have h9 := h.t hi; rw [va_up_self] at h9; exact h9
theorem cw.lS (h : cw g A la (sc, sw, ar, fd, tr, va_up ld i o, n) H) (hi : i < n 2) : mAt g (la.1 4 i) (.inr (9, eL o)) H := by have h9 := h.l hi; rw [va_up_self] at h9; exact h9
theorem cw.inW (h : cw g A la (sc, sw, ar, fd, tr, ld, n) H) (hi : i < 7) : A (la.1 0 i) := h.1.inA (j := 0) hi
theorem cw.inF (h : cw g A la (sc, sw, ar, fd, tr, ld, n) H) (hi : i < n 0) : A (la.1 2 i) := h.1.inA (j := 2) hi
theorem cw.inT (h : cw g A la (sc, sw, ar, fd, tr, ld, n) H) (hi : i < n 1) : A (la.1 3 i) := h.1.inA (j := 3) hi
theorem cw.inL (h : cw g A la (sc, sw, ar, fd, tr, ld, n) H) (hi : i < n 2) : A (la.1 4 i) := h.1.inA (j := 4) hi
theorem cw.weaken {C : CT} (h : cw g A la C H) (hAB : ∀ q, A q → B q) : cw g B la C H := ⟨h.1.weaken hAB, h.2⟩
theorem cw.self {C : CT} (h : cw g A la C H) (sz : Nat) : cw g (fA (cF la C.2.2.2.2.2.2) sz) la C H := ⟨h.1.self sz, h.2⟩
theorem cw.kept {C : CT} (h : cw g A la C H) (hq : ∀ q, q < H.size → cF la C.2.2.2.2.2.2 q → H1[q]? = H[q]?) : cw g A la C H1 := ⟨h.1.kept hq, h.2⟩
/-- a call's cells are ours -/
theorem cw.back {C : CT} (h : cw g A la C H) (hAs : ∀ q, H.size ≤ q → A q) : ∀ q, fA (cF la C.2.2.2.2.2.2) H.size q → A q := fun q hq => hq.elim (h.1.ft q) (hAs q)
theorem cw.setW (h : cw g A la (sc, sw, ar, fd, tr, ld, n) H) (hat : mAt g (la.1 0 0) (.inr (1, eW la.1 sc' sw')) H1) (hoq : ∀ q, q < H.size → q ≠ la.1 0 0 → H1[q]? = H[q]?) : cw g A la (sc', sw', ar, fd, tr, ld, n) H1 := by
  refine ⟨h.1.put 0 0 (by show 0 < 7; decide) hat hoq (fun j i hl hn => ?_), h.2⟩
  match j, i, hl, hn with
  | 0, 0, hl, hn => exact absurd ⟨rfl, rfl⟩ hn
  | 0, 1, hl, hn => rfl
  | 0, 2, hl, hn => rfl
  | 0, 3, hl, hn => rfl
  | 0, 4, hl, hn => rfl
  | 0, 5, hl, hn => rfl
  | 0, i + 6, hl, hn => rfl
  | 1, i, hl, hn => rfl
  | 2, i, hl, hn => rfl
  | 3, i, hl, hn => rfl
  | j + 4, i, hl, hn => rfl
theorem cw.setA {f : Nat → Int32} (a : Nat) (ha : a < 3) (h : cw g A la (sc, sw, ar, fd, tr, ld, n) H) (hat : mAt g (la.1 0 (4 + a)) (.inl (g.2.1 0, 4, .inl f)) H1) (hoq : ∀ q, q < H.size → q ≠ la.1 0 (4 + a) → H1[q]? = H[q]?) : cw g A la (sc, sw, va_up ar a f, fd, tr, ld, n) H1 := by
  match a, ha with
  | 0, _ =>
    refine ⟨h.1.put 0 4 (by show 4 < 7; decide) hat hoq (fun j i hl hn => ?_), h.2⟩
    match j, i, hl, hn with
    | 0, 0, hl, hn => rfl
    | 0, 1, hl, hn => rfl
    | 0, 2, hl, hn => rfl
    | 0, 3, hl, hn => rfl
    | 0, 4, hl, hn => exact absurd ⟨rfl, rfl⟩ hn
    | 0, 5, hl, hn => rfl
    | 0, i + 6, hl, hn => rfl
    | 1, i, hl, hn => rfl
    | 2, i, hl, hn => rfl
    | 3, i, hl, hn => rfl
    | j + 4, i, hl, hn => rfl
  | 1, _ =>
    refine ⟨h.1.put 0 5 (by show 5 < 7; decide) hat hoq (fun j i hl hn => ?_), h.2⟩
    match j, i, hl, hn with
    | 0, 0, hl, hn => rfl
    | 0, 1, hl, hn => rfl
    | 0, 2, hl, hn => rfl
    | 0, 3, hl, hn => rfl
    | 0, 4, hl, hn => rfl
    | 0, 5, hl, hn => exact absurd ⟨rfl, rfl⟩ hn
    | 0, i + 6, hl, hn => rfl
    | 1, i, hl, hn => rfl
    | 2, i, hl, hn => rfl
    | 3, i, hl, hn => rfl
    | j + 4, i, hl, hn => rfl
  | 2, _ =>
    refine ⟨h.1.put 0 6 (by show 6 < 7; decide) hat hoq (fun j i hl hn => ?_), h.2⟩
    match j, i, hl, hn with
    | 0, 0, hl, hn => rfl
    | 0, 1, hl, hn => rfl
    | 0, 2, hl, hn => rfl
    | 0, 3, hl, hn => rfl
    | 0, 4, hl, hn => rfl
    | 0, 5, hl, hn => rfl
    | 0, i + 6, hl, hn =>
      have : i = 0 := by have h9 : i + 6 < 7 := hl; omega
      exact absurd ⟨rfl, by omega⟩ hn
    | 1, i, hl, hn => rfl
    | 2, i, hl, hn => rfl
    | 3, i, hl, hn => rfl
    | j + 4, i, hl, hn => rfl
theorem cw.setF (h : cw g A la (sc, sw, ar, fd, tr, ld, n) H) (hi : i < n 0) (hat : mAt g (la.1 2 i) (.inr (5, eF o)) H1) (hoq : ∀ q, q < H.size → q ≠ la.1 2 i → H1[q]? = H[q]?) : cw g A la (sc, sw, ar, va_up fd i o, tr, ld, n) H1 := by
  refine ⟨h.1.put 2 i hi (by show mAt g _ (.inr (5, eF (va_up fd i o i))) H1; rw [va_up_self]; exact hat) hoq (fun j i' hl hn => ?_), h.2⟩
  match j, i', hl, hn with
  | 0, i', hl, hn => rfl
  | 1, i', hl, hn => rfl
  | 2, i', hl, hn =>
    show (.inr (5, eF (va_up fd i o i')) : va_E) = .inr (5, eF (fd i'))
    rw [va_up_ne fd o (fun z => hn ⟨rfl, z⟩)]
  | 3, i', hl, hn => rfl
  | j + 4, i', hl, hn => rfl
theorem cw.setT (h : cw g A la (sc, sw, ar, fd, tr, ld, n) H) (hi : i < n 1) (hat : mAt g (la.1 3 i) (.inr (7, eT o)) H1) (hoq : ∀ q, q < H.size → q ≠ la.1 3 i → H1[q]? = H[q]?) : cw g A la (sc, sw, ar, fd, va_up tr i o, ld, n) H1 := by
  refine ⟨h.1.put 3 i hi (by show mAt g _ (.inr (7, eT (va_up tr i o i))) H1; rw [va_up_self]; exact hat) hoq (fun j i' hl hn => ?_), h.2⟩
  match j, i', hl, hn with
  | 0, i', hl, hn => rfl
  | 1, i', hl, hn => rfl
  | 2, i', hl, hn => rfl
  | 3, i', hl, hn =>
    show (.inr (7, eT (va_up tr i o i')) : va_E) = .inr (7, eT (tr i'))
    rw [va_up_ne tr o (fun z => hn ⟨rfl, z⟩)]
  | j + 4, i', hl, hn => rfl
theorem cw.setL (h : cw g A la (sc, sw, ar, fd, tr, ld, n) H) (hi : i < n 2) (hat : mAt g (la.1 4 i) (.inr (9, eL o)) H1) (hoq : ∀ q, q < H.size → q ≠ la.1 4 i → H1[q]? = H[q]?) : cw g A la (sc, sw, ar, fd, tr, va_up ld i o, n) H1 := by
  refine ⟨h.1.put 4 i hi (by show mAt g _ (.inr (9, eL (va_up ld i o i))) H1; rw [va_up_self]; exact hat) hoq (fun j i' hl hn => ?_), h.2⟩
  match j, i', hl, hn with
  | 0, i', hl, hn => rfl
  | 1, i', hl, hn => rfl
  | 2, i', hl, hn => rfl
  | 3, i', hl, hn => rfl
  | 4, i', hl, hn =>
    show (.inr (9, eL (va_up ld i o i')) : va_E) = .inr (9, eL (ld i'))
    rw [va_up_ne ld o (fun z => hn ⟨rfl, z⟩)]
  | j + 5, i', hl, hn => exact absurd hl (fun z => z)
theorem up_up {α : Type} (f : Nat → α) (k : Nat) (x y : α) : va_up (va_up f k x) k y = va_up f k y := by
  funext j
  unfold va_up
  by_cases h : j = k
  · rw [if_pos h, if_pos h]
  · rw [if_neg h, if_neg h, if_neg h]
theorem cw.setF2 {o2 : Nat → Int32} (h : cw g A la (sc, sw, ar, va_up fd i o2, tr, ld, n) H) (hi : i < n 0) (hat : mAt g (la.1 2 i) (.inr (5, eF o)) H1) (hoq : ∀ q, q < H.size → q ≠ la.1 2 i → H1[q]? = H[q]?) : cw g A la (sc, sw, ar, va_up fd i o, tr, ld, n) H1 := by
  have h9 := h.setF hi hat hoq
  rw [up_up] at h9
  exact h9
theorem cw.setT2 {o2 : Nat → Int32} (h : cw g A la (sc, sw, ar, fd, va_up tr i o2, ld, n) H) (hi : i < n 1) (hat : mAt g (la.1 3 i) (.inr (7, eT o)) H1) (hoq : ∀ q, q < H.size → q ≠ la.1 3 i → H1[q]? = H[q]?) : cw g A la (sc, sw, ar, fd, va_up tr i o, ld, n) H1 := by
  have h9 := h.setT hi hat hoq
  rw [up_up] at h9
  exact h9
theorem cw.setL2 {o2 : Nat → Int32} (h : cw g A la (sc, sw, ar, fd, tr, va_up ld i o2, n) H) (hi : i < n 2) (hat : mAt g (la.1 4 i) (.inr (9, eL o)) H1) (hoq : ∀ q, q < H.size → q ≠ la.1 4 i → H1[q]? = H[q]?) : cw g A la (sc, sw, ar, fd, tr, va_up ld i o, n) H1 := by
  have h9 := h.setL hi hat hoq
  rw [up_up] at h9
  exact h9
theorem cw.setA2 {f f2 : Nat → Int32} (a : Nat) (ha : a < 3) (h : cw g A la (sc, sw, va_up ar a f2, fd, tr, ld, n) H) (hat : mAt g (la.1 0 (4 + a)) (.inl (g.2.1 0, 4, .inl f)) H1) (hoq : ∀ q, q < H.size → q ≠ la.1 0 (4 + a) → H1[q]? = H[q]?) : cw g A la (sc, sw, va_up ar a f, fd, tr, ld, n) H1 := by
  have h9 := cw.setA a ha h hat hoq
  rw [up_up] at h9
  exact h9
/-- the list's array, as get asks for it -/
theorem cw.get (h : cw g A la (sc, sw, ar, fd, tr, ld, n) H) (hk : k < 3) (hi : i < n k) : mAt g (la.1 1 k) (.inl (g.2.1 2, la.2.1 k, rfs (elF la.1 n k))) H ∧ n k ≤ la.2.1 k ∧ la.2.1 k < 2 ^ 31 ∧ elF la.1 n k i = some (la.1 (2 + k) i) := by
  obtain ⟨h1, h2, h3⟩ := h.2 k hk
  have h1' : n k ≤ la.2.1 k := h1
  exact ⟨h.ed hk (by omega), h1, by omega, if_pos hi⟩
end CW
