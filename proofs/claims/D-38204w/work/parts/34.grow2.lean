/-! WHAT add ASKS of the component's works -/
set_option maxRecDepth 100000
theorem mEl_F {g : GT} {v : Nat} {vs : List Value} {H : Heap} (h : mAt g v (.inr (5, vs)) H) : mEl g v H := Or.inl ⟨5, vs, _, h, tfX5.2.1, q1526⟩
theorem mEl_T {g : GT} {v : Nat} {vs : List Value} {H : Heap} (h : mAt g v (.inr (7, vs)) H) : mEl g v H := Or.inl ⟨7, vs, _, h, tfX7.2.1, q1528⟩
theorem mEl_L {g : GT} {v : Nat} {vs : List Value} {H : Heap} (h : mAt g v (.inr (9, vs)) H) : mEl g v H := Or.inl ⟨9, vs, _, h, tfX9.2.1, q1530⟩
theorem cw.addP0 {g : GT} {A : Nat → Prop} {la : LT} {H : Heap} {sc : Nat → Int32} {sw : Int64} {ar fd tr ld : Nat → Nat → Int32} {n : Nat → Nat} (h : cw g A la (sc, sw, ar, fd, tr, ld, n) H) (hb : ∀ q, A q → bA g q) :
    bA g (la.1 0 1) ∧ (la.2.1 0 ≠ 0 → bA g (la.1 1 0) ∧ la.1 0 1 ≠ la.1 1 0) ∧ (la.2.1 0 = 0 → la.1 1 0 = g.2.2 1) ∧ n 0 ≤ la.2.1 0 ∧ la.2.1 0 < 2 ^ 24 ∧ (∀ i, n 0 ≤ i → elF la.1 n 0 i = none) ∧ (la.2.1 0 ≠ 0 → mAt g (la.1 1 0) (.inl (g.2.1 2, la.2.1 0, rfs (elF la.1 n 0))) H) ∧ mEls g (la.1 0 1) (elF la.1 n 0) H ∧ (∀ q, (fA (fun q => q = la.1 0 1 ∨ (la.2.1 0 ≠ 0 ∧ q = la.1 1 0)) H.size) q → cF la n q ∨ H.size ≤ q) ∧ 2 * la.2.1 0 ≤ 20 + 3 * n 0 := by
  obtain ⟨hc1, hc2, hc3, hc4⟩ := h.2 0 (by decide)
  refine ⟨hb _ (h.1.inA (j := 0) (i := 1) (by show 1 < 7; decide)), fun h0 => ⟨hb _ (h.1.inA (j := 1) (i := 0) ⟨by decide, h0⟩), h.1.ne (j := 0) (i := 1) (j' := 1) (i' := 0) (by show 1 < 7; decide) ⟨by decide, h0⟩ (by decide)⟩, hc3, hc1, hc2, fun i hi => if_neg (Nat.not_lt.mpr hi), fun h0 => h.ed (by decide) h0, fun i y hy => ?_, fun q hq => ?_, hc4⟩
  · unfold elF at hy
    by_cases hi : i < n 0
    · rw [if_pos hi] at hy
      cases hy
      exact ⟨mEl_F (h.f hi), h.1.ne (j := 2) (i := i) (j' := 0) (i' := 1) hi (by show 1 < 7; decide) (by omega)⟩
    · rw [if_neg hi] at hy
      cases hy
  · rcases hq with hq | hq
    · rcases hq with hq | ⟨h0, hq⟩
      · exact Or.inl ⟨0, 1, (by show 1 < 7; decide), hq⟩
      · exact Or.inl ⟨1, 0, ⟨by decide, h0⟩, hq⟩
    · exact Or.inr hq
theorem cw.addP1 {g : GT} {A : Nat → Prop} {la : LT} {H : Heap} {sc : Nat → Int32} {sw : Int64} {ar fd tr ld : Nat → Nat → Int32} {n : Nat → Nat} (h : cw g A la (sc, sw, ar, fd, tr, ld, n) H) (hb : ∀ q, A q → bA g q) :
    bA g (la.1 0 2) ∧ (la.2.1 1 ≠ 0 → bA g (la.1 1 1) ∧ la.1 0 2 ≠ la.1 1 1) ∧ (la.2.1 1 = 0 → la.1 1 1 = g.2.2 1) ∧ n 1 ≤ la.2.1 1 ∧ la.2.1 1 < 2 ^ 24 ∧ (∀ i, n 1 ≤ i → elF la.1 n 1 i = none) ∧ (la.2.1 1 ≠ 0 → mAt g (la.1 1 1) (.inl (g.2.1 2, la.2.1 1, rfs (elF la.1 n 1))) H) ∧ mEls g (la.1 0 2) (elF la.1 n 1) H ∧ (∀ q, (fA (fun q => q = la.1 0 2 ∨ (la.2.1 1 ≠ 0 ∧ q = la.1 1 1)) H.size) q → cF la n q ∨ H.size ≤ q) ∧ 2 * la.2.1 1 ≤ 20 + 3 * n 1 := by
  obtain ⟨hc1, hc2, hc3, hc4⟩ := h.2 1 (by decide)
  refine ⟨hb _ (h.1.inA (j := 0) (i := 2) (by show 2 < 7; decide)), fun h0 => ⟨hb _ (h.1.inA (j := 1) (i := 1) ⟨by decide, h0⟩), h.1.ne (j := 0) (i := 2) (j' := 1) (i' := 1) (by show 2 < 7; decide) ⟨by decide, h0⟩ (by decide)⟩, hc3, hc1, hc2, fun i hi => if_neg (Nat.not_lt.mpr hi), fun h0 => h.ed (by decide) h0, fun i y hy => ?_, fun q hq => ?_, hc4⟩
  · unfold elF at hy
    by_cases hi : i < n 1
    · rw [if_pos hi] at hy
      cases hy
      exact ⟨mEl_T (h.t hi), h.1.ne (j := 3) (i := i) (j' := 0) (i' := 2) hi (by show 2 < 7; decide) (by omega)⟩
    · rw [if_neg hi] at hy
      cases hy
  · rcases hq with hq | hq
    · rcases hq with hq | ⟨h0, hq⟩
      · exact Or.inl ⟨0, 2, (by show 2 < 7; decide), hq⟩
      · exact Or.inl ⟨1, 1, ⟨by decide, h0⟩, hq⟩
    · exact Or.inr hq
theorem cw.addP2 {g : GT} {A : Nat → Prop} {la : LT} {H : Heap} {sc : Nat → Int32} {sw : Int64} {ar fd tr ld : Nat → Nat → Int32} {n : Nat → Nat} (h : cw g A la (sc, sw, ar, fd, tr, ld, n) H) (hb : ∀ q, A q → bA g q) :
    bA g (la.1 0 3) ∧ (la.2.1 2 ≠ 0 → bA g (la.1 1 2) ∧ la.1 0 3 ≠ la.1 1 2) ∧ (la.2.1 2 = 0 → la.1 1 2 = g.2.2 1) ∧ n 2 ≤ la.2.1 2 ∧ la.2.1 2 < 2 ^ 24 ∧ (∀ i, n 2 ≤ i → elF la.1 n 2 i = none) ∧ (la.2.1 2 ≠ 0 → mAt g (la.1 1 2) (.inl (g.2.1 2, la.2.1 2, rfs (elF la.1 n 2))) H) ∧ mEls g (la.1 0 3) (elF la.1 n 2) H ∧ (∀ q, (fA (fun q => q = la.1 0 3 ∨ (la.2.1 2 ≠ 0 ∧ q = la.1 1 2)) H.size) q → cF la n q ∨ H.size ≤ q) ∧ 2 * la.2.1 2 ≤ 20 + 3 * n 2 := by
  obtain ⟨hc1, hc2, hc3, hc4⟩ := h.2 2 (by decide)
  refine ⟨hb _ (h.1.inA (j := 0) (i := 3) (by show 3 < 7; decide)), fun h0 => ⟨hb _ (h.1.inA (j := 1) (i := 2) ⟨by decide, h0⟩), h.1.ne (j := 0) (i := 3) (j' := 1) (i' := 2) (by show 3 < 7; decide) ⟨by decide, h0⟩ (by decide)⟩, hc3, hc1, hc2, fun i hi => if_neg (Nat.not_lt.mpr hi), fun h0 => h.ed (by decide) h0, fun i y hy => ?_, fun q hq => ?_, hc4⟩
  · unfold elF at hy
    by_cases hi : i < n 2
    · rw [if_pos hi] at hy
      cases hy
      exact ⟨mEl_L (h.l hi), h.1.ne (j := 4) (i := i) (j' := 0) (i' := 3) hi (by show 3 < 7; decide) (by omega)⟩
    · rw [if_neg hi] at hy
      cases hy
  · rcases hq with hq | hq
    · rcases hq with hq | ⟨h0, hq⟩
      · exact Or.inl ⟨0, 3, (by show 3 < 7; decide), hq⟩
      · exact Or.inl ⟨1, 2, ⟨by decide, h0⟩, hq⟩
    · exact Or.inr hq
theorem apF {P Q : Nat → Prop} {sz : Nat} (h1 : ∀ q, P q → q < sz) (h2 : ∀ q, Q q → sz ≤ q) : ∀ q q', P q → Q q' → q ≠ q' := fun q q' a b e => Nat.not_le.mpr (h1 q a) (by rw [e]; exact h2 q' b)
/-- counts -/
def nA (a b c : Nat) : Nat → Nat := fun k => match k with | 0 => a | 1 => b | 2 => c | _ => 0
theorem nA_0 (a b c : Nat) : va_up (nA a b c) 0 (nA a b c 0 + 1) = nA (a + 1) b c := by
  funext k
  unfold va_up
  match k with
  | 0 => rfl
  | 1 => rfl
  | 2 => rfl
  | k + 3 => exact if_neg (by omega)
theorem nA_1 (a b c : Nat) : va_up (nA a b c) 1 (nA a b c 1 + 1) = nA a (b + 1) c := by
  funext k
  unfold va_up
  match k with
  | 0 => rfl
  | 1 => rfl
  | 2 => rfl
  | k + 3 => exact if_neg (by omega)
theorem nA_2 (a b c : Nat) : va_up (nA a b c) 2 (nA a b c 2 + 1) = nA a b (c + 1) := by
  funext k
  unfold va_up
  match k with
  | 0 => rfl
  | 1 => rfl
  | 2 => rfl
  | k + 3 => exact if_neg (by omega)
/-- how the works begin -/
theorem cw_mk {g : GT} {A : Nat → Prop} {H : Heap} {a0 a1 a2 a3 a4 a5 a6 : Nat} {sc : Nat → Int32} {sw : Int64} {ar : Nat → Nat → Int32} {fd tr ld : Nat → Nat → Int32}
    (hw : mAt g a0 (.inr (1, eW (fun _ i => match i with | 0 => a0 | 1 => a1 | 2 => a2 | 3 => a3 | 4 => a4 | 5 => a5 | _ => a6) sc sw)) H) (h1 : mAt g a1 (.inr (2, [.int 0, .ref (g.2.2 1), .int 0])) H) (h2 : mAt g a2 (.inr (2, [.int 0, .ref (g.2.2 1), .int 0])) H) (h3 : mAt g a3 (.inr (2, [.int 0, .ref (g.2.2 1), .int 0])) H)
    (h4 : mAt g a4 (.inl (g.2.1 0, 4, .inl (ar 0))) H) (h5 : mAt g a5 (.inl (g.2.1 0, 4, .inl (ar 1))) H) (h6 : mAt g a6 (.inl (g.2.1 0, 4, .inl (ar 2))) H)
    (hA : A a0 ∧ A a1 ∧ A a2 ∧ A a3 ∧ A a4 ∧ A a5 ∧ A a6) (hlt : a0 < a1 ∧ a1 < a2 ∧ a2 < a3 ∧ a3 < a4 ∧ a4 < a5 ∧ a5 < a6) :
    cw g A ((fun j i => match j with | 0 => (match i with | 0 => a0 | 1 => a1 | 2 => a2 | 3 => a3 | 4 => a4 | 5 => a5 | _ => a6) | _ => g.2.2 1), fun _ => 0, fun _ => 0) (sc, sw, ar, fd, tr, ld, fun _ => 0) H := by
  obtain ⟨A0, A1, A2, A3, A4, A5, A6⟩ := hA
  have hj : ∀ j i, cLv ((fun j i => match j with | 0 => (match i with | 0 => a0 | 1 => a1 | 2 => a2 | 3 => a3 | 4 => a4 | 5 => a5 | _ => a6) | _ => g.2.2 1), fun _ => 0, fun _ => 0) (fun _ => 0) j i → j = 0 ∧ i < 7 := by
    intro j i h
    match j, h with
    | 0, h => exact ⟨rfl, h⟩
    | 1, h => exact absurd rfl h.2
    | 2, h => exact absurd h (Nat.not_lt_zero _)
    | 3, h => exact absurd h (Nat.not_lt_zero _)
    | 4, h => exact absurd h (Nat.not_lt_zero _)
    | j + 5, h => exact absurd h (fun z => z)
  refine ⟨⟨fun j i h => ?_, fun j i j' i' h h' e => ?_⟩, fun k hk => ⟨Nat.le_refl _, by show 0 < 2 ^ 24; decide, fun _ => rfl, Nat.zero_le _⟩⟩
  · obtain ⟨rfl, hi⟩ := hj j i h
    match i, hi with
    | 0, _ => exact ⟨hw, A0⟩
    | 1, _ => exact ⟨h1, A1⟩
    | 2, _ => exact ⟨h2, A2⟩
    | 3, _ => exact ⟨h3, A3⟩
    | 4, _ => exact ⟨h4, A4⟩
    | 5, _ => exact ⟨h5, A5⟩
    | 6, _ => exact ⟨h6, A6⟩
    | i + 7, hi => omega
  · obtain ⟨rfl, hi⟩ := hj j i h
    obtain ⟨rfl, hi'⟩ := hj j' i' h'
    refine ⟨rfl, ?_⟩
    match i, hi, i', hi', e with
    | 0, _, 0, _, e => rfl
    | 0, _, 1, _, e => have e : a0 = a1 := e; omega
    | 0, _, 2, _, e => have e : a0 = a2 := e; omega
    | 0, _, 3, _, e => have e : a0 = a3 := e; omega
    | 0, _, 4, _, e => have e : a0 = a4 := e; omega
    | 0, _, 5, _, e => have e : a0 = a5 := e; omega
    | 0, _, 6, _, e => have e : a0 = a6 := e; omega
    | 1, _, 0, _, e => have e : a1 = a0 := e; omega
    | 1, _, 1, _, e => rfl
    | 1, _, 2, _, e => have e : a1 = a2 := e; omega
    | 1, _, 3, _, e => have e : a1 = a3 := e; omega
    | 1, _, 4, _, e => have e : a1 = a4 := e; omega
    | 1, _, 5, _, e => have e : a1 = a5 := e; omega
    | 1, _, 6, _, e => have e : a1 = a6 := e; omega
    | 2, _, 0, _, e => have e : a2 = a0 := e; omega
    | 2, _, 1, _, e => have e : a2 = a1 := e; omega
    | 2, _, 2, _, e => rfl
    | 2, _, 3, _, e => have e : a2 = a3 := e; omega
    | 2, _, 4, _, e => have e : a2 = a4 := e; omega
    | 2, _, 5, _, e => have e : a2 = a5 := e; omega
    | 2, _, 6, _, e => have e : a2 = a6 := e; omega
    | 3, _, 0, _, e => have e : a3 = a0 := e; omega
    | 3, _, 1, _, e => have e : a3 = a1 := e; omega
    | 3, _, 2, _, e => have e : a3 = a2 := e; omega
    | 3, _, 3, _, e => rfl
    | 3, _, 4, _, e => have e : a3 = a4 := e; omega
    | 3, _, 5, _, e => have e : a3 = a5 := e; omega
    | 3, _, 6, _, e => have e : a3 = a6 := e; omega
    | 4, _, 0, _, e => have e : a4 = a0 := e; omega
    | 4, _, 1, _, e => have e : a4 = a1 := e; omega
    | 4, _, 2, _, e => have e : a4 = a2 := e; omega
    | 4, _, 3, _, e => have e : a4 = a3 := e; omega
    | 4, _, 4, _, e => rfl
    | 4, _, 5, _, e => have e : a4 = a5 := e; omega
    | 4, _, 6, _, e => have e : a4 = a6 := e; omega
    | 5, _, 0, _, e => have e : a5 = a0 := e; omega
    | 5, _, 1, _, e => have e : a5 = a1 := e; omega
    | 5, _, 2, _, e => have e : a5 = a2 := e; omega
    | 5, _, 3, _, e => have e : a5 = a3 := e; omega
    | 5, _, 4, _, e => have e : a5 = a4 := e; omega
    | 5, _, 5, _, e => rfl
    | 5, _, 6, _, e => have e : a5 = a6 := e; omega
    | 6, _, 0, _, e => have e : a6 = a0 := e; omega
    | 6, _, 1, _, e => have e : a6 = a1 := e; omega
    | 6, _, 2, _, e => have e : a6 = a2 := e; omega
    | 6, _, 3, _, e => have e : a6 = a3 := e; omega
    | 6, _, 4, _, e => have e : a6 = a4 := e; omega
    | 6, _, 5, _, e => have e : a6 = a5 := e; omega
    | 6, _, 6, _, e => rfl
    | i + 7, hi, _, _, _ => omega
    | 0, _, i' + 7, hi', _ => omega
    | 1, _, i' + 7, hi', _ => omega
    | 2, _, i' + 7, hi', _ => omega
    | 3, _, i' + 7, hi', _ => omega
    | 4, _, i' + 7, hi', _ => omega
    | 5, _, i' + 7, hi', _ => omega
    | 6, _, i' + 7, hi', _ => omega
/-- the first elements, copied -/
def cpF (f : Nat → Nat → Int32) : Nat → Nat → Nat → Int32
  | 0 => fun _ _ => 0
  | i + 1 => va_up (cpF f i) i (ob11 (f i 0) (f i 1) (f i 2) (f i 3) (f i 4) (f i 5) (f i 6) (f i 7) (f i 8) (f i 9) (f i 10))
theorem cpF_at {f : Nat → Nat → Int32} : ∀ {N i : Nat}, i < N → ∀ q, q < 11 → cpF f N i q = f i q
  | 0, i, h, q, hq => absurd h (Nat.not_lt_zero _)
  | N + 1, i, h, q, hq => by
    show va_up (cpF f N) N _ i q = f i q
    by_cases h1 : i = N
    · subst h1
      rw [va_up_self]
      match q, hq with
      | 0, _ => rfl
      | 1, _ => rfl
      | 2, _ => rfl
      | 3, _ => rfl
      | 4, _ => rfl
      | 5, _ => rfl
      | 6, _ => rfl
      | 7, _ => rfl
      | 8, _ => rfl
      | 9, _ => rfl
      | 10, _ => rfl
      | q + 11, hq => omega
    · rw [va_up_ne _ _ h1]
      exact cpF_at (by omega) q hq
/-- the first elements, copied -/
def cpT (f : Nat → Nat → Int32) : Nat → Nat → Nat → Int32
  | 0 => fun _ _ => 0
  | i + 1 => va_up (cpT f i) i (ob4 (f i 0) (f i 1) (f i 2) (f i 3))
theorem cpT_at {f : Nat → Nat → Int32} : ∀ {N i : Nat}, i < N → ∀ q, q < 4 → cpT f N i q = f i q
  | 0, i, h, q, hq => absurd h (Nat.not_lt_zero _)
  | N + 1, i, h, q, hq => by
    show va_up (cpT f N) N _ i q = f i q
    by_cases h1 : i = N
    · subst h1
      rw [va_up_self]
      match q, hq with
      | 0, _ => rfl
      | 1, _ => rfl
      | 2, _ => rfl
      | 3, _ => rfl
      | q + 4, hq => omega
    · rw [va_up_ne _ _ h1]
      exact cpT_at (by omega) q hq
/-- the first elements, copied -/
def cpL (f : Nat → Nat → Int32) : Nat → Nat → Nat → Int32
  | 0 => fun _ _ => 0
  | i + 1 => va_up (cpL f i) i (ob9 (f i 0) (f i 1) (f_L_init_2 (f i 3)) (f i 3) (f i 4) (f i 5) (f i 6) (f i 7) (f i 8))
theorem cpL_at {f : Nat → Nat → Int32} : ∀ {N i : Nat}, i < N → (∀ i, i < N → f i 2 = f_L_init_2 (f i 3)) → ∀ q, q < 9 → cpL f N i q = f i q
  | 0, i, h, ht, q, hq => absurd h (Nat.not_lt_zero _)
  | N + 1, i, h, ht, q, hq => by
    show va_up (cpL f N) N _ i q = f i q
    by_cases h1 : i = N
    · subst h1
      rw [va_up_self]
      match q, hq with
      | 0, _ => rfl
      | 1, _ => rfl
      | 2, _ => exact (ht i (Nat.lt_succ_self _)).symm
      | 3, _ => rfl
      | 4, _ => rfl
      | 5, _ => rfl
      | 6, _ => rfl
      | 7, _ => rfl
      | 8, _ => rfl
      | q + 9, hq => omega
    · rw [va_up_ne _ _ h1]
      exact cpL_at (by omega) (fun i hi => ht i (by omega)) q hq
/-- only what stands below the counts matters -/
theorem cw.congr {g : GT} {A : Nat → Prop} {la : LT} {H : Heap} {sc sc' : Nat → Int32} {sw : Int64} {ar ar' fd fd' tr tr' ld ld' : Nat → Nat → Int32} {n n' : Nat → Nat} (h : cw g A la (sc, sw, ar, fd, tr, ld, n) H) (hsc : ∀ k, k < 15 → sc' k = sc k) (har : ∀ k, k < 3 → ar' k = ar k) (hn : ∀ k, k < 3 → n' k = n k)
    (hf : ∀ i, i < n 0 → ∀ q, q < 11 → fd' i q = fd i q) (ht : ∀ i, i < n 1 → ∀ q, q < 4 → tr' i q = tr i q) (hl : ∀ i, i < n 2 → ∀ q, q < 9 → ld' i q = ld i q) : cw g A la (sc', sw, ar', fd', tr', ld', n') H := by
  have e0 := hn 0 (by decide)
  have e1 := hn 1 (by decide)
  have e2 := hn 2 (by decide)
  have hlv : ∀ j i, cLv la n' j i → cLv la n j i := by
    intro j i h9
    match j, h9 with
    | 0, h9 => exact h9
    | 1, h9 => exact h9
    | 2, h9 => exact (e0 ▸ h9 : i < n 0)
    | 3, h9 => exact (e1 ▸ h9 : i < n 1)
    | 4, h9 => exact (e2 ▸ h9 : i < n 2)
    | j + 5, h9 => exact absurd h9 (fun z => z)
  refine ⟨⟨fun j i h9 => ⟨?_, (h.1.1 j i (hlv j i h9)).2⟩, fun j i j' i' a b => h.1.2 j i j' i' (hlv _ _ a) (hlv _ _ b)⟩, fun k hk => ?_⟩
  · have h8 := (h.1.1 j i (hlv j i h9)).1
    have h7 := hlv j i h9
    match j, i, h7, h8 with
    | 0, 0, h7, h8 =>
      show mAt g _ (.inr (1, eW la.1 sc' sw)) H
      unfold eW
      rw [hsc 0 (by decide), hsc 1 (by decide), hsc 2 (by decide), hsc 3 (by decide), hsc 4 (by decide), hsc 5 (by decide), hsc 6 (by decide), hsc 7 (by decide), hsc 8 (by decide), hsc 9 (by decide), hsc 10 (by decide), hsc 11 (by decide), hsc 12 (by decide), hsc 13 (by decide), hsc 14 (by decide)]
      exact h8
    | 0, 1, h7, h8 => show mAt g _ (.inr (2, [.int (la.2.2 0), .ref (la.1 1 0), .int (nI (n' 0))])) H; rw [e0]; exact h8
    | 0, 2, h7, h8 => show mAt g _ (.inr (2, [.int (la.2.2 1), .ref (la.1 1 1), .int (nI (n' 1))])) H; rw [e1]; exact h8
    | 0, 3, h7, h8 => show mAt g _ (.inr (2, [.int (la.2.2 2), .ref (la.1 1 2), .int (nI (n' 2))])) H; rw [e2]; exact h8
    | 0, 4, h7, h8 => show mAt g _ (.inl (g.2.1 0, 4, .inl (ar' 0))) H; rw [har 0 (by decide)]; exact h8
    | 0, 5, h7, h8 => show mAt g _ (.inl (g.2.1 0, 4, .inl (ar' 1))) H; rw [har 1 (by decide)]; exact h8
    | 0, i + 6, h7, h8 =>
      have : i = 0 := by have h6 : i + 6 < 7 := h7; omega
      subst this
      show mAt g _ (.inl (g.2.1 0, 4, .inl (ar' 2))) H; rw [har 2 (by decide)]; exact h8
    | 1, i, h7, h8 =>
      show mAt g _ (.inl (g.2.1 2, la.2.1 i, rfs (elF la.1 n' i))) H
      have h5 : elF la.1 n' i = elF la.1 n i := by unfold elF; rw [hn i h7.1]
      rw [h5]; exact h8
    | 2, i, h7, h8 =>
      show mAt g _ (.inr (5, eF (fd' i))) H
      unfold eF
      rw [hf i h7 0 (by decide), hf i h7 1 (by decide), hf i h7 2 (by decide), hf i h7 3 (by decide), hf i h7 4 (by decide), hf i h7 5 (by decide), hf i h7 6 (by decide), hf i h7 7 (by decide), hf i h7 8 (by decide), hf i h7 9 (by decide), hf i h7 10 (by decide)]
      exact h8
    | 3, i, h7, h8 =>
      show mAt g _ (.inr (7, eT (tr' i))) H
      unfold eT
      rw [ht i h7 0 (by decide), ht i h7 1 (by decide), ht i h7 2 (by decide), ht i h7 3 (by decide)]
      exact h8
    | 4, i, h7, h8 =>
      show mAt g _ (.inr (9, eL (ld' i))) H
      unfold eL
      rw [hl i h7 0 (by decide), hl i h7 1 (by decide), hl i h7 2 (by decide), hl i h7 3 (by decide), hl i h7 4 (by decide), hl i h7 5 (by decide), hl i h7 6 (by decide), hl i h7 7 (by decide), hl i h7 8 (by decide)]
      exact h8
    | j + 5, i, h7, h8 => exact absurd h7 (fun z => z)
  · obtain ⟨a, b, c, d⟩ := h.2 k hk
    have e := hn k hk
    exact ⟨by show n' k ≤ _; rw [e]; exact a, b, c, by show _ ≤ 20 + 3 * n' k; rw [e]; exact d⟩
