/-! A LIST GROWS: one more element of the component's works; and how the works begin -/
set_option maxRecDepth 100000
theorem newCap_le (n cap : Nat) (h : n ≤ cap) (h2 : 2 * cap ≤ 20 + 3 * n) : n + 1 ≤ newCap n cap ∧ 2 * newCap n cap ≤ 20 + 3 * (n + 1) ∧ (if n < cap then 0 else 1) + cap ≤ newCap n cap ∧ (if n < cap then 0 else newCap n cap) + 4 * cap ≤ 4 * newCap n cap ∧ newCap n cap ≠ 0 := by
  unfold newCap
  by_cases h1 : n < cap
  · rw [if_pos h1, if_pos h1, if_pos h1]; omega
  · rw [if_neg h1, if_neg h1, if_neg h1]
    by_cases h0 : cap = 0
    · rw [if_pos h0]; omega
    · rw [if_neg h0]; omega
/-- where it lies behind an add to list k: e the array, v the element -/
def adA (la : LT) (n : Nat → Nat) (k e v : Nat) : LT := (fun j i => if j = 1 ∧ i = k then e else if j = 2 + k ∧ i = n k then v else la.1 j i, va_up la.2.1 k (newCap (n k) (la.2.1 k)), va_up la.2.2 k (la.2.2 k + 1))
theorem adA_o {la : LT} {n : Nat → Nat} {k e v j i : Nat} (h1 : ¬ (j = 1 ∧ i = k)) (h2 : ¬ (j = 2 + k ∧ i = n k)) : (adA la n k e v).1 j i = la.1 j i := (if_neg h1).trans (if_neg h2)
theorem adA_e {la : LT} {n : Nat → Nat} {k e v : Nat} : (adA la n k e v).1 1 k = e := if_pos ⟨rfl, rfl⟩
theorem adA_v {la : LT} {n : Nat → Nat} {k e v : Nat} : (adA la n k e v).1 (2 + k) (n k) = v := (if_neg (by omega)).trans (if_pos ⟨rfl, rfl⟩)
theorem adA_0 {la : LT} {n : Nat → Nat} {k e v i : Nat} : (adA la n k e v).1 0 i = la.1 0 i := adA_o (by omega) (by omega)
theorem elF_add {la : LT} {n : Nat → Nat} {k e v : Nat} (j : Nat) : elF (adA la n k e v).1 (va_up n k (n k + 1)) j = if j = k then va_up (elF la.1 n k) (n k) (some v) else elF la.1 n j := by
  by_cases hj : j = k
  · subst hj
    rw [if_pos rfl]
    funext i
    unfold elF va_up
    rw [if_pos rfl]
    by_cases hi : i = n j
    · rw [if_pos hi, if_pos (by omega), hi, adA_v]
    · rw [if_neg hi]
      show _ = if i < n j then some (la.1 (2 + j) i) else none
      by_cases h : i < n j
      · rw [if_pos h, if_pos (by omega), adA_o (by omega) (by omega)]
      · rw [if_neg h, if_neg (by omega)]
  · rw [if_neg hj]
    funext i
    unfold elF
    rw [va_up_ne n _ hj]
    by_cases h : i < n j
    · rw [if_pos h, if_pos h, adA_o (by omega) (by omega)]
    · rw [if_neg h, if_neg h]
theorem cw.addF {g : GT} {A : Nat → Prop} {la : LT} {H H1 : Heap} {sc : Nat → Int32} {sw : Int64} {ar fd tr ld : Nat → Nat → Int32} {n : Nat → Nat} {e v : Nat} {c0 c1 c2 c3 c4 c5 c6 c7 c8 c9 c10 : Int32} (h : cw g A la (sc, sw, ar, fd, tr, ld, n) H) (hn : n 0 < 2 ^ 20) (hv : mAt g v (.inr (5, [.int c0, .int c1, .int c2, .int c3, .int c4, .int c5, .int c6, .int c7, .int c8, .int c9, .int c10])) H) (hva : ∀ q, cF la n q → q ≠ v)
    (he : if n 0 < la.2.1 0 then e = la.1 1 0 else H.size ≤ e) (hl : mAt g (la.1 0 1) (.inr (2, [.int (la.2.2 0 + 1), .ref e, .int (nI (n 0 + 1))])) H1) (hea : mAt g e (.inl (g.2.1 2, newCap (n 0) (la.2.1 0), rfs (va_up (elF la.1 n 0) (n 0) (some v)))) H1)
    (hk : ∀ q, q < H.size → ¬ (fA (fun q => q = la.1 0 1 ∨ (la.2.1 0 ≠ 0 ∧ q = la.1 1 0)) H.size) q → H1[q]? = H[q]?) : cw g (fun q => fA (cF la n) H.size q ∨ q = v) (adA la n 0 e v) (sc, sw, ar, va_up fd (n 0) (ob11 c0 c1 c2 c3 c4 c5 c6 c7 c8 c9 c10), tr, ld, va_up n 0 (n 0 + 1)) H1 := by
  obtain ⟨hc1, hc2, hc3, hc4⟩ := h.2 0 (by decide)
  have hc1 : n 0 ≤ la.2.1 0 := hc1
  have hc4 : 2 * la.2.1 0 ≤ 20 + 3 * n 0 := hc4
  obtain ⟨q1, q2, -, -, q3⟩ := newCap_le _ _ hc1 hc4
  have hnotA : ∀ j i, cLv la n j i → ¬ (j = 0 ∧ i = 1) → ¬ (j = 1 ∧ i = 0) → ¬ (fA (fun q => q = la.1 0 1 ∨ (la.2.1 0 ≠ 0 ∧ q = la.1 1 0)) H.size) (la.1 j i) := by
    intro j i hl0 a b hz
    rcases hz with hz | hz
    · rcases hz with hz | ⟨hz0, hz⟩
      · exact h.1.ne hl0 (j' := 0) (i' := 1) (by show 1 < 7; decide) a hz
      · exact h.1.ne hl0 (j' := 1) (i' := 0) ⟨by decide, hz0⟩ b hz
    · exact Nat.not_le.mpr (h.1.at hl0).lt hz
  have hold : ∀ j i, cLv la n j i → ¬ (j = 0 ∧ i = 1) → ¬ (j = 1 ∧ i = 0) → mAt g (la.1 j i) (cCt g la (sc, sw, ar, fd, tr, ld, n) j i) H1 := fun j i hl0 a b => (h.1.at hl0).kept (hk _ (h.1.at hl0).lt (hnotA j i hl0 a b))
  have hv1 : mAt g v (.inr (5, [.int c0, .int c1, .int c2, .int c3, .int c4, .int c5, .int c6, .int c7, .int c8, .int c9, .int c10])) H1 := hv.kept (hk _ hv.lt (fun hz => by
    rcases hz with hz | hz
    · rcases hz with hz | ⟨hz0, hz⟩
      · exact hva _ ⟨0, 1, (by show 1 < 7; decide), rfl⟩ hz.symm
      · exact hva _ ⟨1, 0, ⟨by decide, hz0⟩, rfl⟩ hz.symm
    · exact Nat.not_le.mpr hv.lt hz))
  have heA : fA (cF la n) H.size e := by
    by_cases h1 : n 0 < la.2.1 0
    · rw [if_pos h1] at he
      exact Or.inl ⟨1, 0, ⟨by decide, by omega⟩, he⟩
    · rw [if_neg h1] at he
      exact Or.inr he
  have hev : e ≠ v := by
    by_cases h1 : n 0 < la.2.1 0
    · rw [if_pos h1] at he
      rw [he]
      exact hva _ ⟨1, 0, ⟨by decide, by omega⟩, rfl⟩
    · rw [if_neg h1] at he
      exact fun z => Nat.not_le.mpr hv.lt (z ▸ he)
  have hnew : ∀ j i, cLv (adA la n 0 e v) (va_up n 0 (n 0 + 1)) j i → (j = 1 ∧ i = 0) ∨ (j = 2 ∧ i = n 0) ∨ (cLv la n j i ∧ ¬ (j = 1 ∧ i = 0) ∧ ¬ (j = 2 + 0 ∧ i = n 0)) := by
    intro j i hj
    by_cases h1 : j = 1 ∧ i = 0
    · exact Or.inl h1
    · by_cases h2 : j = 2 + 0 ∧ i = n 0
      · exact Or.inr (Or.inl ⟨h2.1, h2.2⟩)
      · refine Or.inr (Or.inr ⟨?_, h1, h2⟩)
        match j, hj, h1, h2 with
        | 0, hj, h1, h2 => exact hj
        | 1, hj, h1, h2 =>
          refine ⟨hj.1, ?_⟩
          have h3 : va_up la.2.1 0 (newCap (n 0) (la.2.1 0)) i ≠ 0 := hj.2
          rw [va_up_ne la.2.1 _ (fun z => h1 ⟨rfl, z⟩)] at h3
          exact h3
        | 2, hj, h1, h2 =>
          have h3 : i < va_up n 0 (n 0 + 1) 0 := hj
          rw [va_up_self] at h3
          have h4 : ¬ i = n 0 := fun z => h2 ⟨rfl, z⟩
          show i < n 0
          omega
        | 3, hj, h1, h2 =>
          have h3 : i < va_up n 0 (n 0 + 1) 1 := hj
          rw [va_up_ne n _ (by decide)] at h3
          exact h3
        | 4, hj, h1, h2 =>
          have h3 : i < va_up n 0 (n 0 + 1) 2 := hj
          rw [va_up_ne n _ (by decide)] at h3
          exact h3
        | j + 5, hj, h1, h2 => exact absurd hj (fun z => z)
  refine ⟨⟨fun j i hj => ?_, fun j i j' i' hj hj' => ?_⟩, fun j hj => ?_⟩
  · rcases hnew j i hj with ⟨rfl, rfl⟩ | ⟨rfl, rfl⟩ | ⟨h0, h1, h2⟩
    · refine ⟨?_, ?_⟩
      · show mAt g ((adA la n 0 e v).1 1 0) (.inl (g.2.1 2, va_up la.2.1 0 (newCap (n 0) (la.2.1 0)) 0, rfs (elF (adA la n 0 e v).1 (va_up n 0 (n 0 + 1)) 0))) H1
        rw [adA_e, va_up_self, elF_add, if_pos rfl]
        exact hea
      · rw [adA_e]; exact Or.inl heA
    · refine ⟨?_, ?_⟩
      · show mAt g ((adA la n 0 e v).1 (2 + 0) (n 0)) (.inr (5, eF (va_up fd (n 0) (ob11 c0 c1 c2 c3 c4 c5 c6 c7 c8 c9 c10) (n 0)))) H1
        rw [adA_v, va_up_self]
        exact hv1
      · exact Or.inr adA_v
    · refine ⟨?_, ?_⟩
      · rw [adA_o h1 h2]
        match j, i, h0, h1, h2 with
        | 0, 0, h0, h1, h2 =>
          have h9 := hold 0 0 h0 (by decide) h1
          show mAt g _ (.inr (1, eW (adA la n 0 e v).1 sc sw)) H1
          unfold eW
          rw [adA_0, adA_0, adA_0, adA_0, adA_0, adA_0]
          exact h9
        | 0, 1, h0, h1, h2 =>
          show mAt g _ (.inr (2, [.int (va_up la.2.2 0 (la.2.2 0 + 1) 0), .ref ((adA la n 0 e v).1 1 0), .int (nI (va_up n 0 (n 0 + 1) 0))])) H1
          rw [va_up_self, va_up_self, adA_e]
          exact hl
        | 0, 2, h0, h1, h2 =>
          have h9 := hold 0 2 h0 (by decide) h1
          show mAt g _ (.inr (2, [.int (va_up la.2.2 0 (la.2.2 0 + 1) 1), .ref ((adA la n 0 e v).1 1 1), .int (nI (va_up n 0 (n 0 + 1) 1))])) H1
          rw [va_up_ne la.2.2 _ (by decide), va_up_ne n _ (by decide), adA_o (by decide) (by omega)]
          exact h9
        | 0, 3, h0, h1, h2 =>
          have h9 := hold 0 3 h0 (by decide) h1
          show mAt g _ (.inr (2, [.int (va_up la.2.2 0 (la.2.2 0 + 1) 2), .ref ((adA la n 0 e v).1 1 2), .int (nI (va_up n 0 (n 0 + 1) 2))])) H1
          rw [va_up_ne la.2.2 _ (by decide), va_up_ne n _ (by decide), adA_o (by decide) (by omega)]
          exact h9
        | 0, 4, h0, h1, h2 => exact hold 0 4 h0 (by decide) h1
        | 0, 5, h0, h1, h2 => exact hold 0 5 h0 (by decide) h1
        | 0, i + 6, h0, h1, h2 => exact hold 0 (i + 6) h0 (by omega) h1
        | 1, i, h0, h1, h2 =>
          have h9 := hold 1 i h0 (by omega) h1
          have hik : ¬ i = 0 := fun z => h1 ⟨rfl, z⟩
          show mAt g _ (.inl (g.2.1 2, va_up la.2.1 0 (newCap (n 0) (la.2.1 0)) i, rfs (elF (adA la n 0 e v).1 (va_up n 0 (n 0 + 1)) i))) H1
          rw [va_up_ne la.2.1 _ hik, elF_add, if_neg hik]
          exact h9
        | 2, i, h0, h1, h2 =>
          have h9 := hold 2 i h0 (by omega) h1
          show mAt g _ (.inr (5, eF (va_up fd (n 0) (ob11 c0 c1 c2 c3 c4 c5 c6 c7 c8 c9 c10) i))) H1
          rw [va_up_ne fd _ (fun z => h2 ⟨rfl, z⟩)]
          exact h9
        | 3, i, h0, h1, h2 => exact hold 3 i h0 (by omega) h1
        | 4, i, h0, h1, h2 => exact hold 4 i h0 (by omega) h1
        | j + 5, i, h0, h1, h2 => exact absurd h0 (fun z => z)
      · rw [adA_o h1 h2]
        exact Or.inl (Or.inl ⟨j, i, h0, rfl⟩)
  · intro hE
    rcases hnew j i hj with ⟨rfl, rfl⟩ | ⟨rfl, rfl⟩ | ⟨h0, h1, h2⟩ <;> rcases hnew j' i' hj' with ⟨rfl, rfl⟩ | ⟨rfl, rfl⟩ | ⟨h0', h1', h2'⟩
    · exact ⟨rfl, rfl⟩
    · rw [adA_e, show (adA la n 0 e v).1 2 (n 0) = v from adA_v] at hE; exact absurd hE hev
    · rw [adA_e, adA_o h1' h2'] at hE
      by_cases h3 : n 0 < la.2.1 0
      · rw [if_pos h3] at he
        have := h.1.2 1 0 j' i' ⟨by decide, by omega⟩ h0' (he ▸ hE)
        exact absurd ⟨this.1.symm, this.2.symm⟩ h1'
      · rw [if_neg h3] at he
        exact absurd (h.1.at h0').lt (Nat.not_lt.mpr (hE ▸ he))
    · rw [adA_e, show (adA la n 0 e v).1 2 (n 0) = v from adA_v] at hE; exact absurd hE.symm hev
    · exact ⟨rfl, rfl⟩
    · rw [show (adA la n 0 e v).1 2 (n 0) = v from adA_v, adA_o h1' h2'] at hE
      exact absurd hE.symm (hva _ ⟨j', i', h0', rfl⟩)
    · rw [adA_e, adA_o h1 h2] at hE
      by_cases h3 : n 0 < la.2.1 0
      · rw [if_pos h3] at he
        have := h.1.2 1 0 j i ⟨by decide, by omega⟩ h0 (he ▸ hE.symm)
        exact absurd ⟨this.1.symm, this.2.symm⟩ h1
      · rw [if_neg h3] at he
        exact absurd (h.1.at h0).lt (Nat.not_lt.mpr (hE.symm ▸ he))
    · rw [show (adA la n 0 e v).1 2 (n 0) = v from adA_v, adA_o h1 h2] at hE
      exact absurd hE (hva _ ⟨j, i, h0, rfl⟩)
    · rw [adA_o h1 h2, adA_o h1' h2'] at hE
      exact h.1.2 j i j' i' h0 h0' hE
  · by_cases hjk : j = 0
    · subst hjk
      show va_up n 0 (n 0 + 1) 0 ≤ va_up la.2.1 0 (newCap (n 0) (la.2.1 0)) 0 ∧ va_up la.2.1 0 (newCap (n 0) (la.2.1 0)) 0 < 2 ^ 24 ∧ (va_up la.2.1 0 (newCap (n 0) (la.2.1 0)) 0 = 0 → _) ∧ 2 * va_up la.2.1 0 (newCap (n 0) (la.2.1 0)) 0 ≤ 20 + 3 * va_up n 0 (n 0 + 1) 0
      rw [va_up_self, va_up_self]
      exact ⟨q1, by omega, fun z => absurd z q3, q2⟩
    · have h9 := h.2 j hj
      show va_up n 0 (n 0 + 1) j ≤ va_up la.2.1 0 (newCap (n 0) (la.2.1 0)) j ∧ va_up la.2.1 0 (newCap (n 0) (la.2.1 0)) j < 2 ^ 24 ∧ (va_up la.2.1 0 (newCap (n 0) (la.2.1 0)) j = 0 → (adA la n 0 e v).1 1 j = _) ∧ 2 * va_up la.2.1 0 (newCap (n 0) (la.2.1 0)) j ≤ 20 + 3 * va_up n 0 (n 0 + 1) j
      rw [va_up_ne n _ hjk, va_up_ne la.2.1 _ hjk, adA_o (by omega) (by omega)]
      exact h9
theorem cw.addT {g : GT} {A : Nat → Prop} {la : LT} {H H1 : Heap} {sc : Nat → Int32} {sw : Int64} {ar fd tr ld : Nat → Nat → Int32} {n : Nat → Nat} {e v : Nat} {c0 c1 c2 c3 : Int32} (h : cw g A la (sc, sw, ar, fd, tr, ld, n) H) (hn : n 1 < 2 ^ 20) (hv : mAt g v (.inr (7, [.int c0, .int c1, .int c2, .int c3])) H) (hva : ∀ q, cF la n q → q ≠ v)
    (he : if n 1 < la.2.1 1 then e = la.1 1 1 else H.size ≤ e) (hl : mAt g (la.1 0 2) (.inr (2, [.int (la.2.2 1 + 1), .ref e, .int (nI (n 1 + 1))])) H1) (hea : mAt g e (.inl (g.2.1 2, newCap (n 1) (la.2.1 1), rfs (va_up (elF la.1 n 1) (n 1) (some v)))) H1)
    (hk : ∀ q, q < H.size → ¬ (fA (fun q => q = la.1 0 2 ∨ (la.2.1 1 ≠ 0 ∧ q = la.1 1 1)) H.size) q → H1[q]? = H[q]?) : cw g (fun q => fA (cF la n) H.size q ∨ q = v) (adA la n 1 e v) (sc, sw, ar, fd, va_up tr (n 1) (ob4 c0 c1 c2 c3), ld, va_up n 1 (n 1 + 1)) H1 := by
  obtain ⟨hc1, hc2, hc3, hc4⟩ := h.2 1 (by decide)
  have hc1 : n 1 ≤ la.2.1 1 := hc1
  have hc4 : 2 * la.2.1 1 ≤ 20 + 3 * n 1 := hc4
  obtain ⟨q1, q2, -, -, q3⟩ := newCap_le _ _ hc1 hc4
  have hnotA : ∀ j i, cLv la n j i → ¬ (j = 0 ∧ i = 2) → ¬ (j = 1 ∧ i = 1) → ¬ (fA (fun q => q = la.1 0 2 ∨ (la.2.1 1 ≠ 0 ∧ q = la.1 1 1)) H.size) (la.1 j i) := by
    intro j i hl0 a b hz
    rcases hz with hz | hz
    · rcases hz with hz | ⟨hz0, hz⟩
      · exact h.1.ne hl0 (j' := 0) (i' := 2) (by show 2 < 7; decide) a hz
      · exact h.1.ne hl0 (j' := 1) (i' := 1) ⟨by decide, hz0⟩ b hz
    · exact Nat.not_le.mpr (h.1.at hl0).lt hz
  have hold : ∀ j i, cLv la n j i → ¬ (j = 0 ∧ i = 2) → ¬ (j = 1 ∧ i = 1) → mAt g (la.1 j i) (cCt g la (sc, sw, ar, fd, tr, ld, n) j i) H1 := fun j i hl0 a b => (h.1.at hl0).kept (hk _ (h.1.at hl0).lt (hnotA j i hl0 a b))
  have hv1 : mAt g v (.inr (7, [.int c0, .int c1, .int c2, .int c3])) H1 := hv.kept (hk _ hv.lt (fun hz => by
    rcases hz with hz | hz
    · rcases hz with hz | ⟨hz0, hz⟩
      · exact hva _ ⟨0, 2, (by show 2 < 7; decide), rfl⟩ hz.symm
      · exact hva _ ⟨1, 1, ⟨by decide, hz0⟩, rfl⟩ hz.symm
    · exact Nat.not_le.mpr hv.lt hz))
  have heA : fA (cF la n) H.size e := by
    by_cases h1 : n 1 < la.2.1 1
    · rw [if_pos h1] at he
      exact Or.inl ⟨1, 1, ⟨by decide, by omega⟩, he⟩
    · rw [if_neg h1] at he
      exact Or.inr he
  have hev : e ≠ v := by
    by_cases h1 : n 1 < la.2.1 1
    · rw [if_pos h1] at he
      rw [he]
      exact hva _ ⟨1, 1, ⟨by decide, by omega⟩, rfl⟩
    · rw [if_neg h1] at he
      exact fun z => Nat.not_le.mpr hv.lt (z ▸ he)
  have hnew : ∀ j i, cLv (adA la n 1 e v) (va_up n 1 (n 1 + 1)) j i → (j = 1 ∧ i = 1) ∨ (j = 3 ∧ i = n 1) ∨ (cLv la n j i ∧ ¬ (j = 1 ∧ i = 1) ∧ ¬ (j = 2 + 1 ∧ i = n 1)) := by
    intro j i hj
    by_cases h1 : j = 1 ∧ i = 1
    · exact Or.inl h1
    · by_cases h2 : j = 2 + 1 ∧ i = n 1
      · exact Or.inr (Or.inl ⟨h2.1, h2.2⟩)
      · refine Or.inr (Or.inr ⟨?_, h1, h2⟩)
        match j, hj, h1, h2 with
        | 0, hj, h1, h2 => exact hj
        | 1, hj, h1, h2 =>
          refine ⟨hj.1, ?_⟩
          have h3 : va_up la.2.1 1 (newCap (n 1) (la.2.1 1)) i ≠ 0 := hj.2
          rw [va_up_ne la.2.1 _ (fun z => h1 ⟨rfl, z⟩)] at h3
          exact h3
        | 2, hj, h1, h2 =>
          have h3 : i < va_up n 1 (n 1 + 1) 0 := hj
          rw [va_up_ne n _ (by decide)] at h3
          exact h3
        | 3, hj, h1, h2 =>
          have h3 : i < va_up n 1 (n 1 + 1) 1 := hj
          rw [va_up_self] at h3
          have h4 : ¬ i = n 1 := fun z => h2 ⟨rfl, z⟩
          show i < n 1
          omega
        | 4, hj, h1, h2 =>
          have h3 : i < va_up n 1 (n 1 + 1) 2 := hj
          rw [va_up_ne n _ (by decide)] at h3
          exact h3
        | j + 5, hj, h1, h2 => exact absurd hj (fun z => z)
  refine ⟨⟨fun j i hj => ?_, fun j i j' i' hj hj' => ?_⟩, fun j hj => ?_⟩
  · rcases hnew j i hj with ⟨rfl, rfl⟩ | ⟨rfl, rfl⟩ | ⟨h0, h1, h2⟩
    · refine ⟨?_, ?_⟩
      · show mAt g ((adA la n 1 e v).1 1 1) (.inl (g.2.1 2, va_up la.2.1 1 (newCap (n 1) (la.2.1 1)) 1, rfs (elF (adA la n 1 e v).1 (va_up n 1 (n 1 + 1)) 1))) H1
        rw [adA_e, va_up_self, elF_add, if_pos rfl]
        exact hea
      · rw [adA_e]; exact Or.inl heA
    · refine ⟨?_, ?_⟩
      · show mAt g ((adA la n 1 e v).1 (2 + 1) (n 1)) (.inr (7, eT (va_up tr (n 1) (ob4 c0 c1 c2 c3) (n 1)))) H1
        rw [adA_v, va_up_self]
        exact hv1
      · exact Or.inr adA_v
    · refine ⟨?_, ?_⟩
      · rw [adA_o h1 h2]
        match j, i, h0, h1, h2 with
        | 0, 0, h0, h1, h2 =>
          have h9 := hold 0 0 h0 (by decide) h1
          show mAt g _ (.inr (1, eW (adA la n 1 e v).1 sc sw)) H1
          unfold eW
          rw [adA_0, adA_0, adA_0, adA_0, adA_0, adA_0]
          exact h9
        | 0, 1, h0, h1, h2 =>
          have h9 := hold 0 1 h0 (by decide) h1
          show mAt g _ (.inr (2, [.int (va_up la.2.2 1 (la.2.2 1 + 1) 0), .ref ((adA la n 1 e v).1 1 0), .int (nI (va_up n 1 (n 1 + 1) 0))])) H1
          rw [va_up_ne la.2.2 _ (by decide), va_up_ne n _ (by decide), adA_o (by decide) (by omega)]
          exact h9
        | 0, 2, h0, h1, h2 =>
          show mAt g _ (.inr (2, [.int (va_up la.2.2 1 (la.2.2 1 + 1) 1), .ref ((adA la n 1 e v).1 1 1), .int (nI (va_up n 1 (n 1 + 1) 1))])) H1
          rw [va_up_self, va_up_self, adA_e]
          exact hl
        | 0, 3, h0, h1, h2 =>
          have h9 := hold 0 3 h0 (by decide) h1
          show mAt g _ (.inr (2, [.int (va_up la.2.2 1 (la.2.2 1 + 1) 2), .ref ((adA la n 1 e v).1 1 2), .int (nI (va_up n 1 (n 1 + 1) 2))])) H1
          rw [va_up_ne la.2.2 _ (by decide), va_up_ne n _ (by decide), adA_o (by decide) (by omega)]
          exact h9
        | 0, 4, h0, h1, h2 => exact hold 0 4 h0 (by decide) h1
        | 0, 5, h0, h1, h2 => exact hold 0 5 h0 (by decide) h1
        | 0, i + 6, h0, h1, h2 => exact hold 0 (i + 6) h0 (by omega) h1
        | 1, i, h0, h1, h2 =>
          have h9 := hold 1 i h0 (by omega) h1
          have hik : ¬ i = 1 := fun z => h1 ⟨rfl, z⟩
          show mAt g _ (.inl (g.2.1 2, va_up la.2.1 1 (newCap (n 1) (la.2.1 1)) i, rfs (elF (adA la n 1 e v).1 (va_up n 1 (n 1 + 1)) i))) H1
          rw [va_up_ne la.2.1 _ hik, elF_add, if_neg hik]
          exact h9
        | 2, i, h0, h1, h2 => exact hold 2 i h0 (by omega) h1
        | 3, i, h0, h1, h2 =>
          have h9 := hold 3 i h0 (by omega) h1
          show mAt g _ (.inr (7, eT (va_up tr (n 1) (ob4 c0 c1 c2 c3) i))) H1
          rw [va_up_ne tr _ (fun z => h2 ⟨rfl, z⟩)]
          exact h9
        | 4, i, h0, h1, h2 => exact hold 4 i h0 (by omega) h1
        | j + 5, i, h0, h1, h2 => exact absurd h0 (fun z => z)
      · rw [adA_o h1 h2]
        exact Or.inl (Or.inl ⟨j, i, h0, rfl⟩)
  · intro hE
    rcases hnew j i hj with ⟨rfl, rfl⟩ | ⟨rfl, rfl⟩ | ⟨h0, h1, h2⟩ <;> rcases hnew j' i' hj' with ⟨rfl, rfl⟩ | ⟨rfl, rfl⟩ | ⟨h0', h1', h2'⟩
    · exact ⟨rfl, rfl⟩
    · rw [adA_e, show (adA la n 1 e v).1 3 (n 1) = v from adA_v] at hE; exact absurd hE hev
    · rw [adA_e, adA_o h1' h2'] at hE
      by_cases h3 : n 1 < la.2.1 1
      · rw [if_pos h3] at he
        have := h.1.2 1 1 j' i' ⟨by decide, by omega⟩ h0' (he ▸ hE)
        exact absurd ⟨this.1.symm, this.2.symm⟩ h1'
      · rw [if_neg h3] at he
        exact absurd (h.1.at h0').lt (Nat.not_lt.mpr (hE ▸ he))
    · rw [adA_e, show (adA la n 1 e v).1 3 (n 1) = v from adA_v] at hE; exact absurd hE.symm hev
    · exact ⟨rfl, rfl⟩
    · rw [show (adA la n 1 e v).1 3 (n 1) = v from adA_v, adA_o h1' h2'] at hE
      exact absurd hE.symm (hva _ ⟨j', i', h0', rfl⟩)
    · rw [adA_e, adA_o h1 h2] at hE
      by_cases h3 : n 1 < la.2.1 1
      · rw [if_pos h3] at he
        have := h.1.2 1 1 j i ⟨by decide, by omega⟩ h0 (he ▸ hE.symm)
        exact absurd ⟨this.1.symm, this.2.symm⟩ h1
      · rw [if_neg h3] at he
        exact absurd (h.1.at h0).lt (Nat.not_lt.mpr (hE.symm ▸ he))
    · rw [show (adA la n 1 e v).1 3 (n 1) = v from adA_v, adA_o h1 h2] at hE
      exact absurd hE (hva _ ⟨j, i, h0, rfl⟩)
    · rw [adA_o h1 h2, adA_o h1' h2'] at hE
      exact h.1.2 j i j' i' h0 h0' hE
  · by_cases hjk : j = 1
    · subst hjk
      show va_up n 1 (n 1 + 1) 1 ≤ va_up la.2.1 1 (newCap (n 1) (la.2.1 1)) 1 ∧ va_up la.2.1 1 (newCap (n 1) (la.2.1 1)) 1 < 2 ^ 24 ∧ (va_up la.2.1 1 (newCap (n 1) (la.2.1 1)) 1 = 0 → _) ∧ 2 * va_up la.2.1 1 (newCap (n 1) (la.2.1 1)) 1 ≤ 20 + 3 * va_up n 1 (n 1 + 1) 1
      rw [va_up_self, va_up_self]
      exact ⟨q1, by omega, fun z => absurd z q3, q2⟩
    · have h9 := h.2 j hj
      show va_up n 1 (n 1 + 1) j ≤ va_up la.2.1 1 (newCap (n 1) (la.2.1 1)) j ∧ va_up la.2.1 1 (newCap (n 1) (la.2.1 1)) j < 2 ^ 24 ∧ (va_up la.2.1 1 (newCap (n 1) (la.2.1 1)) j = 0 → (adA la n 1 e v).1 1 j = _) ∧ 2 * va_up la.2.1 1 (newCap (n 1) (la.2.1 1)) j ≤ 20 + 3 * va_up n 1 (n 1 + 1) j
      rw [va_up_ne n _ hjk, va_up_ne la.2.1 _ hjk, adA_o (by omega) (by omega)]
      exact h9
theorem cw.addL {g : GT} {A : Nat → Prop} {la : LT} {H H1 : Heap} {sc : Nat → Int32} {sw : Int64} {ar fd tr ld : Nat → Nat → Int32} {n : Nat → Nat} {e v : Nat} {c0 c1 c2 c3 c4 c5 c6 c7 c8 : Int32} (h : cw g A la (sc, sw, ar, fd, tr, ld, n) H) (hn : n 2 < 2 ^ 20) (hv : mAt g v (.inr (9, [.int c0, .int c1, .int c2, .int c3, .int c4, .int c5, .int c6, .int c7, .int c8])) H) (hva : ∀ q, cF la n q → q ≠ v)
    (he : if n 2 < la.2.1 2 then e = la.1 1 2 else H.size ≤ e) (hl : mAt g (la.1 0 3) (.inr (2, [.int (la.2.2 2 + 1), .ref e, .int (nI (n 2 + 1))])) H1) (hea : mAt g e (.inl (g.2.1 2, newCap (n 2) (la.2.1 2), rfs (va_up (elF la.1 n 2) (n 2) (some v)))) H1)
    (hk : ∀ q, q < H.size → ¬ (fA (fun q => q = la.1 0 3 ∨ (la.2.1 2 ≠ 0 ∧ q = la.1 1 2)) H.size) q → H1[q]? = H[q]?) : cw g (fun q => fA (cF la n) H.size q ∨ q = v) (adA la n 2 e v) (sc, sw, ar, fd, tr, va_up ld (n 2) (ob9 c0 c1 c2 c3 c4 c5 c6 c7 c8), va_up n 2 (n 2 + 1)) H1 := by
  obtain ⟨hc1, hc2, hc3, hc4⟩ := h.2 2 (by decide)
  have hc1 : n 2 ≤ la.2.1 2 := hc1
  have hc4 : 2 * la.2.1 2 ≤ 20 + 3 * n 2 := hc4
  obtain ⟨q1, q2, -, -, q3⟩ := newCap_le _ _ hc1 hc4
  have hnotA : ∀ j i, cLv la n j i → ¬ (j = 0 ∧ i = 3) → ¬ (j = 1 ∧ i = 2) → ¬ (fA (fun q => q = la.1 0 3 ∨ (la.2.1 2 ≠ 0 ∧ q = la.1 1 2)) H.size) (la.1 j i) := by
    intro j i hl0 a b hz
    rcases hz with hz | hz
    · rcases hz with hz | ⟨hz0, hz⟩
      · exact h.1.ne hl0 (j' := 0) (i' := 3) (by show 3 < 7; decide) a hz
      · exact h.1.ne hl0 (j' := 1) (i' := 2) ⟨by decide, hz0⟩ b hz
    · exact Nat.not_le.mpr (h.1.at hl0).lt hz
  have hold : ∀ j i, cLv la n j i → ¬ (j = 0 ∧ i = 3) → ¬ (j = 1 ∧ i = 2) → mAt g (la.1 j i) (cCt g la (sc, sw, ar, fd, tr, ld, n) j i) H1 := fun j i hl0 a b => (h.1.at hl0).kept (hk _ (h.1.at hl0).lt (hnotA j i hl0 a b))
  have hv1 : mAt g v (.inr (9, [.int c0, .int c1, .int c2, .int c3, .int c4, .int c5, .int c6, .int c7, .int c8])) H1 := hv.kept (hk _ hv.lt (fun hz => by
    rcases hz with hz | hz
    · rcases hz with hz | ⟨hz0, hz⟩
      · exact hva _ ⟨0, 3, (by show 3 < 7; decide), rfl⟩ hz.symm
      · exact hva _ ⟨1, 2, ⟨by decide, hz0⟩, rfl⟩ hz.symm
    · exact Nat.not_le.mpr hv.lt hz))
  have heA : fA (cF la n) H.size e := by
    by_cases h1 : n 2 < la.2.1 2
    · rw [if_pos h1] at he
      exact Or.inl ⟨1, 2, ⟨by decide, by omega⟩, he⟩
    · rw [if_neg h1] at he
      exact Or.inr he
  have hev : e ≠ v := by
    by_cases h1 : n 2 < la.2.1 2
    · rw [if_pos h1] at he
      rw [he]
      exact hva _ ⟨1, 2, ⟨by decide, by omega⟩, rfl⟩
    · rw [if_neg h1] at he
      exact fun z => Nat.not_le.mpr hv.lt (z ▸ he)
  have hnew : ∀ j i, cLv (adA la n 2 e v) (va_up n 2 (n 2 + 1)) j i → (j = 1 ∧ i = 2) ∨ (j = 4 ∧ i = n 2) ∨ (cLv la n j i ∧ ¬ (j = 1 ∧ i = 2) ∧ ¬ (j = 2 + 2 ∧ i = n 2)) := by
    intro j i hj
    by_cases h1 : j = 1 ∧ i = 2
    · exact Or.inl h1
    · by_cases h2 : j = 2 + 2 ∧ i = n 2
      · exact Or.inr (Or.inl ⟨h2.1, h2.2⟩)
      · refine Or.inr (Or.inr ⟨?_, h1, h2⟩)
        match j, hj, h1, h2 with
        | 0, hj, h1, h2 => exact hj
        | 1, hj, h1, h2 =>
          refine ⟨hj.1, ?_⟩
          have h3 : va_up la.2.1 2 (newCap (n 2) (la.2.1 2)) i ≠ 0 := hj.2
          rw [va_up_ne la.2.1 _ (fun z => h1 ⟨rfl, z⟩)] at h3
          exact h3
        | 2, hj, h1, h2 =>
          have h3 : i < va_up n 2 (n 2 + 1) 0 := hj
          rw [va_up_ne n _ (by decide)] at h3
          exact h3
        | 3, hj, h1, h2 =>
          have h3 : i < va_up n 2 (n 2 + 1) 1 := hj
          rw [va_up_ne n _ (by decide)] at h3
          exact h3
        | 4, hj, h1, h2 =>
          have h3 : i < va_up n 2 (n 2 + 1) 2 := hj
          rw [va_up_self] at h3
          have h4 : ¬ i = n 2 := fun z => h2 ⟨rfl, z⟩
          show i < n 2
          omega
        | j + 5, hj, h1, h2 => exact absurd hj (fun z => z)
  refine ⟨⟨fun j i hj => ?_, fun j i j' i' hj hj' => ?_⟩, fun j hj => ?_⟩
  · rcases hnew j i hj with ⟨rfl, rfl⟩ | ⟨rfl, rfl⟩ | ⟨h0, h1, h2⟩
    · refine ⟨?_, ?_⟩
      · show mAt g ((adA la n 2 e v).1 1 2) (.inl (g.2.1 2, va_up la.2.1 2 (newCap (n 2) (la.2.1 2)) 2, rfs (elF (adA la n 2 e v).1 (va_up n 2 (n 2 + 1)) 2))) H1
        rw [adA_e, va_up_self, elF_add, if_pos rfl]
        exact hea
      · rw [adA_e]; exact Or.inl heA
    · refine ⟨?_, ?_⟩
      · show mAt g ((adA la n 2 e v).1 (2 + 2) (n 2)) (.inr (9, eL (va_up ld (n 2) (ob9 c0 c1 c2 c3 c4 c5 c6 c7 c8) (n 2)))) H1
        rw [adA_v, va_up_self]
        exact hv1
      · exact Or.inr adA_v
    · refine ⟨?_, ?_⟩
      · rw [adA_o h1 h2]
        match j, i, h0, h1, h2 with
        | 0, 0, h0, h1, h2 =>
          have h9 := hold 0 0 h0 (by decide) h1
          show mAt g _ (.inr (1, eW (adA la n 2 e v).1 sc sw)) H1
          unfold eW
          rw [adA_0, adA_0, adA_0, adA_0, adA_0, adA_0]
          exact h9
        | 0, 1, h0, h1, h2 =>
          have h9 := hold 0 1 h0 (by decide) h1
          show mAt g _ (.inr (2, [.int (va_up la.2.2 2 (la.2.2 2 + 1) 0), .ref ((adA la n 2 e v).1 1 0), .int (nI (va_up n 2 (n 2 + 1) 0))])) H1
          rw [va_up_ne la.2.2 _ (by decide), va_up_ne n _ (by decide), adA_o (by decide) (by omega)]
          exact h9
        | 0, 2, h0, h1, h2 =>
          have h9 := hold 0 2 h0 (by decide) h1
          show mAt g _ (.inr (2, [.int (va_up la.2.2 2 (la.2.2 2 + 1) 1), .ref ((adA la n 2 e v).1 1 1), .int (nI (va_up n 2 (n 2 + 1) 1))])) H1
          rw [va_up_ne la.2.2 _ (by decide), va_up_ne n _ (by decide), adA_o (by decide) (by omega)]
          exact h9
        | 0, 3, h0, h1, h2 =>
          show mAt g _ (.inr (2, [.int (va_up la.2.2 2 (la.2.2 2 + 1) 2), .ref ((adA la n 2 e v).1 1 2), .int (nI (va_up n 2 (n 2 + 1) 2))])) H1
          rw [va_up_self, va_up_self, adA_e]
          exact hl
        | 0, 4, h0, h1, h2 => exact hold 0 4 h0 (by decide) h1
        | 0, 5, h0, h1, h2 => exact hold 0 5 h0 (by decide) h1
        | 0, i + 6, h0, h1, h2 => exact hold 0 (i + 6) h0 (by omega) h1
        | 1, i, h0, h1, h2 =>
          have h9 := hold 1 i h0 (by omega) h1
          have hik : ¬ i = 2 := fun z => h1 ⟨rfl, z⟩
          show mAt g _ (.inl (g.2.1 2, va_up la.2.1 2 (newCap (n 2) (la.2.1 2)) i, rfs (elF (adA la n 2 e v).1 (va_up n 2 (n 2 + 1)) i))) H1
          rw [va_up_ne la.2.1 _ hik, elF_add, if_neg hik]
          exact h9
        | 2, i, h0, h1, h2 => exact hold 2 i h0 (by omega) h1
        | 3, i, h0, h1, h2 => exact hold 3 i h0 (by omega) h1
        | 4, i, h0, h1, h2 =>
          have h9 := hold 4 i h0 (by omega) h1
          show mAt g _ (.inr (9, eL (va_up ld (n 2) (ob9 c0 c1 c2 c3 c4 c5 c6 c7 c8) i))) H1
          rw [va_up_ne ld _ (fun z => h2 ⟨rfl, z⟩)]
          exact h9
        | j + 5, i, h0, h1, h2 => exact absurd h0 (fun z => z)
      · rw [adA_o h1 h2]
        exact Or.inl (Or.inl ⟨j, i, h0, rfl⟩)
  · intro hE
    rcases hnew j i hj with ⟨rfl, rfl⟩ | ⟨rfl, rfl⟩ | ⟨h0, h1, h2⟩ <;> rcases hnew j' i' hj' with ⟨rfl, rfl⟩ | ⟨rfl, rfl⟩ | ⟨h0', h1', h2'⟩
    · exact ⟨rfl, rfl⟩
    · rw [adA_e, show (adA la n 2 e v).1 4 (n 2) = v from adA_v] at hE; exact absurd hE hev
    · rw [adA_e, adA_o h1' h2'] at hE
      by_cases h3 : n 2 < la.2.1 2
      · rw [if_pos h3] at he
        have := h.1.2 1 2 j' i' ⟨by decide, by omega⟩ h0' (he ▸ hE)
        exact absurd ⟨this.1.symm, this.2.symm⟩ h1'
      · rw [if_neg h3] at he
        exact absurd (h.1.at h0').lt (Nat.not_lt.mpr (hE ▸ he))
    · rw [adA_e, show (adA la n 2 e v).1 4 (n 2) = v from adA_v] at hE; exact absurd hE.symm hev
    · exact ⟨rfl, rfl⟩
    · rw [show (adA la n 2 e v).1 4 (n 2) = v from adA_v, adA_o h1' h2'] at hE
      exact absurd hE.symm (hva _ ⟨j', i', h0', rfl⟩)
    · rw [adA_e, adA_o h1 h2] at hE
      by_cases h3 : n 2 < la.2.1 2
      · rw [if_pos h3] at he
        have := h.1.2 1 2 j i ⟨by decide, by omega⟩ h0 (he ▸ hE.symm)
        exact absurd ⟨this.1.symm, this.2.symm⟩ h1
      · rw [if_neg h3] at he
        exact absurd (h.1.at h0).lt (Nat.not_lt.mpr (hE.symm ▸ he))
    · rw [show (adA la n 2 e v).1 4 (n 2) = v from adA_v, adA_o h1 h2] at hE
      exact absurd hE (hva _ ⟨j, i, h0, rfl⟩)
    · rw [adA_o h1 h2, adA_o h1' h2'] at hE
      exact h.1.2 j i j' i' h0 h0' hE
  · by_cases hjk : j = 2
    · subst hjk
      show va_up n 2 (n 2 + 1) 2 ≤ va_up la.2.1 2 (newCap (n 2) (la.2.1 2)) 2 ∧ va_up la.2.1 2 (newCap (n 2) (la.2.1 2)) 2 < 2 ^ 24 ∧ (va_up la.2.1 2 (newCap (n 2) (la.2.1 2)) 2 = 0 → _) ∧ 2 * va_up la.2.1 2 (newCap (n 2) (la.2.1 2)) 2 ≤ 20 + 3 * va_up n 2 (n 2 + 1) 2
      rw [va_up_self, va_up_self]
      exact ⟨q1, by omega, fun z => absurd z q3, q2⟩
    · have h9 := h.2 j hj
      show va_up n 2 (n 2 + 1) j ≤ va_up la.2.1 2 (newCap (n 2) (la.2.1 2)) j ∧ va_up la.2.1 2 (newCap (n 2) (la.2.1 2)) j < 2 ^ 24 ∧ (va_up la.2.1 2 (newCap (n 2) (la.2.1 2)) j = 0 → (adA la n 2 e v).1 1 j = _) ∧ 2 * va_up la.2.1 2 (newCap (n 2) (la.2.1 2)) j ≤ 20 + 3 * va_up n 2 (n 2 + 1) j
      rw [va_up_ne n _ hjk, va_up_ne la.2.1 _ hjk, adA_o (by omega) (by omega)]
      exact h9
