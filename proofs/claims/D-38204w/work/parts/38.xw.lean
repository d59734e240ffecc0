/-! CANECRUSH's WORLD: the works, the object at ax, what has been paid at ap -/
set_option maxRecDepth 100000
abbrev eX (la : LT) (ap : Nat) (xi : Nat → Int32) (sm : Int64) : List Value := [.ref (la.1 0 0), .ref ap, .int (xi 0), .int (xi 1), .int (xi 2), .int (xi 3), .int (xi 4), .int (xi 5), .int (xi 6), .long sm]
def xF (ax ap : Nat) (la : LT) (n : Nat → Nat) : Nat → Prop := fun q => cF la n q ∨ q = ax ∨ q = ap
/-- xi: green, brown, molasses, crystal, spirit, slops, left; sm the checksum; pd what has been paid -/
def xw (g : GT) (A : Nat → Prop) (ax ap : Nat) (la : LT) (C : CT) (xi : Nat → Int32) (sm : Int64) (pd : Nat → Int32) (H : Heap) : Prop :=
  cw g A la C H ∧ mAt g ax (.inr (0, eX la ap xi sm)) H ∧ mAt g ap (.inl (g.2.1 0, 4, .inl pd)) H ∧ A ax ∧ A ap ∧ ax ≠ ap ∧ (∀ q, cF la C.2.2.2.2.2.2 q → q ≠ ax) ∧ ∀ q, cF la C.2.2.2.2.2.2 q → q ≠ ap
theorem xw.ft {g : GT} {A : Nat → Prop} {ax ap : Nat} {la : LT} {C : CT} {xi : Nat → Int32} {sm : Int64} {pd : Nat → Int32} {H : Heap} (h : xw g A ax ap la C xi sm pd H) : ∀ q, xF ax ap la C.2.2.2.2.2.2 q → A q := fun q hq => hq.elim (h.1.1.ft q) (fun hq => hq.elim (fun e => by rw [e]; exact h.2.2.2.1) (fun e => by rw [e]; exact h.2.2.2.2.1))
theorem xw.ftlt {g : GT} {A : Nat → Prop} {ax ap : Nat} {la : LT} {C : CT} {xi : Nat → Int32} {sm : Int64} {pd : Nat → Int32} {H : Heap} (h : xw g A ax ap la C xi sm pd H) : ∀ q, xF ax ap la C.2.2.2.2.2.2 q → q < H.size := fun q hq => hq.elim (h.1.1.ftlt q) (fun hq => hq.elim (fun e => by rw [e]; exact h.2.1.lt) (fun e => by rw [e]; exact h.2.2.1.lt))
theorem xw.weaken {g : GT} {A B : Nat → Prop} {ax ap : Nat} {la : LT} {C : CT} {xi : Nat → Int32} {sm : Int64} {pd : Nat → Int32} {H : Heap} (h : xw g A ax ap la C xi sm pd H) (hAB : ∀ q, A q → B q) : xw g B ax ap la C xi sm pd H := ⟨h.1.weaken hAB, h.2.1, h.2.2.1, hAB _ h.2.2.2.1, hAB _ h.2.2.2.2.1, h.2.2.2.2.2⟩
theorem xw.self {g : GT} {A : Nat → Prop} {ax ap : Nat} {la : LT} {C : CT} {xi : Nat → Int32} {sm : Int64} {pd : Nat → Int32} {H : Heap} (h : xw g A ax ap la C xi sm pd H) (sz : Nat) : xw g (fA (xF ax ap la C.2.2.2.2.2.2) sz) ax ap la C xi sm pd H :=
  ⟨(h.1.self sz).weaken (fun q hq => hq.elim (fun z => Or.inl (Or.inl z)) Or.inr), h.2.1, h.2.2.1, Or.inl (Or.inr (Or.inl rfl)), Or.inl (Or.inr (Or.inr rfl)), h.2.2.2.2.2⟩
theorem xw.kept {g : GT} {A : Nat → Prop} {ax ap : Nat} {la : LT} {C : CT} {xi : Nat → Int32} {sm : Int64} {pd : Nat → Int32} {H H1 : Heap} (h : xw g A ax ap la C xi sm pd H) (hq : ∀ q, q < H.size → xF ax ap la C.2.2.2.2.2.2 q → H1[q]? = H[q]?) : xw g A ax ap la C xi sm pd H1 :=
  ⟨h.1.kept (fun q h1 h2 => hq q h1 (Or.inl h2)), h.2.1.kept (hq _ h.2.1.lt (Or.inr (Or.inl rfl))), h.2.2.1.kept (hq _ h.2.2.1.lt (Or.inr (Or.inr rfl))), h.2.2.2⟩
/-- places are places, of a state -/
def cVS (n : CN) (S : CS) : Prop := cV n S.2.2.2.1 S.2.2.2.2.1 S.2.2.2.2.2
theorem cVS.drives {n : CN} {S : CS} (hn : cN n) (h : cVS n S) : ∀ k, k ≤ n 1 → cVS n (cDrives n S k)
  | 0, _ => h
  | k + 1, hk => by
    have h1 := cVS.drives hn h k (by omega)
    by_cases h0 : (cDrives n S k).2.2.2.2.1 k 0 = 0
    · rw [cDrives_0 rfl h0]; exact h1
    · rw [cDrives_1 rfl h0]
      exact cV.drive (sc := (cDrives n S k).1) (sw := (cDrives n S k).2.1) (ar := (cDrives n S k).2.2.1) hn h1 (by omega) h0
theorem cVS.pass {n : CN} {S : CS} {w r : Int32} (hn : cN n) (h : cVS n S) : cVS n (cPass n S w r).1 := by
  have h1 : cVS n (cDrives n (va_up S.1 0 (S.1 0 + 1), S.2) (n 1)) := cVS.drives (S := (va_up S.1 0 (S.1 0 + 1), S.2)) hn h _ (Nat.le_refl _)
  generalize hD : cDrives n (va_up S.1 0 (S.1 0 + 1), S.2) (n 1) = D at h1
  have h2 : cVS n (D.1, D.2.1, D.2.2.1, D.2.2.2.1, D.2.2.2.2.1, cSpoil D.2.2.2.2.2 w (n 2)) := cV.spoil h1 _
  have h3 : ∀ T t, cVS n T → cVS n (if T.1 0 - T.1 0 / 24 * 24 = 0 then (cEndDay n T w r, t) else ((T, t) : CS × Int32)).1 := by
    intro T t hT
    by_cases h9 : T.1 0 - T.1 0 / 24 * 24 = 0
    · rw [if_pos h9]; exact cV.fields hT
    · rw [if_neg h9]; exact hT
  by_cases c1 : D.1 2 = 1
  · by_cases c2 : D.1 3 - 1 = 0
    · rw [cPass_eq hD ((if_pos c1).trans (if_pos c2))]; exact h3 _ _ h2
    · rw [cPass_eq hD ((if_pos c1).trans (if_neg c2))]; exact h3 _ _ h2
  · by_cases c2 : D.1 2 = 2
    · rw [cPass_eq (T := (cCrushAll (n 2) (D.1, D.2.1, D.2.2.1, D.2.2.2.1, D.2.2.2.2.1, cSpoil D.2.2.2.2.2 w (n 2))).1) (t := (cCrushAll (n 2) (D.1, D.2.1, D.2.2.1, D.2.2.2.1, D.2.2.2.2.1, cSpoil D.2.2.2.2.2 w (n 2))).2) hD ((if_neg c1).trans (if_pos c2))]; exact h3 _ _ (cV.crushAll (S := (D.1, D.2.1, D.2.2.1, D.2.2.2.1, D.2.2.2.2.1, cSpoil D.2.2.2.2.2 w (n 2))) h2)
    · rw [cPass_eq hD ((if_neg c1).trans (if_neg c2))]; exact h3 _ _ h2
/-- k hours -/
def cRun (n : CN) (S : CS) (w r : Int32) : Nat → CS × Int32
  | 0 => (S, 0)
  | k + 1 => ((cPass n (cRun n S w r k).1 w r).1, (cRun n S w r k).2 + (cPass n (cRun n S w r k).1 w r).2)
theorem cVS.run {n : CN} {S : CS} {w r : Int32} (hn : cN n) (h : cVS n S) : ∀ k, cVS n (cRun n S w r k).1
  | 0 => h
  | k + 1 => cVS.pass hn (cVS.run hn h k)
