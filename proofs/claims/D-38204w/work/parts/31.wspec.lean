/-! WHAT THE COMPONENT'S WORKS DOES, as functions on its state; n: how many fields, trucks, loads -/
set_option maxRecDepth 100000
/-- as a place -/
def iN (x : Int32) : Nat := x.toNatClampNeg
/-- a place below m -/
def ix (x : Int32) (m : Nat) : Prop := x = nI (iN x) ∧ iN x < m
theorem iN_nI {k : Nat} (h : k < 2 ^ 31) : iN (nI k) = k := nI_clamp h
theorem ix_nI {k m : Nat} (h : k < m) (hm : m ≤ 2 ^ 31) : ix (nI k) m := by
  have h9 : iN (nI k) = k := iN_nI (by omega)
  exact ⟨by rw [h9], by rw [h9]; exact h⟩
section
variable {g : GT} {A : Nat → Prop} {la : LT} {H H1 : Heap} {sc : Nat → Int32} {sw : Int64} {ar fd tr ld : Nat → Nat → Int32} {n : Nat → Nat} {i : Nat}
theorem cw.setFc {c0 c1 c2 c3 c4 c5 c6 c7 c8 c9 c10 : Int32} (h : cw g A la (sc, sw, ar, fd, tr, ld, n) H) (hi : i < n 0) (hat : mAt g (la.1 2 i) (.inr (5, [.int c0, .int c1, .int c2, .int c3, .int c4, .int c5, .int c6, .int c7, .int c8, .int c9, .int c10])) H1) (hoq : ∀ q, q < H.size → q ≠ la.1 2 i → H1[q]? = H[q]?) : cw g A la (sc, sw, ar, va_up fd i (ob11 c0 c1 c2 c3 c4 c5 c6 c7 c8 c9 c10), tr, ld, n) H1 := h.setF hi hat hoq
theorem cw.setF2c {c0 c1 c2 c3 c4 c5 c6 c7 c8 c9 c10 : Int32} {o2 : Nat → Int32} (h : cw g A la (sc, sw, ar, va_up fd i (o2), tr, ld, n) H) (hi : i < n 0) (hat : mAt g (la.1 2 i) (.inr (5, [.int c0, .int c1, .int c2, .int c3, .int c4, .int c5, .int c6, .int c7, .int c8, .int c9, .int c10])) H1) (hoq : ∀ q, q < H.size → q ≠ la.1 2 i → H1[q]? = H[q]?) : cw g A la (sc, sw, ar, va_up fd i (ob11 c0 c1 c2 c3 c4 c5 c6 c7 c8 c9 c10), tr, ld, n) H1 := h.setF2 hi hat hoq
theorem cw.setTc {c0 c1 c2 c3 : Int32} (h : cw g A la (sc, sw, ar, fd, tr, ld, n) H) (hi : i < n 1) (hat : mAt g (la.1 3 i) (.inr (7, [.int c0, .int c1, .int c2, .int c3])) H1) (hoq : ∀ q, q < H.size → q ≠ la.1 3 i → H1[q]? = H[q]?) : cw g A la (sc, sw, ar, fd, va_up tr i (ob4 c0 c1 c2 c3), ld, n) H1 := h.setT hi hat hoq
theorem cw.setT2c {c0 c1 c2 c3 : Int32} {o2 : Nat → Int32} (h : cw g A la (sc, sw, ar, fd, va_up tr i (o2), ld, n) H) (hi : i < n 1) (hat : mAt g (la.1 3 i) (.inr (7, [.int c0, .int c1, .int c2, .int c3])) H1) (hoq : ∀ q, q < H.size → q ≠ la.1 3 i → H1[q]? = H[q]?) : cw g A la (sc, sw, ar, fd, va_up tr i (ob4 c0 c1 c2 c3), ld, n) H1 := h.setT2 hi hat hoq
theorem cw.setLc {c0 c1 c2 c3 c4 c5 c6 c7 c8 : Int32} (h : cw g A la (sc, sw, ar, fd, tr, ld, n) H) (hi : i < n 2) (hat : mAt g (la.1 4 i) (.inr (9, [.int c0, .int c1, .int c2, .int c3, .int c4, .int c5, .int c6, .int c7, .int c8])) H1) (hoq : ∀ q, q < H.size → q ≠ la.1 4 i → H1[q]? = H[q]?) : cw g A la (sc, sw, ar, fd, tr, va_up ld i (ob9 c0 c1 c2 c3 c4 c5 c6 c7 c8), n) H1 := h.setL hi hat hoq
theorem cw.setL2c {c0 c1 c2 c3 c4 c5 c6 c7 c8 : Int32} {o2 : Nat → Int32} (h : cw g A la (sc, sw, ar, fd, tr, va_up ld i (o2), n) H) (hi : i < n 2) (hat : mAt g (la.1 4 i) (.inr (9, [.int c0, .int c1, .int c2, .int c3, .int c4, .int c5, .int c6, .int c7, .int c8])) H1) (hoq : ∀ q, q < H.size → q ≠ la.1 4 i → H1[q]? = H[q]?) : cw g A la (sc, sw, ar, fd, tr, va_up ld i (ob9 c0 c1 c2 c3 c4 c5 c6 c7 c8), n) H1 := h.setL2 hi hat hoq
end
/-- the least k below n at which P holds -/
def fs (P : Nat → Prop) [DecidablePred P] : Nat → Option Nat
  | 0 => none
  | n + 1 => match fs P n with
    | some k => some k
    | none => if P n then some n else none
theorem fs_none {P : Nat → Prop} [DecidablePred P] {n : Nat} (h : ∀ k, k < n → ¬ P k) : fs P n = none := by
  induction n with
  | zero => rfl
  | succ n ih =>
    unfold fs
    rw [ih (fun k hk => h k (by omega))]
    exact if_neg (h n (by omega))
theorem fs_some {P : Nat → Prop} [DecidablePred P] {n k : Nat} (hk : k < n) (hp : P k) (h : ∀ j, j < k → ¬ P j) : fs P n = some k := by
  induction n with
  | zero => omega
  | succ n ih =>
    unfold fs
    by_cases h9 : k < n
    · rw [ih h9]
    · have : k = n := by omega
      subst this
      rw [fs_none h]
      exact if_pos hp
theorem fs_spec {P : Nat → Prop} [DecidablePred P] : ∀ {n k : Nat}, fs P n = some k → k < n ∧ P k ∧ ∀ j, j < k → ¬ P j
  | 0, k, h => by cases h
  | n + 1, k, h => by
    unfold fs at h
    cases hf : fs P n with
    | some j =>
      rw [hf] at h
      cases h
      obtain ⟨a, b, c⟩ := fs_spec hf
      exact ⟨by omega, b, c⟩
    | none =>
      rw [hf] at h
      have h : (if P n then some n else none) = some k := h
      by_cases hp : P n
      · rw [if_pos hp] at h
        cases h
        refine ⟨by omega, hp, fun j hj hpj => ?_⟩
        have := fs_not hf j hj
        exact this hpj
      · rw [if_neg hp] at h
        cases h
where fs_not {P : Nat → Prop} [DecidablePred P] : ∀ {n : Nat}, fs P n = none → ∀ j, j < n → ¬ P j
  | 0, _, j, hj => by omega
  | n + 1, h, j, hj => by
    unfold fs at h
    cases hf : fs P n with
    | some i => rw [hf] at h; cases h
    | none =>
      rw [hf] at h
      have h : (if P n then some n else none) = none := h
      by_cases hp : P n
      · rw [if_pos hp] at h; cases h
      · by_cases h9 : j < n
        · exact fs_not hf j h9
        · have : j = n := by omega
          subst this
          exact hp
def oI : Option Nat → Int32 := fun o => match o with | some k => nI k | none => -1
def sumI (f : Nat → Int32) : Nat → Int32
  | 0 => 0
  | n + 1 => sumI f n + f n
abbrev CS : Type := (Nat → Int32) × Int64 × (Nat → Nat → Int32) × (Nat → Nat → Int32) × (Nat → Nat → Int32) × (Nat → Nat → Int32)
abbrev CN : Type := Nat → Nat
/-- how many there can be -/
def cN (n : CN) : Prop := n 0 ≤ 10 ∧ n 1 ≤ 5 ∧ n 2 ≤ 90
theorem cN.h0 {n : CN} (h : cN n) : n 0 < 2 ^ 31 := by have := h.1; omega
theorem cN.h1 {n : CN} (h : cN n) : n 1 < 2 ^ 31 := by have := h.2.1; omega
theorem cN.h2 {n : CN} (h : cN n) : n 2 < 2 ^ 31 := by have := h.2.2; omega
/-- what lacks -/
def lackC (fib much : Int32) : Int32 := jmax 0 (much - fib)
def cBurn (sc : Nat → Int32) (much : Int32) : Nat → Int32 :=
  va_up (va_up (va_up sc 12 (jmax 0 (sc 12 - much))) 13 (sc 13 + lackC (sc 12) much)) 14 (sc 14 - 2 * lackC (sc 12) much)
def cFirst (ld : Nat → Nat → Int32) (n2 : Nat) (f : Int32) : Option Nat := fs (fun k => ld k 6 = 0 ∧ ld k 0 = f) n2
def cInYard (ld : Nat → Nat → Int32) (n2 : Nat) : Int32 := sumI (fun k => if ld k 6 = 2 then 1 else 0) n2
def cGr (fd ld : Nat → Nat → Int32) (k : Nat) : Int32 := fd (iN (ld k 0)) 0
def cBy (ord : Int32) (ar fd ld : Nat → Nat → Int32) (a b : Nat) : Int32 :=
  if ord = 1 then ar 0 (iN (cGr fd ld a)) - ar 0 (iN (cGr fd ld b)) else if ord = 2 then ld b 5 - ld a 5 else 0
/-- whether one goes ahead of another -/
def cAhead (ord : Int32) (ar fd ld : Nat → Nat → Int32) (a b : Nat) : Int32 :=
  if cBy ord ar fd ld a b = 0 then (if ld b 7 ≤ ld a 7 then 0 else 1) else if 0 ≤ cBy ord ar fd ld a b then 0 else 1
def cNext (ord : Int32) (ar fd ld : Nat → Nat → Int32) : Nat → Option Nat
  | 0 => none
  | k + 1 => if ld k 6 = 2 then (match cNext ord ar fd ld k with
      | none => some k
      | some j => if cAhead ord ar fd ld k j = 0 then some j else some k) else cNext ord ar fd ld k
theorem cNext_succ (ord : Int32) (ar fd ld : Nat → Nat → Int32) (k : Nat) : cNext ord ar fd ld (k + 1) = if ld k 6 = 2 then (match cNext ord ar fd ld k with
      | none => some k
      | some j => if cAhead ord ar fd ld k j = 0 then some j else some k) else cNext ord ar fd ld k := rfl
theorem cNext_lt {ord : Int32} {ar fd ld : Nat → Nat → Int32} : ∀ {k j : Nat}, cNext ord ar fd ld k = some j → j < k ∧ ld j 6 = 2
  | 0, j, h => by cases h
  | k + 1, j, h => by
    rw [cNext_succ] at h
    by_cases h1 : ld k 6 = 2
    · rw [if_pos h1] at h
      cases h2 : cNext ord ar fd ld k with
      | none => rw [h2] at h; cases h; exact ⟨by omega, h1⟩
      | some i =>
        rw [h2] at h
        have h : (if cAhead ord ar fd ld k i = 0 then some i else some k) = some j := h
        by_cases h3 : cAhead ord ar fd ld k i = 0
        · rw [if_pos h3] at h; cases h
          have := cNext_lt h2
          exact ⟨by omega, this.2⟩
        · rw [if_neg h3] at h; cases h
          exact ⟨by omega, h1⟩
    · rw [if_neg h1] at h
      have := cNext_lt h
      exact ⟨by omega, this.2⟩
def ov (ad : Nat → Nat → Nat) (J : Nat) (o : Option Nat) : Value := match o with | none => .null | some k => .ref (ad J k)
theorem opt_cases {α : Type} (o : Option α) : o = none ∨ ∃ j, o = some j := by
  cases o with
  | none => exact Or.inl rfl
  | some j => exact Or.inr ⟨j, rfl⟩
/-- places are places -/
def cV (n : CN) (fd tr ld : Nat → Nat → Int32) : Prop :=
  (∀ k, k < n 0 → ix (fd k 0) 4 ∧ bz (fd k 8) ∧ bz (fd k 9) ∧ bz (fd k 10)) ∧ (∀ k, k < n 2 → ix (ld k 0) (n 0) ∧ bz (ld k 3) ∧ ix (ld k 1) 21 ∧ 1 ≤ iN (ld k 1) ∧ ld k 2 = f_L_init_2 (ld k 3)) ∧
  ∀ k, k < n 1 → tr k 0 = 0 ∨ (tr k 0 = 1 ∧ ix (tr k 1) (n 0)) ∨ (tr k 0 = 2 ∧ ix (tr k 1) (n 0) ∧ ix (tr k 2) (n 2))
section
variable {n : CN} {fd tr ld : Nat → Nat → Int32} {k : Nat}
theorem cV.lo (h : cV n fd tr ld) (hk : k < n 2) : ix (ld k 0) (n 0) := (h.2.1 k hk).1
theorem cV.gr (h : cV n fd tr ld) (hk : k < n 2) : ix (cGr fd ld k) 4 := (h.1 _ (h.lo hk).2).1
end
def cSugar (ld : Nat → Nat → Int32) (k : Nat) : Int32 := ld k 1 * ld k 5 / 10
def cGets (wat : Int32) (ld : Nat → Nat → Int32) (k : Nat) : Int32 := cSugar ld k * (88 + wat - ld k 2 / 2) / 100
/-- a load is crushed -/
def cCrush (S : CS) (k : Nat) : CS :=
  let gr := iN (cGr S.2.2.2.1 S.2.2.2.2.2 k)
  let ld := S.2.2.2.2.2
  let sc := S.1
  (cBurn (va_up (va_up (va_up sc 10 (sc 10 + cGets (sc 8) ld k)) 11 (sc 11 + (cSugar ld k - cGets (sc 8) ld k))) 12 (sc 12 + 3 * ld k 1 / 10)) (ld k 1 * (2 + sc 8) / 20),
   S.2.1 + (ld k 1 * ld k 5).toInt64,
   va_up (va_up S.2.2.1 0 (upd (S.2.2.1 0) gr (S.2.2.1 0 gr + ld k 1))) 1 (upd (S.2.2.1 1) gr (S.2.2.1 1 gr + ld k 1)),
   S.2.2.2.1, S.2.2.2.2.1,
   va_up ld k (ob9 (ld k 0) (ld k 1) (ld k 2) (ld k 3) (ld k 4) (ld k 5) 3 (ld k 7) (sc 0)))
/-- crush while the rate bears it -/
def cMill (n2 : Nat) : Nat → CS → Int32 → CS × Int32
  | 0, S, all => (S, all)
  | f + 1, S, all => match cNext (S.1 9) S.2.2.1 S.2.2.2.1 S.2.2.2.2.2 n2 with
    | none => (S, all)
    | some k => if S.1 7 < all + S.2.2.2.2.2 k 1 then (S, all) else cMill n2 f (cCrush S k) (all + S.2.2.2.2.2 k 1)
def cYard (ld : Nat → Nat → Int32) : Nat → Nat
  | 0 => 0
  | k + 1 => cYard ld k + if ld k 6 = 2 then 1 else 0
def cIdle (sc : Nat → Int32) : Nat → Int32 :=
  let sc1 := va_up (va_up sc 4 (sc 4 + 1)) 5 (sc 5 + 1)
  if sc 4 + 1 = 3 then va_up (va_up sc1 2 0) 6 (sc 6 + 1) else sc1
def cCrushAll (n2 : Nat) (S : CS) : CS × Int32 :=
  let r := cMill n2 (n2 + 1) S 0
  if r.2 ≤ 0 then ((cIdle r.1.1, r.1.2), 0) else ((va_up r.1.1 4 0, r.1.2), r.2)
theorem cMill_succ (n2 f : Nat) (S : CS) (all : Int32) : cMill n2 (f + 1) S all = match cNext (S.1 9) S.2.2.1 S.2.2.2.1 S.2.2.2.2.2 n2 with
    | none => (S, all)
    | some k => if S.1 7 < all + S.2.2.2.2.2 k 1 then (S, all) else cMill n2 f (cCrush S k) (all + S.2.2.2.2.2 k 1) := rfl
theorem cMill_n {n2 f : Nat} {S : CS} {all : Int32} (h : cNext (S.1 9) S.2.2.1 S.2.2.2.1 S.2.2.2.2.2 n2 = none) : cMill n2 (f + 1) S all = (S, all) := by rw [cMill_succ, h]
theorem cMill_s {n2 f k : Nat} {S : CS} {all : Int32} (h : cNext (S.1 9) S.2.2.1 S.2.2.2.1 S.2.2.2.2.2 n2 = some k) (h1 : S.1 7 < all + S.2.2.2.2.2 k 1) : cMill n2 (f + 1) S all = (S, all) := by
  rw [cMill_succ, h]
  exact if_pos h1
theorem cMill_c {n2 f k : Nat} {S : CS} {all : Int32} (h : cNext (S.1 9) S.2.2.1 S.2.2.2.1 S.2.2.2.2.2 n2 = some k) (h1 : ¬ S.1 7 < all + S.2.2.2.2.2 k 1) : cMill n2 (f + 1) S all = cMill n2 f (cCrush S k) (all + S.2.2.2.2.2 k 1) := by
  rw [cMill_succ, h]
  exact if_neg h1
theorem cCrushAll_eq {n2 : Nat} {S T : CS} {a : Int32} (h : cMill n2 (n2 + 1) S 0 = (T, a)) : cCrushAll n2 S = if a ≤ 0 then ((cIdle T.1, T.2), 0) else ((va_up T.1 4 0, T.2), a) := by
  unfold cCrushAll
  rw [h]
theorem cIdle_a {sc : Nat → Int32} (h : sc 4 + 1 = 3) : cIdle sc = va_up (va_up (va_up (va_up sc 4 (sc 4 + 1)) 5 (sc 5 + 1)) 2 0) 6 (sc 6 + 1) := if_pos h
theorem cIdle_b {sc : Nat → Int32} (h : ¬ sc 4 + 1 = 3) : cIdle sc = va_up (va_up sc 4 (sc 4 + 1)) 5 (sc 5 + 1) := if_neg h
theorem cYard_crush {ld : Nat → Nat → Int32} {k : Nat} {o : Nat → Int32} (ho : o 6 ≠ 2) (hk : ld k 6 = 2) : ∀ {N : Nat}, (k < N → cYard (va_up ld k o) N + 1 = cYard ld N) ∧ (N ≤ k → cYard (va_up ld k o) N = cYard ld N)
  | 0 => ⟨fun h => by omega, fun _ => rfl⟩
  | N + 1 => by
    obtain ⟨h1, h2⟩ := cYard_crush ho hk (N := N)
    refine ⟨fun h => ?_, fun h => ?_⟩
    · show cYard (va_up ld k o) N + (if va_up ld k o N 6 = 2 then 1 else 0) + 1 = cYard ld N + if ld N 6 = 2 then 1 else 0
      by_cases h3 : k = N
      · subst h3
        rw [va_up_self, if_neg ho, if_pos hk, h2 (Nat.le_refl _)]
      · have := h1 (by omega)
        rw [va_up_ne ld o (fun z => h3 z.symm)]
        omega
    · show cYard (va_up ld k o) N + (if va_up ld k o N 6 = 2 then 1 else 0) = cYard ld N + if ld N 6 = 2 then 1 else 0
      rw [va_up_ne ld o (by omega), h2 (by omega)]
theorem cYard_le (ld : Nat → Nat → Int32) : ∀ N, cYard ld N ≤ N
  | 0 => Nat.le_refl _
  | N + 1 => by
    have := cYard_le ld N
    show cYard ld N + (if ld N 6 = 2 then 1 else 0) ≤ N + 1
    split <;> omega
theorem cV.crush {n : CN} {fd tr ld : Nat → Nat → Int32} {k : Nat} {o : Nat → Int32} (h : cV n fd tr ld) (h0 : o 0 = ld k 0) (h1 : o 1 = ld k 1) (h2 : o 2 = ld k 2) (h3 : o 3 = ld k 3) : cV n fd tr (va_up ld k o) := by
  refine ⟨h.1, fun j hj => ?_, h.2.2⟩
  by_cases h9 : j = k
  · subst h9
    rw [va_up_self, h0, h1, h2, h3]
    exact h.2.1 j hj
  · rw [va_up_ne ld o h9]
    exact h.2.1 j hj
/-- a truck's hour -/
def cDrive (n : CN) (S : CS) (k : Nat) : CS :=
  let (sc, sw, ar, fd, tr, ld) := S
  let h := jmax 0 (tr k 3 - 1)
  let tr1 := va_up tr k (ob4 (tr k 0) (tr k 1) (tr k 2) h)
  if h ≤ 0 then
    if tr k 0 = 2 then
      let j := iN (tr k 2)
      (va_up sc 1 (sc 1 + 1), sw, ar, fd, va_up tr k (ob4 0 (-1) (-1) 0), va_up ld j (ob9 (ld j 0) (ld j 1) (ld j 2) (ld j 3) (ld j 4) (ld j 5) 2 (sc 1) (ld j 8)))
    else match cFirst ld (n 2) (tr k 1) with
      | none => (sc, sw, ar, fd, tr1, ld)
      | some j => (sc, sw, ar, fd, va_up tr k (ob4 2 (tr k 1) (nI j) (fd (iN (tr k 1)) 2)), va_up ld j (ob9 (ld j 0) (ld j 1) (ld j 2) (ld j 3) (ld j 4) (ld j 5) 1 (ld j 7) (ld j 8)))
  else (sc, sw, ar, fd, tr1, ld)
section
variable {n : CN} {sc : Nat → Int32} {sw : Int64} {ar fd tr ld : Nat → Nat → Int32} {k j : Nat}
theorem cDrive_0 (h : ¬ jmax 0 (tr k 3 - 1) ≤ 0) : cDrive n (sc, sw, ar, fd, tr, ld) k = (sc, sw, ar, fd, va_up tr k (ob4 (tr k 0) (tr k 1) (tr k 2) (jmax 0 (tr k 3 - 1))), ld) := if_neg h
theorem cDrive_2 (h : jmax 0 (tr k 3 - 1) ≤ 0) (h1 : tr k 0 = 2) : cDrive n (sc, sw, ar, fd, tr, ld) k = (va_up sc 1 (sc 1 + 1), sw, ar, fd, va_up tr k (ob4 0 (-1) (-1) 0), va_up ld (iN (tr k 2)) (ob9 (ld (iN (tr k 2)) 0) (ld (iN (tr k 2)) 1) (ld (iN (tr k 2)) 2) (ld (iN (tr k 2)) 3) (ld (iN (tr k 2)) 4) (ld (iN (tr k 2)) 5) 2 (sc 1) (ld (iN (tr k 2)) 8))) :=
  (if_pos h).trans (if_pos h1)
theorem cDrive_n (h : jmax 0 (tr k 3 - 1) ≤ 0) (h1 : ¬ tr k 0 = 2) (h2 : cFirst ld (n 2) (tr k 1) = none) : cDrive n (sc, sw, ar, fd, tr, ld) k = (sc, sw, ar, fd, va_up tr k (ob4 (tr k 0) (tr k 1) (tr k 2) (jmax 0 (tr k 3 - 1))), ld) := by
  refine (if_pos h).trans ((if_neg h1).trans ?_)
  rw [h2]
theorem cDrive_1 (h : jmax 0 (tr k 3 - 1) ≤ 0) (h1 : ¬ tr k 0 = 2) (h2 : cFirst ld (n 2) (tr k 1) = some j) : cDrive n (sc, sw, ar, fd, tr, ld) k = (sc, sw, ar, fd, va_up tr k (ob4 2 (tr k 1) (nI j) (fd (iN (tr k 1)) 2)), va_up ld j (ob9 (ld j 0) (ld j 1) (ld j 2) (ld j 3) (ld j 4) (ld j 5) 1 (ld j 7) (ld j 8))) := by
  refine (if_pos h).trans ((if_neg h1).trans ?_)
  rw [h2]
theorem cV.tr2 (h : cV n fd tr ld) (hk : k < n 1) (h2 : tr k 0 = 2) : ix (tr k 1) (n 0) ∧ ix (tr k 2) (n 2) := by
  rcases h.2.2 k hk with h9 | h9 | h9
  · rw [h2] at h9; exact absurd h9 (by decide)
  · rw [h2] at h9; exact absurd h9.1 (by decide)
  · exact h9.2
theorem cV.tr1 (h : cV n fd tr ld) (hk : k < n 1) (h0 : ¬ tr k 0 = 0) : ix (tr k 1) (n 0) := by
  rcases h.2.2 k hk with h9 | h9 | h9
  · exact absurd h9 h0
  · exact h9.2
  · exact h9.2.1
theorem cV.setT {o : Nat → Int32} (h : cV n fd tr ld) (ho : o 0 = 0 ∨ (o 0 = 1 ∧ ix (o 1) (n 0)) ∨ (o 0 = 2 ∧ ix (o 1) (n 0) ∧ ix (o 2) (n 2))) : cV n fd (va_up tr k o) ld := by
  refine ⟨h.1, h.2.1, fun i hi => ?_⟩
  by_cases h9 : i = k
  · subst h9; rw [va_up_self]; exact ho
  · rw [va_up_ne tr o h9]; exact h.2.2 i hi
theorem cV.drive (hn : cN n) (h : cV n fd tr ld) (hk : k < n 1) (h0 : ¬ tr k 0 = 0) : cV n (cDrive n (sc, sw, ar, fd, tr, ld) k).2.2.2.1 (cDrive n (sc, sw, ar, fd, tr, ld) k).2.2.2.2.1 (cDrive n (sc, sw, ar, fd, tr, ld) k).2.2.2.2.2 := by
  by_cases h1 : jmax 0 (tr k 3 - 1) ≤ 0
  · by_cases h2 : tr k 0 = 2
    · rw [cDrive_2 h1 h2]
      exact cV.crush (h.setT (Or.inl rfl)) rfl rfl rfl rfl
    · rcases opt_cases (cFirst ld (n 2) (tr k 1)) with h3 | ⟨j, h3⟩
      · rw [cDrive_n h1 h2 h3]
        exact h.setT (h.2.2 k hk)
      · rw [cDrive_1 h1 h2 h3]
        exact cV.crush (h.setT (Or.inr (Or.inr ⟨rfl, h.tr1 hk h0, ix_nI (fs_spec h3).1 (Nat.le_of_lt hn.h2)⟩))) rfl rfl rfl rfl
  · rw [cDrive_0 h1]
    exact h.setT (h.2.2 k hk)
end
theorem nI_nm1 {j : Nat} (h : j < 2 ^ 31) : ¬ nI j = -1 := fun e => by
  have h1 := nI_toInt h
  rw [e] at h1
  have : ((-1 : Int32)).toInt = -1 := by decide
  omega
def cDrives (n : CN) (S : CS) : Nat → CS
  | 0 => S
  | k + 1 => let T := cDrives n S k
    if T.2.2.2.2.1 k 0 = 0 then T else cDrive n T k
theorem cDrives_0 {n : CN} {S T : CS} {k : Nat} (h : cDrives n S k = T) (h0 : T.2.2.2.2.1 k 0 = 0) : cDrives n S (k + 1) = T := by
  show (if (cDrives n S k).2.2.2.2.1 k 0 = 0 then cDrives n S k else cDrive n (cDrives n S k) k) = T
  rw [h, if_pos h0]
theorem cDrives_1 {n : CN} {S T : CS} {k : Nat} (h : cDrives n S k = T) (h0 : ¬ T.2.2.2.2.1 k 0 = 0) : cDrives n S (k + 1) = cDrive n T k := by
  show (if (cDrives n S k).2.2.2.2.1 k 0 = 0 then cDrives n S k else cDrive n (cDrives n S k) k) = cDrive n T k
  rw [h, if_neg h0]
/-- all loads spoil -/
def cSpoil (ld : Nat → Nat → Int32) (w : Int32) : Nat → Nat → Nat → Int32
  | 0 => ld
  | i + 1 => let L := cSpoil ld w i
    va_up L i (ob9 (L i 0) (L i 1) (L i 2) (L i 3) (L i 4) (f_L_spoil_5 (L i 3) (L i 5) (L i 6) w) (L i 6) (L i 7) (L i 8))
/-- the smut that was, of N fields, one place on -/
def cHad (fd : Nat → Nat → Int32) : Nat → Nat → Int32
  | 0 => fun _ => 0
  | i + 1 => upd (cHad fd i) (i + 1) (fd i 7)
def cEndF (fd : Nat → Nat → Int32) (had : Nat → Int32) (w r : Int32) : Nat → Nat → Nat → Int32
  | 0 => fd
  | i + 1 => let F := cEndF fd had w r i
    va_up F i (ob11 (F i 0) (F i 1) (F i 2) (f_F_endDay_3 (F i 1) (F i 3) (F i 7) (F i 8) (F i 10) w r) (f_F_endDay_4 (F i 4) (F i 5) (F i 9) (F i 10) w r) (f_F_endDay_5 (F i 5) (F i 10)) (F i 6) (f_F_endDay_7 (F i 7) w (jmax (had i) (had (i + 2)))) (f_F_endDay_8 (F i 1) (F i 3) (F i 7) (F i 8) (F i 10) w r) (f_F_endDay_9 (F i 9) w) (F i 10))
theorem cEndF_succ (fd : Nat → Nat → Int32) (had : Nat → Int32) (w r : Int32) (i : Nat) : cEndF fd had w r (i + 1) = va_up (cEndF fd had w r i) i (ob11 (cEndF fd had w r i i 0) (cEndF fd had w r i i 1) (cEndF fd had w r i i 2) (f_F_endDay_3 (cEndF fd had w r i i 1) (cEndF fd had w r i i 3) (cEndF fd had w r i i 7) (cEndF fd had w r i i 8) (cEndF fd had w r i i 10) w r) (f_F_endDay_4 (cEndF fd had w r i i 4) (cEndF fd had w r i i 5) (cEndF fd had w r i i 9) (cEndF fd had w r i i 10) w r) (f_F_endDay_5 (cEndF fd had w r i i 5) (cEndF fd had w r i i 10)) (cEndF fd had w r i i 6) (f_F_endDay_7 (cEndF fd had w r i i 7) w (jmax (had i) (had (i + 2)))) (f_F_endDay_8 (cEndF fd had w r i i 1) (cEndF fd had w r i i 3) (cEndF fd had w r i i 7) (cEndF fd had w r i i 8) (cEndF fd had w r i i 10) w r) (f_F_endDay_9 (cEndF fd had w r i i 9) w) (cEndF fd had w r i i 10)) := rfl
theorem cSpoil_succ (ld : Nat → Nat → Int32) (w : Int32) (i : Nat) : cSpoil ld w (i + 1) = va_up (cSpoil ld w i) i (ob9 (cSpoil ld w i i 0) (cSpoil ld w i i 1) (cSpoil ld w i i 2) (cSpoil ld w i i 3) (cSpoil ld w i i 4) (f_L_spoil_5 (cSpoil ld w i i 3) (cSpoil ld w i i 5) (cSpoil ld w i i 6) w) (cSpoil ld w i i 6) (cSpoil ld w i i 7) (cSpoil ld w i i 8)) := rfl
def cFields (n0 : Nat) (fd : Nat → Nat → Int32) (w r : Int32) : Nat → Nat → Int32 := cEndF fd (cHad fd n0) w r n0
/-- sums over the loads of the day -/
def cDay (hr : Int32) (ld : Nat → Nat → Int32) (f : Nat → Int32) : Nat → Int32
  | 0 => 0
  | i + 1 => if ld i 8 ≤ hr - 24 then cDay hr ld f i else if ld i 6 = 3 then cDay hr ld f i + f i else cDay hr ld f i
def cPts (hr : Int32) (fd ld : Nat → Nat → Int32) (tons sum : Int32) (pt : Nat → Int32) : Nat → Nat → Int32
  | 0 => pt
  | i + 1 => if ld i 8 ≤ hr - 24 then cPts hr fd ld tons sum pt i else if ld i 6 = 3 then upd (cPts hr fd ld tons sum pt i) (iN (cGr fd ld i)) (cPts hr fd ld tons sum pt i (iN (cGr fd ld i)) + jmax 0 (ld i 1 * (100 + ld i 5 - sum / tons))) else cPts hr fd ld tons sum pt i
def cZero (f : Nat → Int32) : Nat → Nat → Int32
  | 0 => f
  | i + 1 => upd (cZero f i) i 0
def cEndDay (n : CN) (S : CS) (w r : Int32) : CS :=
  let fd := cFields (n 0) S.2.2.2.1 w r
  let ld := S.2.2.2.2.2
  let tons := cDay (S.1 0) ld (fun k => ld k 1) (n 2)
  let sum := cDay (S.1 0) ld (fun k => ld k 1 * ld k 5) (n 2)
  (S.1, S.2.1, va_up (va_up S.2.2.1 2 (cPts (S.1 0) fd ld tons sum (S.2.2.1 2) (n 2))) 0 (cZero (S.2.2.1 0) 4), fd, S.2.2.2.2.1, ld)
def cPass (n : CN) (S0 : CS) (w r : Int32) : CS × Int32 :=
  let D := cDrives n (va_up S0.1 0 (S0.1 0 + 1), S0.2) (n 1)
  let S : CS := (D.1, D.2.1, D.2.2.1, D.2.2.2.1, D.2.2.2.2.1, cSpoil D.2.2.2.2.2 w (n 2))
  let M : CS × Int32 :=
    if S.1 2 = 1 then
      (if S.1 3 - 1 = 0 then ((va_up (va_up S.1 3 (S.1 3 - 1)) 2 2, S.2), 0) else ((va_up S.1 3 (S.1 3 - 1), S.2), 0))
    else if S.1 2 = 2 then cCrushAll (n 2) S else (S, 0)
  if M.1.1 0 - M.1.1 0 / 24 * 24 = 0 then (cEndDay n M.1 w r, M.2) else M
section
variable {n : CN} {sc : Nat → Int32} {sw : Int64} {ar fd tr ld : Nat → Nat → Int32} {k i : Nat} {hr : Int32} {f : Nat → Int32}
theorem cDay_a (h : ld i 8 ≤ hr - 24) : cDay hr ld f (i + 1) = cDay hr ld f i := if_pos h
theorem cDay_b (h : ¬ ld i 8 ≤ hr - 24) (h1 : ld i 6 = 3) : cDay hr ld f (i + 1) = cDay hr ld f i + f i := (if_neg h).trans (if_pos h1)
theorem cDay_c (h : ¬ ld i 8 ≤ hr - 24) (h1 : ¬ ld i 6 = 3) : cDay hr ld f (i + 1) = cDay hr ld f i := (if_neg h).trans (if_neg h1)
variable {tons sum : Int32} {pt : Nat → Int32}
theorem cPts_a (h : ld i 8 ≤ hr - 24) : cPts hr fd ld tons sum pt (i + 1) = cPts hr fd ld tons sum pt i := if_pos h
theorem cPts_b (h : ¬ ld i 8 ≤ hr - 24) (h1 : ld i 6 = 3) : cPts hr fd ld tons sum pt (i + 1) = upd (cPts hr fd ld tons sum pt i) (iN (cGr fd ld i)) (cPts hr fd ld tons sum pt i (iN (cGr fd ld i)) + jmax 0 (ld i 1 * (100 + ld i 5 - sum / tons))) := (if_neg h).trans (if_pos h1)
theorem cPts_c (h : ¬ ld i 8 ≤ hr - 24) (h1 : ¬ ld i 6 = 3) : cPts hr fd ld tons sum pt (i + 1) = cPts hr fd ld tons sum pt i := (if_neg h).trans (if_neg h1)
theorem cV.to (h : cV n fd tr ld) (hk : k < n 2) : ix (ld k 1) 21 ∧ 1 ≤ iN (ld k 1) := ⟨(h.2.1 k hk).2.2.1, (h.2.1 k hk).2.2.2.1⟩
theorem cV.tra (h : cV n fd tr ld) (hk : k < n 2) : ld k 2 = f_L_init_2 (ld k 3) := (h.2.1 k hk).2.2.2.2
/-- the day's tons are small, and some if a load was crushed -/
theorem cDay_nat (h : cV n fd tr ld) : ∀ N, N ≤ n 2 → ∃ d, cDay hr ld (fun k => ld k 1) N = nI d ∧ d ≤ 20 * N ∧ ∀ k, k < N → ¬ ld k 8 ≤ hr - 24 → ld k 6 = 3 → 1 ≤ d
  | 0, _ => ⟨0, rfl, Nat.le_refl _, fun k hk => by omega⟩
  | N + 1, hN => by
    obtain ⟨d, e1, e2, e3⟩ := cDay_nat h N (by omega)
    obtain ⟨h1, h2⟩ := h.to (k := N) (by omega)
    by_cases h3 : ld N 8 ≤ hr - 24
    · refine ⟨d, by rw [cDay_a h3, e1], by omega, fun k hk a b => ?_⟩
      by_cases h9 : k < N
      · exact e3 k h9 a b
      · have : k = N := by omega
        subst this
        exact absurd h3 a
    · by_cases h4 : ld N 6 = 3
      · refine ⟨d + iN (ld N 1), by rw [cDay_b h3 h4, e1, h1.1, nI_add]; rw [← h1.1], by have := h1.2; omega, fun k hk a b => by omega⟩
      · refine ⟨d, by rw [cDay_c h3 h4, e1], by omega, fun k hk a b => ?_⟩
        by_cases h9 : k < N
        · exact e3 k h9 a b
        · have : k = N := by omega
          subst this
          exact absurd b h4
theorem cDay_nz (hn : cN n) (h : cV n fd tr ld) (hk : k < n 2) (h1 : ¬ ld k 8 ≤ hr - 24) (h2 : ld k 6 = 3) : ¬ cDay hr ld (fun k => ld k 1) (n 2) = 0 := by
  obtain ⟨d, e1, e2, e3⟩ := cDay_nat (hr := hr) h (n 2) (Nat.le_refl _)
  have := e3 k hk h1 h2
  have := hn.2.2
  rw [e1]
  exact nI_ne0 (by omega) (by omega)
theorem bz_endDay8 (c1 c3 c7 c8 c10 w r : Int32) (h : bz c8) : bz (f_F_endDay_8 c1 c3 c7 c8 c10 w r) := by
  unfold f_F_endDay_8
  refine bz_or h ?_
  (repeat' split) <;> first | exact Or.inl rfl | exact Or.inr rfl
theorem bz_endDay9 (c9 w : Int32) (h : bz c9) : bz (f_F_endDay_9 c9 w) := by
  unfold f_F_endDay_9
  refine bz_or h ?_
  (repeat' split) <;> first | exact Or.inl rfl | exact Or.inr rfl
theorem cV.setF {o : Nat → Int32} (h : cV n fd tr ld) (h0 : o 0 = fd k 0) (h8 : bz (o 8)) (h9 : bz (o 9)) (h10 : bz (o 10)) (hk : k < n 0) : cV n (va_up fd k o) tr ld := by
  refine ⟨fun j hj => ?_, h.2.1, h.2.2⟩
  by_cases h9 : j = k
  · subst h9
    rw [va_up_self, h0]
    exact ⟨(h.1 j hj).1, h8, by assumption, h10⟩
  · rw [va_up_ne fd o h9]
    exact h.1 j hj
theorem cV.endF {had : Nat → Int32} {w r : Int32} (h : cV n fd tr ld) : ∀ i, i ≤ n 0 → cV n (cEndF fd had w r i) tr ld
  | 0, _ => h
  | i + 1, hi => by
    have h1 := cV.endF (had := had) (w := w) (r := r) h i (by omega)
    have h2 := h1.1 i (by omega)
    exact cV.setF (k := i) h1 rfl (bz_endDay8 _ _ _ _ _ _ _ h2.2.1) (bz_endDay9 _ _ h2.2.2.1) h2.2.2.2 (by omega)
theorem cV.fields {w r : Int32} (h : cV n fd tr ld) : cV n (cFields (n 0) fd w r) tr ld := h.endF _ (Nat.le_refl _)
theorem cV.spoil {w : Int32} (h : cV n fd tr ld) : ∀ i, cV n fd tr (cSpoil ld w i)
  | 0 => h
  | i + 1 => cV.crush (h.spoil i) rfl rfl rfl rfl
theorem cV.mill {n : CN} : ∀ (f : Nat) (S : CS) (a : Int32), cV n S.2.2.2.1 S.2.2.2.2.1 S.2.2.2.2.2 → cV n (cMill (n 2) f S a).1.2.2.2.1 (cMill (n 2) f S a).1.2.2.2.2.1 (cMill (n 2) f S a).1.2.2.2.2.2
  | 0, S, a, h => h
  | f + 1, S, a, h => by
    rcases opt_cases (cNext (S.1 9) S.2.2.1 S.2.2.2.1 S.2.2.2.2.2 (n 2)) with h1 | ⟨k, h1⟩
    · rw [cMill_n h1]; exact h
    · by_cases h2 : S.1 7 < a + S.2.2.2.2.2 k 1
      · rw [cMill_s h1 h2]; exact h
      · rw [cMill_c h1 h2]
        exact cV.mill f (cCrush S k) _ (cV.crush h rfl rfl rfl rfl)
theorem cV.crushAll {n : CN} {S : CS} (h : cV n S.2.2.2.1 S.2.2.2.2.1 S.2.2.2.2.2) : cV n (cCrushAll (n 2) S).1.2.2.2.1 (cCrushAll (n 2) S).1.2.2.2.2.1 (cCrushAll (n 2) S).1.2.2.2.2.2 := by
  have h1 := cV.mill (n 2 + 1) S 0 h
  rw [cCrushAll_eq (T := (cMill (n 2) (n 2 + 1) S 0).1) (a := (cMill (n 2) (n 2 + 1) S 0).2) rfl]
  by_cases h2 : (cMill (n 2) (n 2 + 1) S 0).2 ≤ 0
  · rw [if_pos h2]; exact h1
  · rw [if_neg h2]; exact h1
theorem va_up_same {α : Type} (f : Nat → α) (k : Nat) : va_up f k (f k) = f := by
  funext j
  unfold va_up
  by_cases h : j = k
  · rw [if_pos h, h]
  · rw [if_neg h]
theorem cw.arS {g : GT} {A : Nat → Prop} {la : LT} {H : Heap} (a : Nat) (h : cw g A la (sc, sw, ar, fd, tr, ld, n) H) : cw g A la (sc, sw, va_up ar a (ar a), fd, tr, ld, n) H := by rw [va_up_same]; exact h
theorem cPass_eq {n : CN} {S0 D T : CS} {w r t : Int32} (hD : cDrives n (va_up S0.1 0 (S0.1 0 + 1), S0.2) (n 1) = D)
    (hM : (if D.1 2 = 1 then
      (if D.1 3 - 1 = 0 then (((va_up (va_up D.1 3 (D.1 3 - 1)) 2 2, D.2.1, D.2.2.1, D.2.2.2.1, D.2.2.2.2.1, cSpoil D.2.2.2.2.2 w (n 2)), 0) : CS × Int32) else ((va_up D.1 3 (D.1 3 - 1), D.2.1, D.2.2.1, D.2.2.2.1, D.2.2.2.2.1, cSpoil D.2.2.2.2.2 w (n 2)), 0))
    else if D.1 2 = 2 then cCrushAll (n 2) (D.1, D.2.1, D.2.2.1, D.2.2.2.1, D.2.2.2.2.1, cSpoil D.2.2.2.2.2 w (n 2)) else ((D.1, D.2.1, D.2.2.1, D.2.2.2.1, D.2.2.2.2.1, cSpoil D.2.2.2.2.2 w (n 2)), 0)) = (T, t)) :
    cPass n S0 w r = if T.1 0 - T.1 0 / 24 * 24 = 0 then (cEndDay n T w r, t) else (T, t) := by
  have h : cPass n S0 w r = (fun M : CS × Int32 => if M.1.1 0 - M.1.1 0 / 24 * 24 = 0 then (cEndDay n M.1 w r, M.2) else M) (if (cDrives n (va_up S0.1 0 (S0.1 0 + 1), S0.2) (n 1)).1 2 = 1 then _ else _) := rfl
  rw [h, hD, hM]
end
