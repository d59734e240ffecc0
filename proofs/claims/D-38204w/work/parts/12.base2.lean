/-! rows for arrays copied, class objects, references compared; what may lie in a row of Objects -/
set_option maxRecDepth 100000
/-- y is an object that may lie in a list: of a class of ours, or a cached Integer -/
def mEl (g : GT) (y : Nat) (H : Heap) : Prop := (∃ (ci : Nat) (vs : List Value) (r : vw_C), mAt g y (.inr (ci, vs)) H ∧ gC[ci]? = some r ∧ Cond.castable r.1 "java/lang/Object" ∈ lw_tbl) ∨ ∃ k, k < 256 ∧ y = g.2.2 (1000 + k)
theorem mEl.kept {g : GT} {y : Nat} {H H1 : Heap} (h : mEl g y H) (hq : H1[y]? = H[y]?) : mEl g y H1 := by
  rcases h with ⟨ci, vs, r, h1, h2, h3⟩ | h
  · exact Or.inl ⟨ci, vs, r, h1.kept hq, h2, h3⟩
  · exact Or.inr h
theorem nn_ofN {n : Nat} (h : n < 2 ^ 31) : (nI n).toInt = (n : Int) := nI_toInt h
section MX
variable {p : Program} {l : Launch} {e : Env} {R : Room} {s : State} {m : MethodId} {args : Array Value} {below : List Frame} {meth : Method} {c : Code} {H : Heap} {locs : List Loc} {cells slots : Nat} {Q : State → Prop}
variable {cc : ByteArray} {pc : Nat} {ls : Array Slot} {rest : List Value} {A : Nat → Prop} {a : Nat} {H0 : Heap} {g : GT} {own : String} {nL : Nat}
theorem mAny (fx : Fx p s m args c cc own g A nL) (hS : va_S A s.heap H locs) {y : Nat} (h : mEl g y H) : va_Any "java/lang/Object" s H y := by
  have hasg : ∀ C : String, Cond.castable C "java/lang/Object" ∈ lw_tbl → ∀ comp c0 : ClassId, s.vm.findClass "java/lang/Object" = some comp → s.vm.findClass C = some c0 → s.vm.assignable c0 comp = true := fun C hC comp c0 h1 h2 => vb_asgC (fx.2.2.2.2.1.2.1 _ (nest_in hC rfl)) comp c0 h1 h2
  rcases h with ⟨ci, vs, r, h1, h2, h3⟩ | ⟨k, hk, rfl⟩
  · exact va_rAny fx.2.2.2.2.1.1 h1.sg (q0 := 0) rfl h2 (hasg _ h3)
  · obtain ⟨cell, e1, e2, e3, e4⟩ := fx.2.2.2.2.1.2.2.bc.1 k hk
    obtain ⟨kC, hkC, -⟩ := Vm.findClass_spec e3
    refine ⟨cell, ?_, e2, ⟨kC, hkC⟩, fun comp hc => hasg "java/lang/Integer" q1532 comp _ hc e3⟩
    rw [hS.2.1 _ (Array.getElem?_eq_some_iff.mp e1).1 (fun z => e4 (fx.2.2.2.2.2.1 _ z))]
    exact e1
theorem mcopyM (fx : Fx p s m args c cc own g A nL) (hl : ls.size = nL) {index : Nat} (hlk : Cond.methodLink own index arraycopyName ∈ lw_all) {a0 n0 n1 : Nat} {f f1 : Nat → Option Nat} (h0 : mAt g a0 (.inl (g.2.1 2, n0, rfs f)) H) (h1 : mAt g a (.inl (g.2.1 2, n1, rfs f1)) H) (hS : va_S A H0 H locs) (hA : A a)
    (sp dp n : Nat) (h4 : sp + n ≤ n0) (h5 : dp + n ≤ n1) (hb0 : n0 < 2 ^ 31) (hb1 : n1 < 2 ^ 31) (hel : ∀ i : Nat, i < n → ∀ y : Nat, f (sp + i) = some y → va_Any "java/lang/Object" s H y) {i1 i2 i3 : Int32} (e1 : i1 = nI sp) (e2 : i2 = nI dp) (e3 : i3 = nI n)
    (hframes : 1 ≤ R.frames) (hlocals : (rest.map fun v => v.category).sum + (nativeFrameWords "java/lang/System" "arraycopy" 5 + 11) ≤ R.locals) (hdg : decode cc pc = .ok (.invokestatic index, 3))
    (kk : ∀ (H1 : Heap) (locs1 : List Loc), mAt g a (.inl (g.2.1 2, n1, rfs (va_cpy f f1 sp dp n))) H1 → H1.size = H.size → (∀ q, q ≠ a → H1[q]? = H[q]?) → va_S A H0 H1 locs1 → W p l e R s m args below meth c H1 locs1 cells slots Q (F0 m (pc + 3) ls rest)) : W p l e R s m args below meth c H locs cells slots Q (F0 m pc ls (.int i3 :: .int i2 :: .ref a :: .int i1 :: .ref a0 :: rest)) := by
  subst e1; subst e2; subst e3
  have csp : (nI sp).toNatClampNeg = sp := nI_clamp (by omega)
  have cdp : (nI dp).toNatClampNeg = dp := nI_clamp (by omega)
  have cn : (nI n).toNatClampNeg = n := nI_clamp (by omega)
  have hK := fx.2.2.2.2.1.1
  intro T hT X
  have hc0 : H[a0]? = some (vp_cell (g.2.1 2) (n0, rfs f)) := h0
  have hc1 : H[a]? = some (vp_cell (g.2.1 2) (n1, rfs f1)) := h1
  obtain ⟨-, k0, hk0, cm0, hkk0⟩ := (hK.2 2 _ rfl).1 n0 (fun j => va_rf (f j))
  obtain ⟨-, k1, hk1, cm1, hkk1⟩ := (hK.2 2 _ rfl).1 n1 (fun j => va_rf (f1 j))
  obtain ⟨vm', X', step⟩ := X.arraycopy fx.1 fx.2.2.2.1 (fx.2.2.1 _ hlk) (fx.2.2.1 _ q415) (fx.2.2.1 _ q414) (fx.2.2.1 _ q69) (src := a0) (dst := a) (cs := vp_cell (g.2.1 2) (n0, rfs f)) (cd := vp_cell (g.2.1 2) (n1, rfs f1)) (srcPos := nI sp) (destPos := nI dp) (n := nI n) (by rw [hT]; exact hc0) (by rw [hT]; exact hc1)
    (fun _ h => by cases h) (fun _ h => by cases h) (fun h => by cases h) (fun h => by cases h) hk0 hk1 hkk0 hkk1 rfl (nI_pos (by omega)) (nI_pos (by omega)) (nI_pos (by omega))
    (by rw [nI_toInt (by omega), nI_toInt (by omega)]; show ¬ _ > ((arrV (g.2.1 2) n0 (fun j => va_rf (f j))).slots.size : Int); rw [arrV_size]; omega)
    (by rw [nI_toInt (by omega), nI_toInt (by omega)]; show ¬ _ > ((arrV (g.2.1 2) n1 (fun j => va_rf (f1 j))).slots.size : Int); rw [arrV_size]; omega)
    (fun vm₁ hal i hi => by
      rw [cn] at hi
      have e : (vp_cell (g.2.1 2) (n0, rfs f)).slots.getD ((nI sp).toNatClampNeg + i) .null = va_rf (f (sp + i)) := by
        rw [csp]
        show (arrV (g.2.1 2) n0 (fun j => va_rf (f j))).slots.getD _ _ = _
        rw [Array.getD_eq_getD_getElem?, arrV_read _ _ (by omega)]
        rfl
      rw [e]
      cases hy : f (sp + i) with
      | none => exact ⟨rfl, trivial⟩
      | some y =>
        obtain ⟨cellV, g1, g2, ⟨kC, hkC⟩, hasg⟩ := hel i hi y hy
        obtain ⟨kA, comp, r1, r2, r3, -⟩ := (hK.2 2 _ rfl).2
        cases hk1.symm.trans r1
        cases hkk1.symm.trans r2
        obtain ⟨kE, hkE, -⟩ := Vm.findClass_spec r3
        obtain ⟨kC', hkC', -⟩ := hal.2.2 _ _ hkC
        obtain ⟨kE', hkE', -⟩ := hal.2.2 _ _ hkE
        refine ⟨rfl, cellV, (show T.heap[y]? = some cellV by rw [hT]; exact g1), (fun q h => by rw [h] at g2; cases g2), ⟨kC', hkC'⟩, ?_, ?_⟩
        · exact ⟨kE', hkE'⟩
        · show vm₁.assignable _ _ = true
          rw [hal.assignable]
          exact hasg _ r3)
    (g := F0 m pc ls (.int (nI n) :: .int (nI dp) :: .ref a :: .int (nI sp) :: .ref a0 :: rest)) rfl (by rw [fx.2.2.2.2.2.2]; exact hl) (rest := rest) rfl (by rw [fx.2.1]; exact hdg) hframes (by show 2 * 0 + _ + _ ≤ _; omega)
  have e1 : copied (vp_cell (g.2.1 2) (n0, rfs f)) (vp_cell (g.2.1 2) (n1, rfs f1)) (nI sp) (nI dp) (nI n) = vp_cell (g.2.1 2) (n1, rfs (va_cpy f f1 sp dp n)) := by
    rw [vp_cell_q, vp_cell_q, vp_cell_q]
    have := va_copied (fun z => va_rf z) (g.2.1 2) (g.2.1 2) (n1 := n1) (dp := dp) f f1 h4
    unfold copied
    rw [csp, cdp, cn]
    exact this
  rw [e1] at X' step
  have hl9 : a < H.size := (Array.getElem?_eq_some_iff.mp hc1).1
  have hheap : ((T.setVm vm').setCell a (vp_cell (g.2.1 2) (n1, rfs (va_cpy f f1 sp dp n)))).heap = H.setIfInBounds a (vp_cell (g.2.1 2) (n1, rfs (va_cpy f f1 sp dp n))) := by rw [← hT]; rfl
  have oq : ∀ q : Nat, q ≠ a → (H.setIfInBounds a (vp_cell (g.2.1 2) (n1, rfs (va_cpy f f1 sp dp n))))[q]? = H[q]? := fun q hq => by simp [Array.getElem?_setIfInBounds, Ne.symm hq]
  obtain ⟨t, a1, b1⟩ := kk _ _ (show (H.setIfInBounds a _)[a]? = some _ by simp [Array.getElem?_setIfInBounds, hl9]) (by simp) oq ⟨by simp; exact hS.1, fun q g1 g2 => by
      rw [oq q (fun e => g2 (by rw [e]; exact hA))]
      exact hS.2.1 q g1 g2, fun q hq => by
      rcases List.mem_append.mp hq with h | h
      · exact hS.2.2 q h
      · obtain ⟨z, -, hz⟩ := List.mem_map.mp h
        rw [← hz]
        exact hA⟩ _ hheap X'
  exact ⟨t, step t a1, b1⟩
theorem mcopyi (fx : Fx p s m args c cc own g A nL) (hl : ls.size = nL) {index : Nat} (hlk : Cond.methodLink own index arraycopyName ∈ lw_all) {a0 n0 n1 : Nat} {f f1 : Nat → Int32} (h0 : mAt g a0 (.inl (g.2.1 0, n0, .inl f)) H) (h1 : mAt g a (.inl (g.2.1 0, n1, .inl f1)) H) (hS : va_S A H0 H locs) (hA : A a)
    (sp dp n : Nat) (h4 : sp + n ≤ n0) (h5 : dp + n ≤ n1) (hb0 : n0 < 2 ^ 31) (hb1 : n1 < 2 ^ 31) {i1 i2 i3 : Int32} (e1 : i1 = nI sp) (e2 : i2 = nI dp) (e3 : i3 = nI n)
    (hframes : 1 ≤ R.frames) (hlocals : (rest.map fun v => v.category).sum + (nativeFrameWords "java/lang/System" "arraycopy" 5 + 11) ≤ R.locals) (hdg : decode cc pc = .ok (.invokestatic index, 3))
    (kk : ∀ (H1 : Heap) (locs1 : List Loc), mAt g a (.inl (g.2.1 0, n1, .inl (va_cpy f f1 sp dp n))) H1 → H1.size = H.size → (∀ q, q ≠ a → H1[q]? = H[q]?) → va_S A H0 H1 locs1 → W p l e R s m args below meth c H1 locs1 cells slots Q (F0 m (pc + 3) ls rest)) : W p l e R s m args below meth c H locs cells slots Q (F0 m pc ls (.int i3 :: .int i2 :: .ref a :: .int i1 :: .ref a0 :: rest)) := by
  subst e1; subst e2; subst e3
  have csp : (nI sp).toNatClampNeg = sp := nI_clamp (by omega)
  have cdp : (nI dp).toNatClampNeg = dp := nI_clamp (by omega)
  have cn : (nI n).toNatClampNeg = n := nI_clamp (by omega)
  have hK := fx.2.2.2.2.1.1
  intro T hT X
  have hc0 : H[a0]? = some (vp_cell (g.2.1 0) (n0, .inl f)) := h0
  have hc1 : H[a]? = some (vp_cell (g.2.1 0) (n1, .inl f1)) := h1
  obtain ⟨-, k0, hk0, cm0, hkk0⟩ := (hK.2 0 _ rfl).1 n0 (fun j => .int (f j))
  obtain ⟨-, k1, hk1, cm1, hkk1⟩ := (hK.2 0 _ rfl).1 n1 (fun j => .int (f1 j))
  obtain ⟨vm', X', step⟩ := X.arraycopy fx.1 fx.2.2.2.1 (fx.2.2.1 _ hlk) (fx.2.2.1 _ q415) (fx.2.2.1 _ q414) (fx.2.2.1 _ q69) (src := a0) (dst := a) (cs := vp_cell (g.2.1 0) (n0, .inl f)) (cd := vp_cell (g.2.1 0) (n1, .inl f1)) (srcPos := nI sp) (destPos := nI dp) (n := nI n) (by rw [hT]; exact hc0) (by rw [hT]; exact hc1)
    (fun _ h => by cases h) (fun _ h => by cases h) (fun h => by cases h) (fun h => by cases h) hk0 hk1 hkk0 hkk1 rfl (nI_pos (by omega)) (nI_pos (by omega)) (nI_pos (by omega))
    (by rw [nI_toInt (by omega), nI_toInt (by omega)]; show ¬ _ > ((arrV (g.2.1 0) n0 (fun j => .int (f j))).slots.size : Int); rw [arrV_size]; omega)
    (by rw [nI_toInt (by omega), nI_toInt (by omega)]; show ¬ _ > ((arrV (g.2.1 0) n1 (fun j => .int (f1 j))).slots.size : Int); rw [arrV_size]; omega)
    (fun vm₁ hal i hi => by
      rw [cn] at hi
      have e : (vp_cell (g.2.1 0) (n0, .inl f)).slots.getD ((nI sp).toNatClampNeg + i) .null = .int (f (sp + i)) := by
        rw [csp]
        show (arrV (g.2.1 0) n0 (fun j => .int (f j))).slots.getD _ _ = _
        rw [Array.getD_eq_getD_getElem?, arrV_read _ _ (by omega)]
        rfl
      rw [e]
      exact ⟨rfl, trivial⟩)
    (g := F0 m pc ls (.int (nI n) :: .int (nI dp) :: .ref a :: .int (nI sp) :: .ref a0 :: rest)) rfl (by rw [fx.2.2.2.2.2.2]; exact hl) (rest := rest) rfl (by rw [fx.2.1]; exact hdg) hframes (by show 2 * 0 + _ + _ ≤ _; omega)
  have e1 : copied (vp_cell (g.2.1 0) (n0, .inl f)) (vp_cell (g.2.1 0) (n1, .inl f1)) (nI sp) (nI dp) (nI n) = vp_cell (g.2.1 0) (n1, .inl (va_cpy f f1 sp dp n)) := by
    rw [vp_cell_i, vp_cell_i, vp_cell_i]
    have := va_copied (fun z => Value.int z) (g.2.1 0) (g.2.1 0) (n1 := n1) (dp := dp) f f1 h4
    unfold copied
    rw [csp, cdp, cn]
    exact this
  rw [e1] at X' step
  have hl9 : a < H.size := (Array.getElem?_eq_some_iff.mp hc1).1
  have hheap : ((T.setVm vm').setCell a (vp_cell (g.2.1 0) (n1, .inl (va_cpy f f1 sp dp n)))).heap = H.setIfInBounds a (vp_cell (g.2.1 0) (n1, .inl (va_cpy f f1 sp dp n))) := by rw [← hT]; rfl
  have oq : ∀ q : Nat, q ≠ a → (H.setIfInBounds a (vp_cell (g.2.1 0) (n1, .inl (va_cpy f f1 sp dp n))))[q]? = H[q]? := fun q hq => by simp [Array.getElem?_setIfInBounds, Ne.symm hq]
  obtain ⟨t, a1, b1⟩ := kk _ _ (show (H.setIfInBounds a _)[a]? = some _ by simp [Array.getElem?_setIfInBounds, hl9]) (by simp) oq ⟨by simp; exact hS.1, fun q g1 g2 => by
      rw [oq q (fun e => g2 (by rw [e]; exact hA))]
      exact hS.2.1 q g1 g2, fun q hq => by
      rcases List.mem_append.mp hq with h | h
      · exact hS.2.2 q h
      · obtain ⟨z, -, hz⟩ := List.mem_map.mp h
        rw [← hz]
        exact hA⟩ _ hheap X'
  exact ⟨t, step t a1, b1⟩
/-- nothing copied out of the empty list's array -/
theorem mcopy0 (fx : Fx p s m args c cc own g A nL) (hl : ls.size = nL) {index : Nat} (hlk : Cond.methodLink own index arraycopyName ∈ lw_all) {n1 : Nat} {f1 : Nat → Option Nat} (h1 : mAt g a (.inl (g.2.1 2, n1, rfs f1)) H) (hS : va_S A s.heap H locs) (hA : A a)
    (hframes : 1 ≤ R.frames) (hlocals : (rest.map fun v => v.category).sum + (nativeFrameWords "java/lang/System" "arraycopy" 5 + 11) ≤ R.locals) (hdg : decode cc pc = .ok (.invokestatic index, 3))
    (kk : ∀ (H1 : Heap) (locs1 : List Loc), mAt g a (.inl (g.2.1 2, n1, rfs f1)) H1 → H1.size = H.size → (∀ q, q ≠ a → H1[q]? = H[q]?) → va_S A s.heap H1 locs1 → W p l e R s m args below meth c H1 locs1 cells slots Q (F0 m (pc + 3) ls rest)) : W p l e R s m args below meth c H locs cells slots Q (F0 m pc ls (.int 0 :: .int 0 :: .ref a :: .int 0 :: .ref (g.2.2 1) :: rest)) := by
  have hK := fx.2.2.2.2.1.1
  intro T hT X
  obtain ⟨cell, t1, t2, t3, t4, t5, t6, t7⟩ := fx.2.2.2.2.1.2.2.da.1
  have hc0 : H[g.2.2 1]? = some cell := by rw [hS.2.1 _ (Array.getElem?_eq_some_iff.mp t1).1 (fun z => t7 (fx.2.2.2.2.2.1 _ z))]; exact t1
  have hc1 : H[a]? = some (vp_cell (g.2.1 2) (n1, rfs f1)) := h1
  obtain ⟨ho, k0, hk0, cm0, hkk0⟩ := t2
  obtain ⟨-, k1, hk1, cm1, hkk1⟩ := (hK.2 2 _ rfl).1 n1 (fun j => va_rf (f1 j))
  obtain ⟨vm', X', step⟩ := X.arraycopy fx.1 fx.2.2.2.1 (fx.2.2.1 _ hlk) (fx.2.2.1 _ q415) (fx.2.2.1 _ q414) (fx.2.2.1 _ q69) (src := g.2.2 1) (dst := a) (cs := cell) (cd := vp_cell (g.2.1 2) (n1, rfs f1)) (srcPos := 0) (destPos := 0) (n := 0) (by rw [hT]; exact hc0) (by rw [hT]; exact hc1)
    ho (fun _ h => by cases h) t3 (fun h => by cases h) hk0 hk1 hkk0 hkk1 rfl (by decide) (by decide) (by decide)
    (by show ¬ (0 : Int) > _; omega)
    (by show ¬ (0 : Int) > _; omega)
    (fun vm₁ hal i hi => absurd hi (by show ¬ i < 0; omega))
    (g := F0 m pc ls (.int 0 :: .int 0 :: .ref a :: .int 0 :: .ref (g.2.2 1) :: rest)) rfl (by rw [fx.2.2.2.2.2.2]; exact hl) (rest := rest) rfl (by rw [fx.2.1]; exact hdg) hframes (by show 2 * 0 + _ + _ ≤ _; omega)
  have e1 : copied cell (vp_cell (g.2.1 2) (n1, rfs f1)) 0 0 0 = vp_cell (g.2.1 2) (n1, rfs f1) := by
    show (arrV (g.2.1 2) n1 (fun j => va_rf (f1 j))).storeRun 0 (cell.stretch 0 0) = _
    rw [show cell.stretch 0 0 = [] from rfl, Cell.storeRun, va_pairs]
    rw [vp_cell_q]
    congr 1
  rw [e1] at X' step
  have hl9 : a < H.size := (Array.getElem?_eq_some_iff.mp hc1).1
  have hheap : ((T.setVm vm').setCell a (vp_cell (g.2.1 2) (n1, rfs f1))).heap = H.setIfInBounds a (vp_cell (g.2.1 2) (n1, rfs f1)) := by rw [← hT]; rfl
  have oq : ∀ q : Nat, q ≠ a → (H.setIfInBounds a (vp_cell (g.2.1 2) (n1, rfs f1)))[q]? = H[q]? := fun q hq => by simp [Array.getElem?_setIfInBounds, Ne.symm hq]
  obtain ⟨t, a1, b1⟩ := kk _ _ (show (H.setIfInBounds a _)[a]? = some _ by simp [Array.getElem?_setIfInBounds, hl9]) (by simp) oq ⟨by simp; exact hS.1, fun q g1 g2 => by
      rw [oq q (fun e => g2 (by rw [e]; exact hA))]
      exact hS.2.1 q g1 g2, fun q hq => by
      rcases List.mem_append.mp hq with h | h
      · exact hS.2.2 q h
      · obtain ⟨z, -, hz⟩ := List.mem_map.mp h
        rw [← hz]
        exact hA⟩ _ hheap X'
  exact ⟨t, step t a1, b1⟩
/-- getClass() of an array of Objects -/
theorem mgetC (fx : Fx p s m args c cc own g A nL) (hl : ls.size = nL) {index : Nat} (hlk : Cond.methodLink own index ⟨"java/lang/Object", "getClass", "()Ljava/lang/Class;"⟩ ∈ lw_all)
    (hr : ∃ cell : Cell, H[a]? = some cell ∧ cell.vm.isStatics = false ∧ s.vm.findClass "[Ljava/lang/Object;" = some cell.cls) (hframes : 1 ≤ R.frames) (hlocals : (rest.map fun v => v.category).sum + 14 ≤ R.locals) (hdg : decode cc pc = .ok (.invokevirtual index, 3))
    (k : W p l e R s m args below meth c H locs cells slots Q (F0 m (pc + 3) ls (.ref (g.2.2 3) :: rest))) : W p l e R s m args below meth c H locs cells slots Q (F0 m pc ls (.ref a :: rest)) :=
  va_getC fx.1 fx.2.1 (by rw [fx.2.2.2.2.2.2]; exact hl.symm) fx.2.2.2.1 (fx.2.2.1 _ hlk) (va_Nw.use rfl (fx.2.2.2.2.1.2.1 _ (nest_in q1537 rfl))) (fx.2.2.1 _ q1536) (fx.2.2.1 _ q385) (fx.2.2.1 _ q403) fx.2.2.2.2.1.2.2.mi hr hframes hlocals hdg k
theorem mldcM (fx : Fx p s m args c cc own g A nL) {index : Nat} (hlk : Cond.classLink own index "[Ljava/lang/Object;" ∈ lw_all) (hdg : decode cc pc = .ok (.ldc index, 2))
    (k : W p l e R s m args below meth c H locs cells slots Q (F0 m (pc + 2) ls (.ref (g.2.2 3) :: rest))) : W p l e R s m args below meth c H locs cells slots Q (F0 m pc ls rest) :=
  va_ldcM fx.1 fx.2.1 fx.2.2.2.1 (fx.2.2.1 _ hlk) fx.2.2.2.2.1.2.2.mi hdg k
/-- an array of Objects of ours, as getClass asks for it -/
theorem mArrCls (fx : Fx p s m args c cc own g A nL) {n : Nat} {f : Nat → Option Nat} (h : mAt g a (.inl (g.2.1 2, n, rfs f)) H) : ∃ cell : Cell, H[a]? = some cell ∧ cell.vm.isStatics = false ∧ s.vm.findClass "[Ljava/lang/Object;" = some cell.cls :=
  ⟨_, h, rfl, va_nmO (fx.2.2.2.2.1.1.2 2 _ rfl).2 rfl⟩
theorem mDECls (fx : Fx p s m args c cc own g A nL) (hS : va_S A s.heap H locs) : ∃ cell : Cell, H[g.2.2 1]? = some cell ∧ cell.vm.isStatics = false ∧ s.vm.findClass "[Ljava/lang/Object;" = some cell.cls := by
  obtain ⟨cell, e1, e2, e3, e4⟩ := fx.2.2.2.2.1.2.2.da.2
  exact ⟨cell, by rw [hS.2.1 _ (Array.getElem?_eq_some_iff.mp e1).1 (fun z => e4 (fx.2.2.2.2.2.1 _ z))]; exact e1, e2, e3⟩
theorem mDElen (fx : Fx p s m args c cc own g A nL) (hS : va_S A s.heap H locs) (hdg : decode cc pc = .ok (.arraylength, 1))
    (kk : W p l e R s m args below meth c H locs cells slots Q (F0 m (pc + 1) ls (.int 0 :: rest))) : W p l e R s m args below meth c H locs cells slots Q (F0 m pc ls (.ref (g.2.2 1) :: rest)) :=
  va_tlen fx.1 fx.2.1 (va_T.narrow fx.2.2.2.2.1.2.2.da.1 fx.2.2.2.2.2.1) hS (v := 0) rfl hdg kk
end MX
