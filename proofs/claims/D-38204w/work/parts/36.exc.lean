/-! METHODS THAT THROW -/
set_option maxRecDepth 100000
def exN : List String := ["java/lang/RuntimeException", "java/lang/Exception"]
theorem hatA : ∀ w ∈ vx_at0 "Canecrush" 3 "java/lang/IllegalArgumentException" exN, w ∈ lw_tbl := by decide +kernel
theorem hatS : ∀ w ∈ vx_at0 "Canecrush" 9 "java/lang/IllegalStateException" exN, w ∈ lw_tbl := by decide +kernel
theorem hatI : ∀ w ∈ vx_at0 "Canecrush" 12 "java/lang/IndexOutOfBoundsException" exN, w ∈ lw_tbl := by decide +kernel
theorem hatAg : (vx_at0 "Canecrush" 3 "java/lang/IllegalArgumentException" exN).all (fun w => goodWord w || nestW w) = true := by decide +kernel
theorem hatSg : (vx_at0 "Canecrush" 9 "java/lang/IllegalStateException" exN).all (fun w => goodWord w || nestW w) = true := by decide +kernel
theorem hatIg : (vx_at0 "Canecrush" 12 "java/lang/IndexOutOfBoundsException" exN).all (fun w => goodWord w || nestW w) = true := by decide +kernel
theorem tHat {L : List Cond} {g : GT} {s : State} {args : Array Value} (h1 : ∀ w ∈ L, w ∈ lw_tbl) (h2 : L.all (fun w => goodWord w || nestW w) = true) (hts : ∀ w ∈ lw_all, w.before args s = true) (hK : mK g s) : ∀ w ∈ L, w.before args s = true := by
  intro w hw
  have h3 := List.all_eq_true.mp h2 w hw
  by_cases h4 : goodWord w = true
  · exact hts w (List.mem_filter.mpr ⟨h1 w hw, h4⟩)
  · have h5 : nestW w = true := by
      simp only [Bool.or_eq_true] at h3
      exact h3.resolve_left h4
    exact va_Nw.use (nest_on h5) (hK.2.1 w (nest_in (h1 w hw) h5))
theorem tOt {L : List Cond} (h2 : L.all (fun w => goodWord w || nestW w) = true) : ∀ w ∈ L, vx_ot w = true := by
  intro w hw
  have h3 := List.all_eq_true.mp h2 w hw
  simp only [Bool.or_eq_true] at h3
  simp only [vx_ot, Bool.or_eq_true]
  rcases h3 with h | h
  · exact Or.inr h
  · exact Or.inl (nest_on h)
/-- thrown with the class E, nothing that was there has changed -/
def tX (E : String) : String → State → State → Prop := fun E' st t => E' = E ∧ va_F (fun _ => False) st t
/-- a method that throws E -/
def Tn (l : Launch) (g : GT) (y : MethodName) (cc : ByteArray) (mL : Nat) (ret : Option FieldType) (lv : Nat) (As : List Value) (E : String) (Ph : Heap → Prop) : Prop :=
  vx_Met l y (ws_ y cc mL ret) (mR lv 1 6) (va_Pc As (fun U => mK g U ∧ Ph U.heap)) (fun _ _ _ _ => False) (tX E) 1 6 (fun _ => False)
abbrev tQ (below : List Frame) (E : String) (args : Array Value) (s : State) : State → Prop := vx_MQ below (fun _ _ _ _ => False) (tX E) args s 1 6 (fun _ => False)
theorem Tn.start {l : Launch} {g : GT} {y : MethodName} {cc : ByteArray} {mL : Nat} {ret : Option FieldType} {lv : Nat} {As : List Value} {E : String} {Ph : Heap → Prop}
    (hy : plainName y.cls = true) (hL : (lg_sl As).length ≤ mL)
    (body : ∀ (p : Program) (e : Env) (s : State) (m : MethodId) (below : List Frame) (meth : Method) (c : Code) (ls : Array Slot) (H : Heap) (locs : List Loc), H = s.heap → p.tables.exec = Jvm.exec → c.code = cc → (∀ w ∈ lw_all, w.before As.toArray s = true) → s.vm.findClass y.cls = some m.cls → meth.locks = false → c.maxLocals = mL → (∀ x ∈ c.exceptionTable.toList, False) → mK g s → Ph H → va_S (fun _ => False) s.heap H locs → lv_has ls mL (lv_args 0 As) →
      W p l e (mR lv 1 6) s m As.toArray below meth c H locs 0 0 (tQ below E As.toArray s) (F0 m 0 ls [])) : Tn l g y cc mL ret lv As E Ph := by
  unfold Tn
  refine vx_ofW hy rfl (fun p e s m args below meth c s₁ B hml hex hP => ?_)
  obtain ⟨rfl, hK, hPh⟩ := hP
  have hts := atoms_spec (ws := ws_ y cc mL ret) B.pre
  have K := body p e s m below meth c _ s.heap [] rfl B.exec B.bytes (fun w h => hts w (List.mem_cons_of_mem _ h)) (findClass_of_methodNamed B.named) B.notSynchronized hml hex hK hPh va_S.rf (lv_entry As hL)
  rw [← lg_entry_eq] at K
  exact K
section TT
variable {p : Program} {l : Launch} {e : Env} {R : Room} {s : State} {m : MethodId} {args : Array Value} {below : List Frame} {meth : Method} {c : Code} {H : Heap} {locs : List Loc} {cells slots : Nat}
variable {cc : ByteArray} {pc : Nat} {ls : Array Slot} {rest st0 : List Value} {g : GT} {own E : String} {nL mc ms : Nat} {Qc : Array Value → State → Outcome → State → Prop}
/-- new E; dup; its constructor; athrow -/
theorem tThrow {ik ic : Nat} (fx : Fx p s m args c cc own g (fun _ => False) nL) (hst : l.stackTraces = false) (hfit : Bundle.fit E = true) (hk : Cond.classLink own ik E ∈ lw_all) (hini : Cond.initialized E ∈ lw_all)
    (h1 : ∀ w ∈ vx_at0 own ic E exN, w ∈ lw_tbl) (h2 : (vx_at0 own ic E exN).all (fun w => goodWord w || nestW w) = true) (hS : va_S (fun _ => False) s.heap H locs) (hl : ls.size = nL)
    (d0 : decode cc pc = .ok (.new ik, 3)) (d3 : decode cc (pc + 3) = .ok (.dup, 1)) (d4 : decode cc (pc + 4) = .ok (.invokespecial ic, 3)) (d7 : decode cc (pc + 7) = .ok (.athrow, 1)) (hex : ∀ x ∈ c.exceptionTable.toList, False)
    (hRf : 5 < R.frames) (hRl : (rest.map fun v => v.category).sum + 81 ≤ R.locals) (hRc : cells + 1 ≤ R.cells) (hRs : slots + 6 ≤ R.slots) (hlocks : meth.locks = false) (hc : cells + 1 ≤ mc) (hs : slots + 6 ≤ ms) :
    W p l e R s m args below meth c H locs cells slots (vx_MQ below Qc (tX E) args s mc ms (fun _ => False)) (F0 m pc ls rest) :=
  vx_throw0 fx.1 fx.2.1 hst fx.2.2.2.1 hfit (names := exN) (by decide) (fx.2.2.1 _ hk) (fx.2.2.1 _ hini) (tHat h1 h2 fx.2.2.1 fx.2.2.2.2.1)
    (fun w hw => by
      rcases List.mem_cons.mp hw with rfl | hw
      · rfl
      · rcases List.mem_cons.mp hw with rfl | hw
        · rfl
        · exact tOt h2 w hw)
    (fx.2.2.2.2.1.2.2.us.narrow (fun q h => h.elim)) (fx.2.2.2.2.1.2.2.ss.narrow (fun q h => h.elim)) hS (hl.trans fx.2.2.2.2.2.2.symm) d0 d3 d4 d7 (fun x hx => (hex x hx).elim) hRf hRl hRc hRs hlocks
    (fun t _ h8 h9 => ⟨rfl, Nat.le_trans hS.1 h8, fun q hq hn => (h9 q (Nat.lt_of_lt_of_le hq hS.1)).trans (hS.2.1 q hq hn)⟩) hS.2.2 hc hs
/-- a call that throws is this method's end -/
theorem tRun (hr : vx_Run p l e R s m args below meth c H locs cells slots 1 6 (F0 m pc ls st0) rest (fun _ _ _ => False) (tX E) (fun _ => False)) (hS : va_S (fun _ => False) s.heap H locs) (hex : ∀ x ∈ c.exceptionTable.toList, False) (hlocks : meth.locks = false) (hc : cells + 1 ≤ mc) (hs : slots + 6 ≤ ms) :
    W p l e R s m args below meth c H locs cells slots (vx_MQ below Qc (tX E) args s mc ms (fun _ => False)) (F0 m pc ls st0) := by
  intro T hT X
  rcases hr T hT X with ⟨v, st₀, t, T', L, h0, X', hL, e1, e2, hF, st⟩ | ⟨q, st₀, t, T', L, E', ce, h0, X', hL, e1, e2, ⟨hE, hF⟩, hce, hcv, hcl, st⟩
  · exact hF.elim
  · subst hE
    obtain ⟨k1, k2, k3⟩ := vx_keep h0 e1 hS (fun q _ h => h) (fun q h => h) hL hF
    obtain ⟨t2, a1, b1⟩ := vx_out (p := p) (l := l) (e := e) (R := R) (args := args) (below := below) (ls := ls) (rest := rest) (pc := pc) (H := T'.heap) (locs := locs ++ L) (cells := cells + 1) (slots := slots + 6) (Qc := Qc) (XC := tX E') (free := fun _ => False) (mc := mc) (ms := ms) (fun x hx => (hex x hx).elim) hlocks (by rw [e1]; exact hce) hcv hcl (fun t ht _ => ⟨rfl, by rw [ht]; exact k3.1, fun q hq hn => by rw [ht]; exact k3.2.1 q hq hn⟩) k3.2.2 hc hs T' rfl X'
    exact ⟨t2, st.trans a1, b1⟩
theorem tV {y : MethodName} {bytes : ByteArray} {mL index lv b ci N : Nat} {ret : Option FieldType} {As : List Value} {T : u_T} {fs : List Value} {Ph1 : Heap → Prop} (fx : Fx p s m args c cc own g (fun _ => False) nL)
    (hM : Tn l g y bytes mL ret lv (.ref b :: As) E Ph1) (hw : GoodIn lw_all (wsV own index y.cls y (ws_ y bytes mL ret)))
    (hd : y.cls ≠ "java/lang/invoke/MethodHandle" ∧ y.cls ≠ "java/lang/invoke/VarHandle" ∧ (parseMethodDescriptor y.desc).map (fun d => d.parameters.length) = some As.length)
    (hR : lv + 1 ≤ R.frames ∧ 8 + (mL + 11) + 64 * lv ≤ R.locals) (hcs : cells + 1 ≤ R.cells ∧ slots + 6 ≤ R.slots) (hl : ls.size = nL) (hS : va_S (fun _ => False) s.heap H locs)
    (hc : gC[ci]? = some (y.cls, T, N)) (hat : mAt g b (.inr (ci, fs)) H) (hst : st0 = As.reverse ++ .ref b :: rest) (hrest : (rest.map fun v => v.category).sum ≤ 8) (hP : Ph1 H) (hdg : decode cc pc = .ok (.invokevirtual index, 3))
    (hex : ∀ x ∈ c.exceptionTable.toList, False) (hlocks : meth.locks = false) (hc1 : cells + 1 ≤ mc) (hs1 : slots + 6 ≤ ms) : W p l e R s m args below meth c H locs cells slots (vx_MQ below Qc (tX E) args s mc ms (fun _ => False)) (F0 m pc ls st0) :=
  tRun (vx_runV (As := As) (n := As.length) (C := y.cls) ⟨fx.1, fx.2.1, fx.2.2.2.2.2.2, fx.2.2.2.1, fx.2.2.1⟩ hM (cwV As.length fx.2.2.1 hw rfl rfl rfl ⟨rfl, hd⟩ hR) ⟨kBlind, va_recv fx.2.2.2.2.1.1 hat.sg hc (q0 := 0) rfl, kPre fx hS hP⟩ rfl rfl hl hst (lv_room hrest) hdg hcs) hS hex hlocks hc1 hs1
theorem tS {y : MethodName} {bytes : ByteArray} {mL index lv : Nat} {ret : Option FieldType} {As : List Value} {Ph1 : Heap → Prop} (fx : Fx p s m args c cc own g (fun _ => False) nL)
    (hM : Tn l g y bytes mL ret lv As E Ph1) (hw : GoodIn lw_all (va_wsS own index y (ws_ y bytes mL ret)))
    (hd : y.cls ≠ "java/lang/invoke/MethodHandle" ∧ y.cls ≠ "java/lang/invoke/VarHandle" ∧ (parseMethodDescriptor y.desc).map (fun d => d.parameters.length) = some As.length)
    (hR : lv + 1 ≤ R.frames ∧ 8 + (mL + 11) + 64 * lv ≤ R.locals) (hcs : cells + 1 ≤ R.cells ∧ slots + 6 ≤ R.slots) (hl : ls.size = nL) (hS : va_S (fun _ => False) s.heap H locs)
    (hst : st0 = As.reverse ++ rest) (hrest : (rest.map fun v => v.category).sum ≤ 8) (hP : Ph1 H) (hdg : decode cc pc = .ok (.invokestatic index, 3))
    (hex : ∀ x ∈ c.exceptionTable.toList, False) (hlocks : meth.locks = false) (hc1 : cells + 1 ≤ mc) (hs1 : slots + 6 ≤ ms) : W p l e R s m args below meth c H locs cells slots (vx_MQ below Qc (tX E) args s mc ms (fun _ => False)) (F0 m pc ls st0) :=
  tRun (vx_runS (As := As) (n := As.length) ⟨fx.1, fx.2.1, fx.2.2.2.2.2.2, fx.2.2.2.1, fx.2.2.1⟩ hM (va_cwS As.length fx.2.2.1 hw rfl rfl rfl hd hR) ⟨kBlind, kPre fx hS hP⟩ rfl rfl hl hst (lv_room hrest) hdg hcs) hS hex hlocks hc1 hs1
end TT
