/-! BASE: the classes of the claim as one list, what is known all through a run (mK), contracts (Cn), rows by single cells -/
set_option maxRecDepth 100000
abbrev gC : List vw_C := [(RX1, TX1, 10), (RX2, TX2, 22), (RJ2, TJ2, 3), (RX3, TX3, 4), (RX4, TX4, 22), (RX5, TX5, 11), (RX6, TX6, 11), (RX7, TX7, 4), (RX8, TX8, 4), (RX9, TX9, 9), (RX10, TX10, 8), (RJ17, TJ17, 1)]
/-- the run's constants: classes, array classes, addresses (0: where the run's own cells begin, 1: the empty list's array, 2: the cache of Integers, 3: the mirror of Object[], 1000 + k: the k-th cached Integer) -/
abbrev GT : Type := va_G × (Nat → ClassId) × (Nat → Nat)
def gT (g : GT) : List (ClassId × FieldType) := [(g.2.1 0, .int), (g.2.1 1, .long), (g.2.1 2, .object "java/lang/Object")]
def bA (g : GT) : Nat → Prop := fun q => g.2.2 0 ≤ q
def fA (ft : Nat → Prop) (sz : Nat) : Nat → Prop := fun q => ft q ∨ sz ≤ q
/-- words that hold all through a run, but don't ride in lw_all -/
def nestW (w : Cond) : Bool := match w with
  | .fieldLinkNest _ _ _ _ _ _ => true
  | .methodLinkNest _ _ _ _ => true
  | .declares _ => true
  | .castable _ _ => true
  | _ => false
def lw_nest : List Cond := lw_tbl.filter nestW
theorem nest_in {w : Cond} (h : w ∈ lw_tbl) (hn : nestW w = true) : w ∈ lw_nest := List.mem_filter.mpr ⟨h, hn⟩
theorem nest_on {w : Cond} (hn : nestW w = true) : w.onTables = true := by
  cases w <;> first | rfl | cases hn
theorem nest_warm {w : Cond} (hn : nestW w = true) {s U : State} (hW : s.WarmedH U.vm) (h : va_Nw w s) : va_Nw w U := by
  cases w <;> first | exact va_Nw.warmF hW h | exact va_Nw.warmM hW h | exact va_Nw.warmD hW h | exact va_Nw.warmC hW h | cases hn
/-- the empty list's array -/
def mDE (g : GT) (U : State) (H : Heap) : Prop := va_T (.object "java/lang/Object") (g.2.2 1) 0 (fun _ => .null) (bA g) U H ∧ va_O "[Ljava/lang/Object;" (g.2.2 1) (bA g) U H
/-- what the run's start gives of statics, and what stays so -/
def mE (g : GT) (U : State) : Prop :=
  g.2.2 0 ≤ U.heap.size ∧
  va_Z "java/util/ArrayList" "DEFAULTCAPACITY_EMPTY_ELEMENTDATA" "[Ljava/lang/Object;" (.ref (g.2.2 1)) (bA g) U U.heap ∧
  mDE g U U.heap ∧
  va_Z "java/lang/Integer$IntegerCache" "high" "I" (.int 127) (bA g) U U.heap ∧
  va_Z "java/lang/Integer$IntegerCache" "cache" "[Ljava/lang/Integer;" (.ref (g.2.2 2)) (bA g) U U.heap ∧
  va_T (.object "java/lang/Integer") (g.2.2 2) 256 (fun k => .ref (g.2.2 (1000 + k))) (bA g) U U.heap ∧
  vb_C (fun k => g.2.2 (1000 + k)) (bA g) U U.heap ∧
  vx_Zq Bundle.tN "UNASSIGNED_STACK" Bundle.steD (bA g) U U.heap ∧
  vx_Zq Bundle.tN "SUPPRESSED_SENTINEL" Bundle.listD (bA g) U U.heap ∧
  va_Mi "[Ljava/lang/Object;" (g.2.2 3) U ∧
  va_AO "java/lang/Object" U ∧
  va_Fw "java/util/ArrayList" ⟨"java/util/Collection", "toArray", "()[Ljava/lang/Object;"⟩ ⟨"java/util/ArrayList", "toArray", "()[Ljava/lang/Object;"⟩ U
/-- what is known all through a run -/
def mK (g : GT) (U : State) : Prop := va_K g.1 gC (gT g) U ∧ (∀ w ∈ lw_nest, va_Nw w U) ∧ mE g U
theorem mE.moved {g : GT} {u U : State} (hvm : u.vm.Alike U.vm) (hz : u.heap.size ≤ U.heap.size) (hq : ∀ a : Nat, a < u.heap.size → ¬ bA g a → U.heap[a]? = u.heap[a]?) (h : mE g u) : mE g U := by
  obtain ⟨h0, h1, h2, h3, h4, h5, h6, h7, h8, h9, h10, h11⟩ := h
  exact ⟨Nat.le_trans h0 hz, va_Z.moved hvm (h1.kept hq), ⟨va_T.moved hvm (h2.1.kept hq), va_O.moved hvm (h2.2.kept hq)⟩, va_Z.moved hvm (h3.kept hq), va_Z.moved hvm (h4.kept hq), va_T.moved hvm (h5.kept hq), vb_C.moved hvm (h6.kept hq), vx_Zq.moved hvm (h7.kept hq), vx_Zq.moved hvm (h8.kept hq), va_Mi.moved hvm h9, va_AO.moved hvm h10, va_Fw.moved (by decide +kernel) hvm h11⟩
theorem mK.moved {g : GT} {u U : State} (hW : u.WarmedH U.vm) (hz : u.heap.size ≤ U.heap.size) (hq : ∀ a : Nat, a < u.heap.size → ¬ bA g a → U.heap[a]? = u.heap[a]?) (h : mK g u) : mK g U :=
  ⟨va_K.moved hW.alike h.1, fun w hw => nest_warm (List.mem_filter.mp hw).2 hW (h.2.1 w hw), mE.moved hW.alike hz hq h.2.2⟩
theorem mK.same {g : GT} {u U : State} (hv : u.vm = U.vm) (hh : u.heap = U.heap) (h : mK g u) : mK g U :=
  ⟨va_K.moved (by rw [hv]; exact Vm.Alike.refl _) h.1, fun w hw => va_Nw.same (nest_on (List.mem_filter.mp hw).2) hv (h.2.1 w hw), mE.moved (by rw [hv]; exact Vm.Alike.refl _) (by rw [hh]; exact Nat.le_refl _) (fun a _ _ => by rw [hh]) h.2.2⟩
theorem mE.sz {g : GT} {U : State} (h : mE g U) : g.2.2 0 ≤ U.heap.size := h.1
theorem mE.de {g : GT} {U : State} (h : mE g U) : va_Z "java/util/ArrayList" "DEFAULTCAPACITY_EMPTY_ELEMENTDATA" "[Ljava/lang/Object;" (.ref (g.2.2 1)) (bA g) U U.heap := h.2.1
theorem mE.da {g : GT} {U : State} (h : mE g U) : mDE g U U.heap := h.2.2.1
theorem mE.hi {g : GT} {U : State} (h : mE g U) : va_Z "java/lang/Integer$IntegerCache" "high" "I" (.int 127) (bA g) U U.heap := h.2.2.2.1
theorem mE.ca {g : GT} {U : State} (h : mE g U) : va_Z "java/lang/Integer$IntegerCache" "cache" "[Ljava/lang/Integer;" (.ref (g.2.2 2)) (bA g) U U.heap := h.2.2.2.2.1
theorem mE.ct {g : GT} {U : State} (h : mE g U) : va_T (.object "java/lang/Integer") (g.2.2 2) 256 (fun k => .ref (g.2.2 (1000 + k))) (bA g) U U.heap := h.2.2.2.2.2.1
theorem mE.bc {g : GT} {U : State} (h : mE g U) : vb_C (fun k => g.2.2 (1000 + k)) (bA g) U U.heap := h.2.2.2.2.2.2.1
theorem mE.us {g : GT} {U : State} (h : mE g U) : vx_Zq Bundle.tN "UNASSIGNED_STACK" Bundle.steD (bA g) U U.heap := h.2.2.2.2.2.2.2.1
theorem mE.ss {g : GT} {U : State} (h : mE g U) : vx_Zq Bundle.tN "SUPPRESSED_SENTINEL" Bundle.listD (bA g) U U.heap := h.2.2.2.2.2.2.2.2.1
theorem mE.mi {g : GT} {U : State} (h : mE g U) : va_Mi "[Ljava/lang/Object;" (g.2.2 3) U := h.2.2.2.2.2.2.2.2.2.1
theorem mE.ao {g : GT} {U : State} (h : mE g U) : va_AO "java/lang/Object" U := h.2.2.2.2.2.2.2.2.2.2.1
theorem mE.fw {g : GT} {U : State} (h : mE g U) : va_Fw "java/util/ArrayList" ⟨"java/util/Collection", "toArray", "()[Ljava/lang/Object;"⟩ ⟨"java/util/ArrayList", "toArray", "()[Ljava/lang/Object;"⟩ U := h.2.2.2.2.2.2.2.2.2.2.2
/-- a contract's end -/
def mQ (A : Nat → Prop) (Qh : Heap → Option Value → Heap → Prop) : Array Value → State → Outcome → State → Prop := fun _ st o t => (∃ v, o = .returned v ∧ Qh st.heap v t.heap) ∧ va_F A st t
abbrev mR (lv mc ms : Nat) : Room := { frames := lv, cells := mc, slots := ms, locals := 64 * lv }
/-- a contract: from every heap with Ph the method returns, with Qh between the heaps; only A may change; lv: the depth of calls below -/
def Cn (l : Launch) (g : GT) (y : MethodName) (cc : ByteArray) (mL : Nat) (ret : Option FieldType) (lv mc ms : Nat) (As : List Value) (A : Nat → Prop) (Ph : Heap → Prop) (Qh : Heap → Option Value → Heap → Prop) : Prop :=
  Met l y (ws_ y cc mL ret) (mR lv mc ms) (va_Pc As (fun U => mK g U ∧ Ph U.heap)) (mQ A Qh) mc ms A
theorem Cn.start {l : Launch} {g : GT} {y : MethodName} {cc : ByteArray} {mL : Nat} {ret : Option FieldType} {lv mc ms : Nat} {As : List Value} {A : Nat → Prop} {Ph : Heap → Prop} {Qh : Heap → Option Value → Heap → Prop}
    (hy : plainFor y = true) (hL : (lg_sl As).length ≤ mL)
    (body : ∀ (p : Program) (e : Env) (s : State) (m : MethodId) (below : List Frame) (meth : Method) (c : Code) (ls : Array Slot) (H : Heap) (locs : List Loc), H = s.heap → p.tables.exec = Jvm.exec → c.code = cc → meth.sig.returnType = ret → (∀ w ∈ lw_all, w.before As.toArray s = true) → s.vm.findClass y.cls = some m.cls → meth.locks = false → c.maxLocals = mL → meth.name = y.name → mK g s → Ph H → va_S A s.heap H locs → lv_has ls mL (lv_args 0 As) →
      W p l e (mR lv mc ms) s m As.toArray below meth c H locs 0 0 (MQ below (mQ A Qh) As.toArray s mc ms A) (F0 m 0 ls [])) : Cn l g y cc mL ret lv mc ms As A Ph Qh := by
  unfold Cn Met
  refine MetFree.of_bodySF (code := cc) (maxLocals := mL) (ret := ret) hy ?_ ?_
  · intro args s m h hn
    obtain ⟨meth, c, h1, h2, h3, h4, h5, h6, -, -⟩ := Cond.code_spec hn (atoms_spec (ws := ws_ y cc mL ret) h _ List.mem_cons_self)
    exact ⟨meth, c, h1, h2, h3, h4, h5, h6⟩
  · intro p e s m args below meth c s₁ B hml hP _
    have hh0 : s₁.heap = s.heap := by rw [B.state]; rfl
    obtain ⟨rfl, hK, hPh⟩ := hP
    have hts := atoms_spec (ws := ws_ y cc mL ret) B.pre
    have K := body p e s m below meth c _ s.heap [] rfl B.exec B.bytes B.returns (fun w h => hts w (List.mem_cons_of_mem _ h)) (findClass_of_methodNamed B.named) B.notSynchronized hml (name_of_methodNamed B.named B.method).1 hK hPh va_S.rf (lv_entry As hL)
    rw [← lg_entry_eq] at K
    obtain ⟨t, a1, o, b1, b2, b3⟩ := K s₁ hh0 (Stand.of_body B)
    exact ⟨t, o, a1, b1, b2, ⟨b3.1, b3.2⟩⟩
section MR
variable {p : Program} {l : Launch} {e : Env} {R : Room} {s : State} {m : MethodId} {args : Array Value} {below : List Frame} {meth : Method} {c : Code} {H : Heap} {locs : List Loc} {cells slots : Nat} {Q : State → Prop}
variable {cc : ByteArray} {pc : Nat} {ls : Array Slot} {rest : List Value} {A : Nat → Prop} {a : Nat} {H0 : Heap} {g : GT} {mc ms : Nat} {Qh : Heap → Option Value → Heap → Prop}
/-! ends -/
theorem ri (hx : p.tables.exec = Jvm.exec) (hb : c.code = cc) (hr : meth.sig.returnType = some .int) (hlocks : meth.locks = false) {v : Int32} (hS : va_S A s.heap H locs) (hQ : Qh s.heap (some (.int v)) H) (hc : cells ≤ mc ∧ slots ≤ ms) (hdg : decode cc pc = .ok (.ireturn, 1)) :
    W p l e R s m args below meth c H locs cells slots (MQ below (mQ A Qh) args s mc ms A) (F0 m pc ls [.int v]) :=
  W.widen hc.1 hc.2 (W.iret hx hb hr (fun t ht _ => ⟨⟨_, rfl, by rw [ht]; exact hQ⟩, hS.F ht⟩) hS.2.2 hdg)
theorem rz (hx : p.tables.exec = Jvm.exec) (hb : c.code = cc) (hr : meth.sig.returnType = some .boolean) (hlocks : meth.locks = false) {v : Int32} (hn : narrow .boolean (.int v) = .int v) (hS : va_S A s.heap H locs) (hQ : Qh s.heap (some (.int v)) H) (hc : cells ≤ mc ∧ slots ≤ ms) (hdg : decode cc pc = .ok (.ireturn, 1)) :
    W p l e R s m args below meth c H locs cells slots (MQ below (mQ A Qh) args s mc ms A) (F0 m pc ls [.int v]) :=
  W.widen hc.1 hc.2 (W.zret hx hb hr hn (fun t ht _ => ⟨⟨_, rfl, by rw [ht]; exact hQ⟩, hS.F ht⟩) hS.2.2 hdg)
theorem rv (hx : p.tables.exec = Jvm.exec) (hb : c.code = cc) (hr : meth.sig.returnType = none) (hlocks : meth.locks = false) (hS : va_S A s.heap H locs) (hQ : Qh s.heap none H) (hc : cells ≤ mc ∧ slots ≤ ms) (hdg : decode cc pc = .ok (.return_, 1)) :
    W p l e R s m args below meth c H locs cells slots (MQ below (mQ A Qh) args s mc ms A) (F0 m pc ls []) :=
  W.widen hc.1 hc.2 (W.vret hx hb hr (fun t ht _ => ⟨⟨_, rfl, by rw [ht]; exact hQ⟩, hS.F ht⟩) hS.2.2 hdg)
theorem rl (hx : p.tables.exec = Jvm.exec) (hb : c.code = cc) (hr : meth.sig.returnType = some .long) (hlocks : meth.locks = false) {v : Int64} (hS : va_S A s.heap H locs) (hQ : Qh s.heap (some (.long v)) H) (hc : cells ≤ mc ∧ slots ≤ ms) (hdg : decode cc pc = .ok (.lreturn, 1)) :
    W p l e R s m args below meth c H locs cells slots (MQ below (mQ A Qh) args s mc ms A) (F0 m pc ls [.long v]) :=
  W.widen hc.1 hc.2 (W.lret hx hb hr (fun t ht _ => ⟨⟨_, rfl, by rw [ht]; exact hQ⟩, hS.F ht⟩) hS.2.2 hdg)
theorem rd (hx : p.tables.exec = Jvm.exec) (hb : c.code = cc) (hr : meth.sig.returnType = some .double) (hlocks : meth.locks = false) {v : UInt64} (hS : va_S A s.heap H locs) (hQ : Qh s.heap (some (.double v)) H) (hc : cells ≤ mc ∧ slots ≤ ms) (hdg : decode cc pc = .ok (.dreturn, 1)) :
    W p l e R s m args below meth c H locs cells slots (MQ below (mQ A Qh) args s mc ms A) (F0 m pc ls [.double v]) :=
  W.widen hc.1 hc.2 (W.dret hx hb hr (fun t ht _ => ⟨⟨_, rfl, by rw [ht]; exact hQ⟩, hS.F ht⟩) hS.2.2 hdg)
theorem ra {rt : FieldType} (hx : p.tables.exec = Jvm.exec) (hb : c.code = cc) (hr : meth.sig.returnType = some rt) (hrt : (∃ n, rt = .object n) ∨ ∃ t, rt = .array t) (hlocks : meth.locks = false) {v : Nat} (hS : va_S A s.heap H locs) (hQ : Qh s.heap (some (.ref v)) H) (hc : cells ≤ mc ∧ slots ≤ ms) (hdg : decode cc pc = .ok (.areturn, 1)) :
    W p l e R s m args below meth c H locs cells slots (MQ below (mQ A Qh) args s mc ms A) (F0 m pc ls [.ref v]) :=
  W.widen hc.1 hc.2 (W.aret hx hb hr hrt (Or.inr ⟨_, rfl⟩) (fun t ht _ => ⟨⟨_, rfl, by rw [ht]; exact hQ⟩, hS.F ht⟩) hS.2.2 hdg)
theorem rn {rt : FieldType} (hx : p.tables.exec = Jvm.exec) (hb : c.code = cc) (hr : meth.sig.returnType = some rt) (hrt : (∃ n, rt = .object n) ∨ ∃ t, rt = .array t) (hlocks : meth.locks = false) (hS : va_S A s.heap H locs) (hQ : Qh s.heap (some .null) H) (hc : cells ≤ mc ∧ slots ≤ ms) (hdg : decode cc pc = .ok (.areturn, 1)) :
    W p l e R s m args below meth c H locs cells slots (MQ below (mQ A Qh) args s mc ms A) (F0 m pc ls [.null]) :=
  W.widen hc.1 hc.2 (W.aret hx hb hr hrt (Or.inl rfl) (fun t ht _ => ⟨⟨_, rfl, by rw [ht]; exact hQ⟩, hS.F ht⟩) hS.2.2 hdg)
end MR
/-- a class's facts -/
def TF (ci : Nat) (C : String) (T : u_T) (N : Nat) (ty : Nat → FieldType) : Prop := (∀ w ∈ u_ws C T N, w ∈ lw_all) ∧ gC[ci]? = some (C, T, N) ∧ (∀ k, k < N → parseFieldDescriptor (T k).2.2.1 = some (ty k)) ∧ (∀ a, a < N → ∀ b, b < N → a ≠ b → (T a).2.1 ≠ (T b).2.1)
theorem tfX1 : TF 0 RX1 TX1 10 tyX1 := ⟨in_X1, rfl, tyX1_ok, nmX1⟩
theorem tfX2 : TF 1 RX2 TX2 22 tyX2 := ⟨in_X2, rfl, tyX2_ok, nmX2⟩
theorem tfJ2 : TF 2 RJ2 TJ2 3 tyJ2 := ⟨in_J2, rfl, tyJ2_ok, nmJ2⟩
theorem tfX3 : TF 3 RX3 TX3 4 tyX3 := ⟨in_X3, rfl, tyX3_ok, nmX3⟩
theorem tfX4 : TF 4 RX4 TX4 22 tyX4 := ⟨in_X4, rfl, tyX4_ok, nmX4⟩
theorem tfX5 : TF 5 RX5 TX5 11 tyX5 := ⟨in_X5, rfl, tyX5_ok, nmX5⟩
theorem tfX6 : TF 6 RX6 TX6 11 tyX6 := ⟨in_X6, rfl, tyX6_ok, nmX6⟩
theorem tfX7 : TF 7 RX7 TX7 4 tyX7 := ⟨in_X7, rfl, tyX7_ok, nmX7⟩
theorem tfX8 : TF 8 RX8 TX8 4 tyX8 := ⟨in_X8, rfl, tyX8_ok, nmX8⟩
theorem tfX9 : TF 9 RX9 TX9 9 tyX9 := ⟨in_X9, rfl, tyX9_ok, nmX9⟩
theorem tfX10 : TF 10 RX10 TX10 8 tyX10 := ⟨in_X10, rfl, tyX10_ok, nmX10⟩
theorem tfJ17 : TF 11 RJ17 TJ17 1 tyJ17 := ⟨in_J17, rfl, tyJ17_ok, nmJ17⟩
/-- what holds all through a method -/
def Fx (p : Program) (s : State) (m : MethodId) (args : Array Value) (c : Code) (cc : ByteArray) (own : String) (g : GT) (A : Nat → Prop) (nL : Nat) : Prop := p.tables.exec = Jvm.exec ∧ c.code = cc ∧ (∀ w ∈ lw_all, w.before args s = true) ∧ s.vm.findClass own = some m.cls ∧ mK g s ∧ (∀ q, A q → bA g q) ∧ c.maxLocals = nL
/-- the cell e at a -/
abbrev mAt (g : GT) (a : Nat) (e : va_E) (H : Heap) : Prop := va_at g.1 gC (a, e) H
theorem mAt.sg {g : GT} {a : Nat} {e : va_E} {H : Heap} (h : mAt g a e H) : va_P g.1 gC [(a, e)] H := by
  intro k q hk
  match k, hk with
  | 0, hk => cases hk; exact h
  | k + 1, hk => simp at hk
theorem mAt.lt {g : GT} {a : Nat} {e : va_E} {H : Heap} (h : mAt g a e H) : a < H.size := va_at.lt h
theorem mAt.kept {g : GT} {a : Nat} {e : va_E} {H H1 : Heap} (h : mAt g a e H) (hq : H1[a]? = H[a]?) : mAt g a e H1 := va_at.kept h hq
abbrev rfs (f : Nat → Option Nat) : (Nat → Int32) ⊕ (Nat → Int64) ⊕ (Nat → UInt32) ⊕ (Nat → UInt64) ⊕ (Nat → Option Nat) := .inr (.inr (.inr (.inr f)))
theorem Fx.mk {p : Program} {s : State} {m : MethodId} {args : Array Value} {c : Code} {cc : ByteArray} {own : String} {g : GT} {A : Nat → Prop} {nL : Nat} {H : Heap} {locs : List Loc} (fx : Fx p s m args c cc own g A nL) (hS : va_S A s.heap H locs) {U : State} (hU : U.heap = H) (hW : s.WarmedH U.vm) : mK g U :=
  fx.2.2.2.2.1.moved hW (by rw [hU]; exact hS.1) (fun a h1 h2 => by rw [hU]; exact hS.2.1 a h1 (fun h => h2 (fx.2.2.2.2.2.1 a h)))
section MW
variable {p : Program} {l : Launch} {e : Env} {R : Room} {s : State} {m : MethodId} {args : Array Value} {below : List Frame} {meth : Method} {c : Code} {H : Heap} {locs : List Loc} {cells slots : Nat} {Q : State → Prop}
variable {cc : ByteArray} {pc : Nat} {ls : Array Slot} {rest : List Value} {A : Nat → Prop} {a : Nat} {H0 : Heap} {g : GT} {own : String} {nL : Nat}
/-! fields -/
theorem mget (fx : Fx p s m args c cc own g A nL) {ci N index : Nat} {ref C : String} {T : u_T} {ty : Nat → FieldType} {fs : List Value} (tf : TF ci C T N ty) (hat : mAt g a (.inr (ci, fs)) H) (k : Nat) (hk : k < N) (hl : Cond.fieldLink own index ref (T k).2.1 (T k).2.2.1 ∈ lw_all) (hsame : ∀ x, s.fieldFound? (T k).1 (T k).2.1 (T k).2.2.1 = some x → s.fieldFound? ref (T k).2.1 (T k).2.2.1 = some x) {v : Value} (hv : fs[k]? = some v) (hdg : decode cc pc = .ok (.getfield index, 3))
    (kk : W p l e R s m args below meth c H locs cells slots Q (F0 m (pc + 3) ls (v :: rest))) : W p l e R s m args below meth c H locs cells slots Q (F0 m pc ls (.ref a :: rest)) :=
  va_get fx.1 fx.2.1 fx.2.2.1 tf.1 fx.2.2.2.1 fx.2.2.2.2.1.1 hat.sg 0 rfl tf.2.1 k hk (fx.2.2.1 _ hl) hsame hv hdg kk
theorem mgetN (fx : Fx p s m args c cc own g A nL) {ci N index : Nat} {ref C host : String} {T : u_T} {ty : Nat → FieldType} {fs : List Value} (tf : TF ci C T N ty) (hat : mAt g a (.inr (ci, fs)) H) (k : Nat) (hk : k < N) (hl : Cond.fieldLinkNest own index ref (T k).2.1 (T k).2.2.1 host ∈ lw_tbl) (hsame : ∀ x, s.fieldFound? (T k).1 (T k).2.1 (T k).2.2.1 = some x → s.fieldFound? ref (T k).2.1 (T k).2.2.1 = some x) {v : Value} (hv : fs[k]? = some v) (hdg : decode cc pc = .ok (.getfield index, 3))
    (kk : W p l e R s m args below meth c H locs cells slots Q (F0 m (pc + 3) ls (v :: rest))) : W p l e R s m args below meth c H locs cells slots Q (F0 m pc ls (.ref a :: rest)) :=
  va_getN fx.1 fx.2.1 fx.2.2.1 tf.1 fx.2.2.2.1 fx.2.2.2.2.1.1 hat.sg 0 rfl tf.2.1 k hk (va_Nw.use rfl (fx.2.2.2.2.1.2.1 _ (nest_in hl rfl))) hsame hv hdg kk
theorem mput (fx : Fx p s m args c cc own g A nL) {ci N index : Nat} {ref C : String} {T : u_T} {ty0 : Nat → FieldType} {fs : List Value} (tf : TF ci C T N ty0) (hat : mAt g a (.inr (ci, fs)) H) (hS : va_S A H0 H locs) (hA : A a) (k : Nat) (hk : k < N) (hl : Cond.fieldLink own index ref (T k).2.1 (T k).2.2.1 ∈ lw_all) (hsame : ∀ x, s.fieldFound? (T k).1 (T k).2.1 (T k).2.2.1 = some x → s.fieldFound? ref (T k).2.1 (T k).2.2.1 = some x) (hfin : (T k).2.2.2 = false) {v : Value} (hn : narrow (ty0 k) v = v) (hfit : fits (ty0 k) v = true) (hlen : k < fs.length)
    (hdg : decode cc pc = .ok (.putfield index, 3)) (kk : ∀ (H1 : Heap) (locs1 : List Loc), mAt g a (.inr (ci, fs.set k v)) H1 → H1.size = H.size → (∀ q, q ≠ a → H1[q]? = H[q]?) → va_S A H0 H1 locs1 → W p l e R s m args below meth c H1 locs1 cells slots Q (F0 m (pc + 3) ls rest)) : W p l e R s m args below meth c H locs cells slots Q (F0 m pc ls (v :: .ref a :: rest)) := by
  have hK := fx.2.2.2.2.1.1
  have hap := va_apart (own := own) fx.2.2.1 tf.1 ty0 tf.2.2.1 tf.2.2.2 hK tf.2.1
  obtain ⟨r, h1, cell, q1, q2, q3, q4⟩ := hat
  have hr : r = (C, T, N) := Option.some.inj (h1.symm.trans tf.2.1)
  subst hr
  obtain ⟨hSl, hfc, kC, hkC, hkind⟩ := hK.1 ci _ tf.2.1
  obtain ⟨cf, kf, fi, f, hi, hsl⟩ := hSl k hk
  have hlay := fx.2.2.1 _ (tf.1 _ (u_in_lay hk))
  unfold u_lay at hlay
  rw [if_neg (by rw [hfin]; decide)] at hlay
  refine W.putK fx.1 fx.2.1 (f := f) ⟨fx.2.2.2.1, fx.2.2.1 _ hl, ⟨_, _, _, hsame _ hi⟩, (u_facts hfc hkC (u_lays fx.2.2.1 tf.1 hk) hi).1⟩ (by rw [q2]; exact u_store hfc hkC hkind hlay hi (tf.2.2.1 k hk) hn hfit) q1 q3 (by rw [hsl]; exact k2_hasslot (q4 k hk)) rfl rfl hdg fun H' e1 e2 e3 => ?_
  rw [hsl] at e1 ⊢
  exact kk H' _ ⟨_, tf.2.1, t_OB.to (V := updV (vp_V fs) k v) ⟨_, e1, q2, q3, t_set q4 hap hk v⟩ (fun j _ => vp_updV_set hlen v j)⟩ e2 e3 (hS.put e2 e3 hA)
theorem mputN (fx : Fx p s m args c cc own g A nL) {ci N index : Nat} {ref C host : String} {T : u_T} {ty0 : Nat → FieldType} {fs : List Value} (tf : TF ci C T N ty0) (hat : mAt g a (.inr (ci, fs)) H) (hS : va_S A H0 H locs) (hA : A a) (k : Nat) (hk : k < N) (hl : Cond.fieldLinkNest own index ref (T k).2.1 (T k).2.2.1 host ∈ lw_tbl) (hsame : ∀ x, s.fieldFound? (T k).1 (T k).2.1 (T k).2.2.1 = some x → s.fieldFound? ref (T k).2.1 (T k).2.2.1 = some x) (hfin : (T k).2.2.2 = false) {v : Value} (hn : narrow (ty0 k) v = v) (hfit : fits (ty0 k) v = true) (hlen : k < fs.length)
    (hdg : decode cc pc = .ok (.putfield index, 3)) (kk : ∀ (H1 : Heap) (locs1 : List Loc), mAt g a (.inr (ci, fs.set k v)) H1 → H1.size = H.size → (∀ q, q ≠ a → H1[q]? = H[q]?) → va_S A H0 H1 locs1 → W p l e R s m args below meth c H1 locs1 cells slots Q (F0 m (pc + 3) ls rest)) : W p l e R s m args below meth c H locs cells slots Q (F0 m pc ls (v :: .ref a :: rest)) := by
  have hK := fx.2.2.2.2.1.1
  have hap := va_apart (own := own) fx.2.2.1 tf.1 ty0 tf.2.2.1 tf.2.2.2 hK tf.2.1
  obtain ⟨r, h1, cell, q1, q2, q3, q4⟩ := hat
  have hr : r = (C, T, N) := Option.some.inj (h1.symm.trans tf.2.1)
  subst hr
  obtain ⟨hSl, hfc, kC, hkC, hkind⟩ := hK.1 ci _ tf.2.1
  obtain ⟨cf, kf, fi, f, hi, hsl⟩ := hSl k hk
  have hlay := fx.2.2.1 _ (tf.1 _ (u_in_lay hk))
  unfold u_lay at hlay
  rw [if_neg (by rw [hfin]; decide)] at hlay
  refine va_WputK fx.1 fx.2.1 (f := f) fx.2.2.2.1 (va_Nw.use rfl (fx.2.2.2.2.1.2.1 _ (nest_in hl rfl))) (hsame _ hi) (u_facts hfc hkC (u_lays fx.2.2.1 tf.1 hk) hi).1 (by rw [q2]; exact u_store hfc hkC hkind hlay hi (tf.2.2.1 k hk) hn hfit) q1 q3 (by rw [hsl]; exact k2_hasslot (q4 k hk)) rfl rfl hdg fun H' e1 e2 e3 => ?_
  rw [hsl] at e1 ⊢
  exact kk H' _ ⟨_, tf.2.1, t_OB.to (V := updV (vp_V fs) k v) ⟨_, e1, q2, q3, t_set q4 hap hk v⟩ (fun j _ => vp_updV_set hlen v j)⟩ e2 e3 (hS.put e2 e3 hA)
theorem mputF (fx : Fx p s m args c cc own g A nL) (hin2 : meth.name = "<init>") {ci N index : Nat} {ref C : String} {T : u_T} {ty0 : Nat → FieldType} {fs : List Value} (tf : TF ci C T N ty0) (hat : mAt g a (.inr (ci, fs)) H) (hS : va_S A H0 H locs) (hA : A a) (k : Nat) (hk : k < N) (hl : Cond.fieldLink own index ref (T k).2.1 (T k).2.2.1 ∈ lw_all) (hsame : ∀ x, s.fieldFound? (T k).1 (T k).2.1 (T k).2.2.1 = some x → s.fieldFound? ref (T k).2.1 (T k).2.2.1 = some x) (hfin : (T k).2.2.2 = true) (hdecl : (T k).1 = own) {v : Value} (hn : narrow (ty0 k) v = v) (hfit : fits (ty0 k) v = true) (hlen : k < fs.length)
    (hdg : decode cc pc = .ok (.putfield index, 3)) (kk : ∀ (H1 : Heap) (locs1 : List Loc), mAt g a (.inr (ci, fs.set k v)) H1 → H1.size = H.size → (∀ q, q ≠ a → H1[q]? = H[q]?) → va_S A H0 H1 locs1 → W p l e R s m args below meth c H1 locs1 cells slots Q (F0 m (pc + 3) ls rest)) : W p l e R s m args below meth c H locs cells slots Q (F0 m pc ls (v :: .ref a :: rest)) := by
  have hK := fx.2.2.2.2.1.1
  have hown := fx.2.2.2.1
  have hap := va_apart (own := own) fx.2.2.1 tf.1 ty0 tf.2.2.1 tf.2.2.2 hK tf.2.1
  obtain ⟨r, h1, cell, q1, q2, q3, q4⟩ := hat
  have hr : r = (C, T, N) := Option.some.inj (h1.symm.trans tf.2.1)
  subst hr
  obtain ⟨hSl, hfc, kC, hkC, hkind⟩ := hK.1 ci _ tf.2.1
  obtain ⟨cf, kf, fi, f, hi, hsl⟩ := hSl k hk
  have hlay := fx.2.2.1 _ (tf.1 _ (u_in_lay hk))
  unfold u_lay at hlay
  rw [if_pos hfin] at hlay
  have hcf : m.cls = cf := by
    obtain ⟨_, _, c', _, _, _, -, -, hf', -, -, -, hown2, -⟩ := Cond.laysFinal_spec hlay
    have e1 : c' = cf := by have := hi.symm.trans hf'; simp at this; exact this.1.symm
    rw [hdecl] at hown2
    rw [← e1]; exact Option.some.inj (hown.symm.trans hown2)
  refine W.putFinK fx.1 fx.2.1 hown (fx.2.2.1 _ hl) (hsame _ hi) (u_facts hfc hkC (u_lays fx.2.2.1 tf.1 hk) hi).1 hcf hin2 (by rw [q2]; exact u_fits hfc hkC hkind (Or.inr hlay) hi (tf.2.2.1 k hk) hn hfit) q1 q3 (by rw [hsl]; exact k2_hasslot (q4 k hk)) rfl rfl hdg fun H' e1 e2 e3 => ?_
  rw [hsl] at e1 ⊢
  exact kk H' _ ⟨_, tf.2.1, t_OB.to (V := updV (vp_V fs) k v) ⟨_, e1, q2, q3, t_set q4 hap hk v⟩ (fun j _ => vp_updV_set hlen v j)⟩ e2 e3 (hS.put e2 e3 hA)
/-! arrays -/
theorem miald (fx : Fx p s m args c cc own g A nL) {n : Nat} {f : Nat → Int32} (hat : mAt g a (.inl (g.2.1 0, n, .inl f)) H) {i : Int32} (k : Nat) (hi : i = nI k) (hk : k < n) (hn : n < 2 ^ 31) (hdg : decode cc pc = .ok (.iaload, 1))
    (kk : W p l e R s m args below meth c H locs cells slots Q (F0 m (pc + 1) ls (.int (f k) :: rest))) : W p l e R s m args below meth c H locs cells slots Q (F0 m pc ls (.int i :: .ref a :: rest)) := by
  subst hi
  refine va_iald fx.1 fx.2.1 fx.2.2.2.2.1.1 hat.sg 0 0 rfl rfl (vp_in_nI hk hn) hdg ?_
  rw [nI_clamp (Nat.lt_trans hk hn)]
  exact kk
theorem mlald (fx : Fx p s m args c cc own g A nL) {n : Nat} {f : Nat → Int64} (hat : mAt g a (.inl (g.2.1 1, n, .inr (.inl f))) H) {i : Int32} (k : Nat) (hi : i = nI k) (hk : k < n) (hn : n < 2 ^ 31) (hdg : decode cc pc = .ok (.laload, 1))
    (kk : W p l e R s m args below meth c H locs cells slots Q (F0 m (pc + 1) ls (.long (f k) :: rest))) : W p l e R s m args below meth c H locs cells slots Q (F0 m pc ls (.int i :: .ref a :: rest)) := by
  subst hi
  refine va_lald fx.1 fx.2.1 fx.2.2.2.2.1.1 hat.sg 0 1 rfl rfl (vp_in_nI hk hn) hdg ?_
  rw [nI_clamp (Nat.lt_trans hk hn)]
  exact kk
theorem maldq (fx : Fx p s m args c cc own g A nL) {n b : Nat} {f : Nat → Option Nat} (hat : mAt g a (.inl (g.2.1 2, n, rfs f)) H) {i : Int32} (k : Nat) (hi : i = nI k) (hk : k < n) (hn : n < 2 ^ 31) (hf : f k = some b) (hdg : decode cc pc = .ok (.aaload, 1))
    (kk : W p l e R s m args below meth c H locs cells slots Q (F0 m (pc + 1) ls (.ref b :: rest))) : W p l e R s m args below meth c H locs cells slots Q (F0 m pc ls (.int i :: .ref a :: rest)) := by
  subst hi
  refine va_aldq fx.1 fx.2.1 fx.2.2.2.2.1.1 hat.sg 0 2 rfl rfl (vp_in_nI hk hn) hdg ?_
  rw [nI_clamp (Nat.lt_trans hk hn), hf]
  exact kk
theorem malen (fx : Fx p s m args c cc own g A nL) {t : Nat} {x : vp_A} (ty : FieldType) (ht : (gT g)[t]? = some (g.2.1 t, ty)) (hat : mAt g a (.inl (g.2.1 t, x)) H) (hdg : decode cc pc = .ok (.arraylength, 1))
    (kk : W p l e R s m args below meth c H locs cells slots Q (F0 m (pc + 1) ls (.int (nI x.1) :: rest))) : W p l e R s m args below meth c H locs cells slots Q (F0 m pc ls (.ref a :: rest)) :=
  va_alen (v := nI x.1) fx.1 fx.2.1 fx.2.2.2.2.1.1 hat.sg 0 t rfl ht rfl hdg kk
theorem arr_st {g : GT} {cA : ClassId} {n k : Nat} {f : Nat → Int32} {x : Int32} : (vp_cell cA (n, .inl f)).setSlot k (.int x) = vp_cell cA (n, .inl (upd f k x)) := by
  rw [vp_cell_i, vp_cell_i, arrV_store]
  congr 1
  funext q
  by_cases hq : q = k
  · subst hq
    simp [updV, upd]
  · simp [updV, upd, hq]
theorem arr_stl {cA : ClassId} {n k : Nat} {f : Nat → Int64} {x : Int64} : (vp_cell cA (n, .inr (.inl f))).setSlot k (.long x) = vp_cell cA (n, .inr (.inl (va_up f k x))) := by
  rw [vp_cell_l, vp_cell_l, arrV_store]
  congr 1
  funext q
  by_cases hq : q = k
  · subst hq
    simp [updV, va_up]
  · simp [updV, va_up, hq]
theorem arr_stq {cA : ClassId} {n k : Nat} {f : Nat → Option Nat} {x : Option Nat} : (vp_cell cA (n, rfs f)).setSlot k (va_rf x) = vp_cell cA (n, rfs (va_up f k x)) := by
  rw [vp_cell_q, vp_cell_q, arrV_store]
  congr 1
  funext q
  by_cases hq : q = k
  · subst hq
    simp [updV, va_up]
  · simp [updV, va_up, hq]
theorem clamp_in {k n : Nat} (hk : k < n) (hn : n < 2 ^ 31) : (nI k).toNatClampNeg = k := nI_clamp (Nat.lt_trans hk hn)
theorem miast (fx : Fx p s m args c cc own g A nL) {n : Nat} {f : Nat → Int32} {x : Int32} (hat : mAt g a (.inl (g.2.1 0, n, .inl f)) H) (hS : va_S A H0 H locs) (hA : A a) {i : Int32} (k : Nat) (hi : i = nI k) (hk : k < n) (hn : n < 2 ^ 31) (hdg : decode cc pc = .ok (.iastore, 1))
    (kk : ∀ (H1 : Heap) (locs1 : List Loc), mAt g a (.inl (g.2.1 0, n, .inl (upd f k x))) H1 → H1.size = H.size → (∀ q, q ≠ a → H1[q]? = H[q]?) → va_S A H0 H1 locs1 → W p l e R s m args below meth c H1 locs1 cells slots Q (F0 m (pc + 1) ls rest)) : W p l e R s m args below meth c H locs cells slots Q (F0 m pc ls (.int x :: .int i :: .ref a :: rest)) := by
  subst hi
  have hin := vp_in_nI hk hn
  refine W.iast fx.1 fx.2.1 (show H[a]? = some (vp_cell _ _) from hat) ((fx.2.2.2.2.1.1.2 0 _ rfl).1 n (fun j => .int (f j))) (fun q => by cases q) (by show ¬ (nI k < 0 ∨ (arrV _ _ _).slots.size ≤ _); rw [arrV_size]; exact hin) rfl rfl hdg fun H1 e z oq => ?_
  rw [clamp_in hk hn, arr_st (g := g)] at e
  exact kk H1 _ e z oq (hS.put z oq hA)
theorem mlast (fx : Fx p s m args c cc own g A nL) {n : Nat} {f : Nat → Int64} {x : Int64} (hat : mAt g a (.inl (g.2.1 1, n, .inr (.inl f))) H) (hS : va_S A H0 H locs) (hA : A a) {i : Int32} (k : Nat) (hi : i = nI k) (hk : k < n) (hn : n < 2 ^ 31) (hdg : decode cc pc = .ok (.lastore, 1))
    (kk : ∀ (H1 : Heap) (locs1 : List Loc), mAt g a (.inl (g.2.1 1, n, .inr (.inl (va_up f k x)))) H1 → H1.size = H.size → (∀ q, q ≠ a → H1[q]? = H[q]?) → va_S A H0 H1 locs1 → W p l e R s m args below meth c H1 locs1 cells slots Q (F0 m (pc + 1) ls rest)) : W p l e R s m args below meth c H locs cells slots Q (F0 m pc ls (.long x :: .int i :: .ref a :: rest)) := by
  subst hi
  have hin := vp_in_nI hk hn
  refine W.last fx.1 fx.2.1 (show H[a]? = some (vp_cell _ _) from hat) ((fx.2.2.2.2.1.1.2 1 _ rfl).1 n (fun j => .long (f j))) (fun q => by cases q) (by show ¬ (nI k < 0 ∨ (arrV _ _ _).slots.size ≤ _); rw [arrV_size]; exact hin) rfl rfl hdg fun H1 e z oq => ?_
  rw [clamp_in hk hn, arr_stl] at e
  exact kk H1 _ e z oq (hS.put z oq hA)
theorem mastN (fx : Fx p s m args c cc own g A nL) {n : Nat} {f : Nat → Option Nat} (hat : mAt g a (.inl (g.2.1 2, n, rfs f)) H) (hS : va_S A H0 H locs) (hA : A a) {i : Int32} (k : Nat) (hi : i = nI k) (hk : k < n) (hn : n < 2 ^ 31) (hdg : decode cc pc = .ok (.aastore, 1))
    (kk : ∀ (H1 : Heap) (locs1 : List Loc), mAt g a (.inl (g.2.1 2, n, rfs (va_up f k none))) H1 → H1.size = H.size → (∀ q, q ≠ a → H1[q]? = H[q]?) → va_S A H0 H1 locs1 → W p l e R s m args below meth c H1 locs1 cells slots Q (F0 m (pc + 1) ls rest)) : W p l e R s m args below meth c H locs cells slots Q (F0 m pc ls (.null :: .int i :: .ref a :: rest)) := by
  subst hi
  have hin := vp_in_nI hk hn
  refine va_WaastN (C := "java/lang/Object") fx.1 fx.2.1 (show H[a]? = some (vp_cell _ _) from hat) ((fx.2.2.2.2.1.1.2 2 _ rfl).1 n (fun j => va_rf (f j))) (fun q => by cases q) (by show ¬ (nI k < 0 ∨ (arrV _ _ _).slots.size ≤ _); rw [arrV_size]; exact hin) rfl rfl hdg fun H1 e z oq => ?_
  rw [clamp_in hk hn] at e
  have e2 : H1[a]? = some (vp_cell (g.2.1 2) (n, rfs (va_up f k none))) := by rw [e]; exact congrArg some (arr_stq (x := none))
  exact kk H1 _ e2 z oq (hS.put z oq hA)
theorem mastq (fx : Fx p s m args c cc own g A nL) {n v : Nat} {f : Nat → Option Nat} (hat : mAt g a (.inl (g.2.1 2, n, rfs f)) H) (hv : va_Any "java/lang/Object" s H v) (hS : va_S A H0 H locs) (hA : A a) {i : Int32} (k : Nat) (hi : i = nI k) (hk : k < n) (hn : n < 2 ^ 31) (hdg : decode cc pc = .ok (.aastore, 1))
    (kk : ∀ (H1 : Heap) (locs1 : List Loc), mAt g a (.inl (g.2.1 2, n, rfs (va_up f k (some v)))) H1 → H1.size = H.size → (∀ q, q ≠ a → H1[q]? = H[q]?) → va_S A H0 H1 locs1 → W p l e R s m args below meth c H1 locs1 cells slots Q (F0 m (pc + 1) ls rest)) : W p l e R s m args below meth c H locs cells slots Q (F0 m pc ls (.ref v :: .int i :: .ref a :: rest)) := by
  subst hi
  have hin := vp_in_nI hk hn
  have hlt : (nI k).toNatClampNeg < n := by rw [clamp_in hk hn]; exact hk
  have h0 : ¬ nI k < 0 := fun q => hin (Or.inl q)
  obtain ⟨cellV, g1, g3, ⟨kC, hkC⟩, hasg⟩ := hv
  obtain ⟨kA, comp, k1, k2, k3, -⟩ := (fx.2.2.2.2.1.1.2 2 _ rfl).2
  obtain ⟨kE, hkE, -⟩ := Vm.findClass_spec k3
  refine W.aast fx.1 fx.2.1 (show H[a]? = some (vp_cell _ _) from hat) (fun q h => by cases h) (fun h => by cases h) k1 k2 rfl hkE ⟨h0, by show _ < (arrV _ _ _).slots.size; rw [arrV_size]; exact hlt⟩ g1 (fun q h => by rw [h] at g3; cases g3) hkC (hasg _ k3) rfl rfl hdg fun H1 e z oq => ?_
  rw [clamp_in hk hn] at e
  have e2 : H1[a]? = some (vp_cell (g.2.1 2) (n, rfs (va_up f k (some v)))) := by rw [e]; exact congrArg some (arr_stq (x := some v))
  exact kk H1 _ e2 z oq (hS.put z oq hA)
/-! new cells: at the heap's end -/
theorem push_S {H1 : Heap} (hS : va_S A H0 H locs) (z : H1.size = H.size + 1) (oq : ∀ q, q < H.size → H1[q]? = H[q]?) : va_S A H0 H1 locs :=
  ⟨Nat.le_trans hS.1 (by omega), fun x h1 h2 => (oq x (Nat.lt_of_lt_of_le h1 hS.1)).trans (hS.2.1 x h1 h2), hS.2.2⟩
theorem mnew (fx : Fx p s m args c cc own g A nL) {ci N index : Nat} {C : String} {T : u_T} {ty0 : Nat → FieldType} (fs : List Value) (tf : TF ci C T N ty0) (hcl : Cond.classLink own index C ∈ lw_all) (hinst : Cond.instantiable C N ∈ lw_all) (hini : Cond.initialized C ∈ lw_all) (hS : va_S A H0 H locs) (hfs : ∀ j, j < N → defaultValue (ty0 j) = vp_V fs j) (hcs : cells + 1 ≤ R.cells ∧ slots + N ≤ R.slots) (hdg : decode cc pc = .ok (.new index, 3))
    (kk : ∀ (q : Nat) (H1 : Heap), q = H.size → H0.size ≤ q → mAt g q (.inr (ci, fs)) H1 → H1.size = q + 1 → (∀ x, x < q → H1[x]? = H[x]?) → va_S A H0 H1 locs → W p l e R s m args below meth c H1 locs (cells + 1) (slots + N) Q (F0 m (pc + 3) ls (.ref q :: rest))) : W p l e R s m args below meth c H locs cells slots Q (F0 m pc ls rest) := by
  have hKn := fx.2.2.2.2.1.1.1 ci _ tf.2.1
  refine W.newcK fx.1 fx.2.1 fx.2.2.2.1 (fx.2.2.1 _ hcl) (fx.2.2.1 _ hinst) (fx.2.2.1 _ hini) rfl hdg hcs.1 hcs.2 hKn.2.1 rfl fun H1 kC hkC e1 z1 o1 => ?_
  exact kk _ H1 rfl hS.1 ⟨_, tf.2.1, (u_born ty0 fx.2.2.1 tf.1 hKn hkC e1 tf.2.2.1).to hfs⟩ z1 o1 (push_S hS z1 o1)
theorem mnewa (fx : Fx p s m args c cc own g A nL) (hw : Cond.arrayClass .int ∈ lw_all) (hS : va_S A H0 H locs) {n : Int32} (N : Nat) (hi : n = nI N) (hN : N < 2 ^ 26) (hcs : cells + 1 ≤ R.cells ∧ slots + N ≤ R.slots) (hdg : decode cc pc = .ok (.newarray .int, 2))
    (kk : ∀ (q : Nat) (H1 : Heap), q = H.size → H0.size ≤ q → mAt g q (.inl (g.2.1 0, N, .inl (fun _ => 0))) H1 → H1.size = q + 1 → (∀ x, x < q → H1[x]? = H[x]?) → va_S A H0 H1 locs → W p l e R s m args below meth c H1 locs (cells + 1) (slots + N) Q (F0 m (pc + 2) ls (.ref q :: rest))) : W p l e R s m args below meth c H locs cells slots Q (F0 m pc ls (.int n :: rest)) := by
  subst hi
  have hc := nI_clamp (n := N) (by omega)
  refine va_newaK (atype := .int) (N := N) fx.1 fx.2.1 (fx.2.2.1 _ hw) rfl hdg rfl (nI_pos (by omega)) hc (by show N * 4 ≤ _; omega) hcs.1 hcs.2 rfl fun H1 cA e1 z1 o1 hAr hNm => ?_
  have h2 : s.vm.findClass ("[" ++ FieldType.int.toString) = some (g.2.1 0) := (fx.2.2.2.2.1.1.2 0 _ rfl).2
  have hcA : cA = g.2.1 0 := Option.some.inj (hNm.symm.trans h2)
  subst hcA
  exact kk _ H1 rfl hS.1 e1 z1 o1 (push_S hS z1 o1)
theorem mnewal (fx : Fx p s m args c cc own g A nL) (hw : Cond.arrayClass .long ∈ lw_all) (hS : va_S A H0 H locs) {n : Int32} (N : Nat) (hi : n = nI N) (hN : N < 2 ^ 26) (hcs : cells + 1 ≤ R.cells ∧ slots + N ≤ R.slots) (hdg : decode cc pc = .ok (.newarray .long, 2))
    (kk : ∀ (q : Nat) (H1 : Heap), q = H.size → H0.size ≤ q → mAt g q (.inl (g.2.1 1, N, .inr (.inl (fun _ => 0)))) H1 → H1.size = q + 1 → (∀ x, x < q → H1[x]? = H[x]?) → va_S A H0 H1 locs → W p l e R s m args below meth c H1 locs (cells + 1) (slots + N) Q (F0 m (pc + 2) ls (.ref q :: rest))) : W p l e R s m args below meth c H locs cells slots Q (F0 m pc ls (.int n :: rest)) := by
  subst hi
  have hc := nI_clamp (n := N) (by omega)
  refine va_newaK (atype := .long) (N := N) fx.1 fx.2.1 (fx.2.2.1 _ hw) rfl hdg rfl (nI_pos (by omega)) hc (by show N * 8 ≤ _; omega) hcs.1 hcs.2 rfl fun H1 cA e1 z1 o1 hAr hNm => ?_
  have h2 : s.vm.findClass ("[" ++ FieldType.long.toString) = some (g.2.1 1) := (fx.2.2.2.2.1.1.2 1 _ rfl).2
  have hcA : cA = g.2.1 1 := Option.some.inj (hNm.symm.trans h2)
  subst hcA
  exact kk _ H1 rfl hS.1 e1 z1 o1 (push_S hS z1 o1)
theorem mnewq (fx : Fx p s m args c cc own g A nL) {index : Nat} (hcl : Cond.classLink own index "java/lang/Object" ∈ lw_all) (hS : va_S A H0 H locs) {n : Int32} (N : Nat) (hi : n = nI N) (hN : N < 2 ^ 26) (hcs : cells + 1 ≤ R.cells ∧ slots + N ≤ R.slots) (hdg : decode cc pc = .ok (.anewarray index, 3))
    (kk : ∀ (q : Nat) (H1 : Heap), q = H.size → H0.size ≤ q → mAt g q (.inl (g.2.1 2, N, rfs (fun _ => none))) H1 → H1.size = q + 1 → (∀ x, x < q → H1[x]? = H[x]?) → va_S A H0 H1 locs → W p l e R s m args below meth c H1 locs (cells + 1) (slots + N) Q (F0 m (pc + 3) ls (.ref q :: rest))) : W p l e R s m args below meth c H locs cells slots Q (F0 m pc ls (.int n :: rest)) := by
  subst hi
  have hc := nI_clamp (n := N) (by omega)
  have hAO := mE.ao fx.2.2.2.2.1.2.2
  refine W.anew fx.1 fx.2.1 fx.2.2.2.1 (fx.2.2.1 _ hcl) (va_AO.use hAO) rfl hdg rfl (nI_pos (by omega)) (by rw [hc]; omega) hcs.1 (by rw [hc]; exact hcs.2) fun cA kA comp f1 f2 f3 f4 => ?_
  rw [hc]
  obtain ⟨kA2, comp2, k1, k2, k3, k4⟩ := (fx.2.2.2.2.1.1.2 2 _ rfl).2
  have hcA : cA = g.2.1 2 := Option.some.inj (f1.symm.trans k4)
  subst hcA
  generalize hH1 : H.push ({ cls := g.2.1 2, slots := Array.replicate N .null, vm := .none } : Cell) = H1
  have z1 : H1.size = H.size + 1 := by rw [← hH1, Array.size_push]
  have e1 : H1[H.size]? = some (vp_cell (g.2.1 2) (N, rfs (fun _ => none))) := by rw [← hH1, Array.getElem?_push_size, arrV_new]; rfl
  have o1 : ∀ q : Nat, q < H.size → H1[q]? = H[q]? := fun q hq => by rw [← hH1, Array.getElem?_push, if_neg (Nat.ne_of_lt hq)]
  exact kk _ H1 rfl hS.1 e1 z1 o1 (push_S hS z1 o1)
theorem mgets (fx : Fx p s m args c cc own g A nL) {C n d ref : String} {v : Value} {index : Nat} (hZ : va_Z C n d v (bA g) s s.heap) (hS : va_S A s.heap H locs) (hl : Cond.fieldLink own index ref n d ∈ lw_all) (hsame : ∀ x, s.fieldFound? C n d = some x → s.fieldFound? ref n d = some x) (hdg : decode cc pc = .ok (.getstatic index, 3))
    (kk : W p l e R s m args below meth c H locs cells slots Q (F0 m (pc + 3) ls (v :: rest))) : W p l e R s m args below meth c H locs cells slots Q (F0 m pc ls rest) :=
  va_gets fx.1 fx.2.1 (va_Z.narrow hZ fx.2.2.2.2.2.1) hS fx.2.2.2.1 (fx.2.2.1 _ hl) hsame hdg kk
theorem mcast (fx : Fx p s m args c cc own g A nL) {ci N index : Nat} {C : String} {T : u_T} {ty0 : Nat → FieldType} {fs : List Value} (tf : TF ci C T N ty0) (hat : mAt g a (.inr (ci, fs)) H) (hl : Cond.classLink own index C ∈ lw_all) (hdg : decode cc pc = .ok (.checkcast index, 3))
    (kk : W p l e R s m args below meth c H locs cells slots Q (F0 m (pc + 3) ls (.ref a :: rest))) : W p l e R s m args below meth c H locs cells slots Q (F0 m pc ls (.ref a :: rest)) :=
  va_castS fx.1 fx.2.1 fx.2.2.2.1 (fx.2.2.1 _ hl) (fx.2.2.2.2.1.1.1 ci _ tf.2.1).2 (va_recv fx.2.2.2.2.1.1 hat.sg tf.2.1 (q0 := 0) rfl) hdg kk
end MW
/-! calls -/
section MC
variable {p : Program} {l : Launch} {e : Env} {R : Room} {s : State} {m : MethodId} {args : Array Value} {below : List Frame} {meth : Method} {c : Code} {H : Heap} {locs : List Loc} {cells slots : Nat} {Q : State → Prop}
variable {cc : ByteArray} {pc : Nat} {ls : Array Slot} {rest st0 : List Value} {A A1 : Nat → Prop} {H0 : Heap} {g : GT} {own : String} {nL : Nat} {mc1 ms1 : Nat} {Qh1 : Heap → Option Value → Heap → Prop} {Ph1 : Heap → Prop}
theorem kRun {a : Array Value} (hr : va_Run p l e R s m args below meth c H locs cells slots mc1 ms1 (F0 m pc ls st0) rest (mQ A1 Qh1 a) A1) (hS : va_S A H0 H locs) (hA : ∀ q, A1 q → A q)
    (kk : ∀ (v : Option Value) (H1 : Heap) (locs1 : List Loc), Qh1 H v H1 → H.size ≤ H1.size → (∀ q : Nat, q < H.size → ¬ A1 q → H1[q]? = H[q]?) → va_S A H0 H1 locs1 → W p l e R s m args below meth c H1 locs1 (cells + mc1) (slots + ms1) Q (F0 m (pc + 3) ls (v.toList ++ rest))) : W p l e R s m args below meth c H locs cells slots Q (F0 m pc ls st0) := by
  intro T hT X
  obtain ⟨v, st₀, t, T', L, h0, X', hL, e1, e2, ⟨⟨v', hv, hq⟩, hF⟩, st⟩ := hr T hT X
  cases hv
  obtain ⟨k1, k2, k3⟩ := vx_keep h0 e1 hS (fun q _ h => hA q h) hA hL hF
  rw [h0, ← e1] at hq
  obtain ⟨t2, a1, b1⟩ := kk v T'.heap (locs ++ L) hq k1 k2 k3 T' rfl X'
  exact ⟨t2, st t2 a1, b1⟩
theorem kBlind {As : List Value} : FrameBlind (va_Pc As (fun U => mK g U ∧ Ph1 U.heap)) := fun _ U g' mk q => ⟨q.1, mK.same (u := U) rfl rfl q.2.1, q.2.2⟩
theorem kPre (fx : Fx p s m args c cc own g A nL) (hS : va_S A s.heap H locs) (hP : Ph1 H) {As : List Value} : ∀ U : State, U.heap = H → s.WarmedH U.vm → va_Pc As (fun U => mK g U ∧ Ph1 U.heap) As.toArray U := fun U hU hW => ⟨rfl, fx.mk hS hU hW, by rw [hU]; exact hP⟩
theorem kV (fx : Fx p s m args c cc own g A nL) {y : MethodName} {bytes : ByteArray} {mL index lv b ci N : Nat} {ret : Option FieldType} {As : List Value} {T : u_T} {fs : List Value}
    (hM : Cn l g y bytes mL ret lv mc1 ms1 (.ref b :: As) A1 Ph1 Qh1) (hw : GoodIn lw_all (wsV own index y.cls y (ws_ y bytes mL ret)))
    (hd : y.cls ≠ "java/lang/invoke/MethodHandle" ∧ y.cls ≠ "java/lang/invoke/VarHandle" ∧ (parseMethodDescriptor y.desc).map (fun d => d.parameters.length) = some As.length)
    (hR : lv + 1 ≤ R.frames ∧ 8 + (mL + 11) + 64 * lv ≤ R.locals) (hcs : cells + mc1 ≤ R.cells ∧ slots + ms1 ≤ R.slots) (hl : ls.size = nL) (hS : va_S A s.heap H locs)
    (hc : gC[ci]? = some (y.cls, T, N)) (hat : mAt g b (.inr (ci, fs)) H) (hst : st0 = As.reverse ++ .ref b :: rest) (hrest : (rest.map fun v => v.category).sum ≤ 8) (hP : Ph1 H) (hA : ∀ q, A1 q → A q) (hdg : decode cc pc = .ok (.invokevirtual index, 3))
    (kk : ∀ (v : Option Value) (H1 : Heap) (locs1 : List Loc), Qh1 H v H1 → H.size ≤ H1.size → (∀ q : Nat, q < H.size → ¬ A1 q → H1[q]? = H[q]?) → va_S A s.heap H1 locs1 → W p l e R s m args below meth c H1 locs1 (cells + mc1) (slots + ms1) Q (F0 m (pc + 3) ls (v.toList ++ rest))) : W p l e R s m args below meth c H locs cells slots Q (F0 m pc ls st0) :=
  kRun (va_runV (As := As) ⟨fx.1, fx.2.1, fx.2.2.2.2.2.2, fx.2.2.2.1, fx.2.2.1⟩ hM (cwV As.length fx.2.2.1 hw rfl rfl rfl ⟨rfl, hd⟩ hR) ⟨kBlind, va_recv fx.2.2.2.2.1.1 hat.sg hc (q0 := 0) rfl, kPre fx hS hP⟩ rfl rfl hl hst (lv_room hrest) hdg hcs) hS hA kk
theorem kS (fx : Fx p s m args c cc own g A nL) {y : MethodName} {bytes : ByteArray} {mL index lv : Nat} {ret : Option FieldType} {As : List Value}
    (hM : Cn l g y bytes mL ret lv mc1 ms1 As A1 Ph1 Qh1) (hw : GoodIn lw_all (va_wsS own index y (ws_ y bytes mL ret)))
    (hd : y.cls ≠ "java/lang/invoke/MethodHandle" ∧ y.cls ≠ "java/lang/invoke/VarHandle" ∧ (parseMethodDescriptor y.desc).map (fun d => d.parameters.length) = some As.length)
    (hR : lv + 1 ≤ R.frames ∧ 8 + (mL + 11) + 64 * lv ≤ R.locals) (hcs : cells + mc1 ≤ R.cells ∧ slots + ms1 ≤ R.slots) (hl : ls.size = nL) (hS : va_S A s.heap H locs)
    (hst : st0 = As.reverse ++ rest) (hrest : (rest.map fun v => v.category).sum ≤ 8) (hP : Ph1 H) (hA : ∀ q, A1 q → A q) (hdg : decode cc pc = .ok (.invokestatic index, 3))
    (kk : ∀ (v : Option Value) (H1 : Heap) (locs1 : List Loc), Qh1 H v H1 → H.size ≤ H1.size → (∀ q : Nat, q < H.size → ¬ A1 q → H1[q]? = H[q]?) → va_S A s.heap H1 locs1 → W p l e R s m args below meth c H1 locs1 (cells + mc1) (slots + ms1) Q (F0 m (pc + 3) ls (v.toList ++ rest))) : W p l e R s m args below meth c H locs cells slots Q (F0 m pc ls st0) :=
  kRun (va_runS (As := As) ⟨fx.1, fx.2.1, fx.2.2.2.2.2.2, fx.2.2.2.1, fx.2.2.1⟩ hM (va_cwS As.length fx.2.2.1 hw rfl rfl rfl hd hR) ⟨kBlind, kPre fx hS hP⟩ rfl rfl hl hst (lv_room hrest) hdg hcs) hS hA kk
theorem kI (fx : Fx p s m args c cc own g A nL) {y : MethodName} {bytes : ByteArray} {mL index lv b : Nat} {As : List Value}
    (hM : Cn l g y bytes mL none lv mc1 ms1 (.ref b :: As) A1 Ph1 Qh1) (hcode : Cond.code y bytes mL none ∈ lw_all) (hini : Cond.initialized y.cls ∈ lw_all) (hlk : Cond.methodLink own index y ∈ lw_all) (hin : Cond.instanceMethod y ∈ lw_all) (hnm : y.name = "<init>")
    (hd : y.cls ≠ "java/lang/invoke/MethodHandle" ∧ y.cls ≠ "java/lang/invoke/VarHandle" ∧ (parseMethodDescriptor y.desc).map (fun d => d.parameters.length) = some As.length)
    (hR : lv + 1 ≤ R.frames ∧ 8 + (mL + 11) + 64 * lv ≤ R.locals) (hcs : cells + mc1 ≤ R.cells ∧ slots + ms1 ≤ R.slots) (hl : ls.size = nL) (hS : va_S A s.heap H locs)
    (hst : st0 = As.reverse ++ .ref b :: rest) (hrest : (rest.map fun v => v.category).sum ≤ 8) (hP : Ph1 H) (hA : ∀ q, A1 q → A q) (hdg : decode cc pc = .ok (.invokespecial index, 3))
    (kk : ∀ (v : Option Value) (H1 : Heap) (locs1 : List Loc), Qh1 H v H1 → H.size ≤ H1.size → (∀ q : Nat, q < H.size → ¬ A1 q → H1[q]? = H[q]?) → va_S A s.heap H1 locs1 → W p l e R s m args below meth c H1 locs1 (cells + mc1) (slots + ms1) Q (F0 m (pc + 3) ls (v.toList ++ rest))) : W p l e R s m args below meth c H locs cells slots Q (F0 m pc ls st0) :=
  kRun (va_runI (As := As) ⟨fx.1, fx.2.1, fx.2.2.2.2.2.2, fx.2.2.2.1, fx.2.2.1⟩ hM (cwI As.length fx.2.2.1 (lw_meth hcode) rfl rfl rfl (fx.2.2.1 _ hini) (fx.2.2.1 _ hlk) (fx.2.2.1 _ hin) hnm hd hR) ⟨kBlind, kPre fx hS hP⟩ rfl rfl hl hst (lv_room hrest) hdg hcs) hS hA kk
theorem kIN (fx : Fx p s m args c cc own g A nL) {y : MethodName} {host : String} {bytes : ByteArray} {mL index lv b : Nat} {As : List Value}
    (hM : Cn l g y bytes mL none lv mc1 ms1 (.ref b :: As) A1 Ph1 Qh1) (hcode : Cond.code y bytes mL none ∈ lw_all) (hini : Cond.initialized y.cls ∈ lw_all) (hlk : Cond.methodLinkNest own index y host ∈ lw_tbl) (hin : Cond.instanceMethod y ∈ lw_all) (hnm : y.name = "<init>")
    (hd : y.cls ≠ "java/lang/invoke/MethodHandle" ∧ y.cls ≠ "java/lang/invoke/VarHandle" ∧ (parseMethodDescriptor y.desc).map (fun d => d.parameters.length) = some As.length)
    (hR : lv + 1 ≤ R.frames ∧ 8 + (mL + 11) + 64 * lv ≤ R.locals) (hcs : cells + mc1 ≤ R.cells ∧ slots + ms1 ≤ R.slots) (hl : ls.size = nL) (hS : va_S A s.heap H locs)
    (hst : st0 = As.reverse ++ .ref b :: rest) (hrest : (rest.map fun v => v.category).sum ≤ 8) (hP : Ph1 H) (hA : ∀ q, A1 q → A q) (hdg : decode cc pc = .ok (.invokespecial index, 3))
    (kk : ∀ (v : Option Value) (H1 : Heap) (locs1 : List Loc), Qh1 H v H1 → H.size ≤ H1.size → (∀ q : Nat, q < H.size → ¬ A1 q → H1[q]? = H[q]?) → va_S A s.heap H1 locs1 → W p l e R s m args below meth c H1 locs1 (cells + mc1) (slots + ms1) Q (F0 m (pc + 3) ls (v.toList ++ rest))) : W p l e R s m args below meth c H locs cells slots Q (F0 m pc ls st0) :=
  kRun (va_runIN (As := As) ⟨fx.1, fx.2.1, fx.2.2.2.2.2.2, fx.2.2.2.1, fx.2.2.1⟩ hM ⟨va_cnB As.length fx.2.2.1 (lw_meth hcode) rfl rfl rfl (fx.2.2.2.2.1.2.1 _ (nest_in hlk rfl)) (fx.2.2.1 _ hini) hd hR, hnm, fx.2.2.1 _ hin⟩ ⟨kBlind, kPre fx hS hP⟩ rfl rfl hl hst (lv_room hrest) hdg hcs) hS hA kk
theorem kSN (fx : Fx p s m args c cc own g A nL) {y : MethodName} {host : String} {bytes : ByteArray} {mL index lv : Nat} {ret : Option FieldType} {As : List Value}
    (hM : Cn l g y bytes mL ret lv mc1 ms1 As A1 Ph1 Qh1) (hcode : Cond.code y bytes mL ret ∈ lw_all) (hini : Cond.initialized y.cls ∈ lw_all) (hlk : Cond.methodLinkNest own index y host ∈ lw_tbl) (hstat : Cond.static y ∈ lw_all)
    (hd : y.cls ≠ "java/lang/invoke/MethodHandle" ∧ y.cls ≠ "java/lang/invoke/VarHandle" ∧ (parseMethodDescriptor y.desc).map (fun d => d.parameters.length) = some As.length)
    (hR : lv + 1 ≤ R.frames ∧ 8 + (mL + 11) + 64 * lv ≤ R.locals) (hcs : cells + mc1 ≤ R.cells ∧ slots + ms1 ≤ R.slots) (hl : ls.size = nL) (hS : va_S A s.heap H locs)
    (hst : st0 = As.reverse ++ rest) (hrest : (rest.map fun v => v.category).sum ≤ 8) (hP : Ph1 H) (hA : ∀ q, A1 q → A q) (hdg : decode cc pc = .ok (.invokestatic index, 3))
    (kk : ∀ (v : Option Value) (H1 : Heap) (locs1 : List Loc), Qh1 H v H1 → H.size ≤ H1.size → (∀ q : Nat, q < H.size → ¬ A1 q → H1[q]? = H[q]?) → va_S A s.heap H1 locs1 → W p l e R s m args below meth c H1 locs1 (cells + mc1) (slots + ms1) Q (F0 m (pc + 3) ls (v.toList ++ rest))) : W p l e R s m args below meth c H locs cells slots Q (F0 m pc ls st0) :=
  kRun (va_runSN (As := As) ⟨fx.1, fx.2.1, fx.2.2.2.2.2.2, fx.2.2.2.1, fx.2.2.1⟩ hM ⟨va_cnB As.length fx.2.2.1 (lw_meth hcode) rfl rfl rfl (fx.2.2.2.2.1.2.1 _ (nest_in hlk rfl)) (fx.2.2.1 _ hini) hd hR, fx.2.2.1 _ hstat, trivial⟩ ⟨kBlind, kPre fx hS hP⟩ rfl rfl hl hst (lv_room hrest) hdg hcs) hS hA kk
end MC
