/-! ArrayList and what it calls, by cells: (modCount, elementData, size) and its array -/
set_option maxRecDepth 100000
theorem hdJ0_init : yJ0_init.cls ≠ "java/lang/invoke/MethodHandle" ∧ yJ0_init.cls ≠ "java/lang/invoke/VarHandle" ∧ (parseMethodDescriptor yJ0_init.desc).map (fun d => d.parameters.length) = some 0 := by decide +kernel
theorem hdJ11_newLength : yJ11_newLength.cls ≠ "java/lang/invoke/MethodHandle" ∧ yJ11_newLength.cls ≠ "java/lang/invoke/VarHandle" ∧ (parseMethodDescriptor yJ11_newLength.desc).map (fun d => d.parameters.length) = some 3 := by decide +kernel
theorem hdJ13_copyOf : yJ13_copyOf.cls ≠ "java/lang/invoke/MethodHandle" ∧ yJ13_copyOf.cls ≠ "java/lang/invoke/VarHandle" ∧ (parseMethodDescriptor yJ13_copyOf.desc).map (fun d => d.parameters.length) = some 2 := by decide +kernel
theorem hdJ13_copyOf_2 : yJ13_copyOf_2.cls ≠ "java/lang/invoke/MethodHandle" ∧ yJ13_copyOf_2.cls ≠ "java/lang/invoke/VarHandle" ∧ (parseMethodDescriptor yJ13_copyOf_2.desc).map (fun d => d.parameters.length) = some 3 := by decide +kernel
theorem hdJ14_checkIndex : yJ14_checkIndex.cls ≠ "java/lang/invoke/MethodHandle" ∧ yJ14_checkIndex.cls ≠ "java/lang/invoke/VarHandle" ∧ (parseMethodDescriptor yJ14_checkIndex.desc).map (fun d => d.parameters.length) = some 2 := by decide +kernel
theorem hdJ15_checkIndex : yJ15_checkIndex.cls ≠ "java/lang/invoke/MethodHandle" ∧ yJ15_checkIndex.cls ≠ "java/lang/invoke/VarHandle" ∧ (parseMethodDescriptor yJ15_checkIndex.desc).map (fun d => d.parameters.length) = some 3 := by decide +kernel
theorem hdJ1_init : yJ1_init.cls ≠ "java/lang/invoke/MethodHandle" ∧ yJ1_init.cls ≠ "java/lang/invoke/VarHandle" ∧ (parseMethodDescriptor yJ1_init.desc).map (fun d => d.parameters.length) = some 0 := by decide +kernel
theorem hdJ2_add_2 : yJ2_add_2.cls ≠ "java/lang/invoke/MethodHandle" ∧ yJ2_add_2.cls ≠ "java/lang/invoke/VarHandle" ∧ (parseMethodDescriptor yJ2_add_2.desc).map (fun d => d.parameters.length) = some 3 := by decide +kernel
theorem hdJ2_elementData : yJ2_elementData.cls ≠ "java/lang/invoke/MethodHandle" ∧ yJ2_elementData.cls ≠ "java/lang/invoke/VarHandle" ∧ (parseMethodDescriptor yJ2_elementData.desc).map (fun d => d.parameters.length) = some 1 := by decide +kernel
theorem hdJ2_fastRemove : yJ2_fastRemove.cls ≠ "java/lang/invoke/MethodHandle" ∧ yJ2_fastRemove.cls ≠ "java/lang/invoke/VarHandle" ∧ (parseMethodDescriptor yJ2_fastRemove.desc).map (fun d => d.parameters.length) = some 2 := by decide +kernel
theorem hdJ2_grow : yJ2_grow.cls ≠ "java/lang/invoke/MethodHandle" ∧ yJ2_grow.cls ≠ "java/lang/invoke/VarHandle" ∧ (parseMethodDescriptor yJ2_grow.desc).map (fun d => d.parameters.length) = some 0 := by decide +kernel
theorem hdJ2_grow_2 : yJ2_grow_2.cls ≠ "java/lang/invoke/MethodHandle" ∧ yJ2_grow_2.cls ≠ "java/lang/invoke/VarHandle" ∧ (parseMethodDescriptor yJ2_grow_2.desc).map (fun d => d.parameters.length) = some 1 := by decide +kernel
set_option maxHeartbeats 4000000 in
theorem m_AC_init (l : Launch) (g : GT) (a : Nat) : Cn l g yJ0_init cJ0_init 1 (none) 1 0 0 [.ref a] (fun _ => False) (fun _ => True) (fun Hp rv Hq => Hp = Hq ∧ rv = none) := by
  refine Cn.start (plainFor_of_name (by decide +kernel)) (Nat.le_of_ble_eq_true rfl) ?_
  intro p ev s m below meth c ls H locs hH hx hb hr hts hown hlocks hml hnm hK hP hS hl
  have fx : Fx p s m ([.ref a] : List Value).toArray c cJ0_init RJ0 g (fun _ => False) 1 := ⟨hx, hb, hts, hown, hK, fun _ h => h.elim, hml⟩
  have hl : lv_has ls 1 [(0, .ref a)] := hl
  refine lv_aload_n hx hb dJ0_init_0 rfl (lv_at hl 0 rfl) ?_
  refine W.objInit hx hb hown (hts _ q105) (hts _ q86) (hts _ q87) rfl (by rw [hml]; exact hl.1) rfl dJ0_init_1 (Nat.le_of_ble_eq_true rfl) (Nat.le_of_ble_eq_true rfl) ?_
  refine W.eq (g2 := F0 m 4 ls []) rfl ?_
  exact rv hx hb hr hlocks hS (⟨hH.symm, rfl⟩) ⟨(Nat.le_of_ble_eq_true rfl), (Nat.le_of_ble_eq_true rfl)⟩ dJ0_init_4

set_option maxHeartbeats 4000000 in
theorem m_AbL_init (l : Launch) (g : GT) (a : Nat) (ha : bA g a) : Cn l g yJ1_init cJ1_init 1 (none) 2 0 0 [.ref a] (fun q => q = a) (fun H => mAt g a (.inr (2, [.int 0, .null, .int 0])) H) (fun Hp rv Hq => rv = none ∧ mAt g a (.inr (2, [.int 0, .null, .int 0])) Hq) := by
  refine Cn.start (plainFor_of_name (by decide +kernel)) (Nat.le_of_ble_eq_true rfl) ?_
  intro p ev s m below meth c ls H locs hH hx hb hr hts hown hlocks hml hnm hK hP hS hl
  have h_a := hP
  have fx : Fx p s m ([.ref a] : List Value).toArray c cJ1_init RJ1 g (fun q => q = a) 1 := ⟨hx, hb, hts, hown, hK, fun q h => by rw [h]; exact ha, hml⟩
  have hl : lv_has ls 1 [(0, .ref a)] := hl
  refine lv_aload_n hx hb dJ1_init_0 rfl (lv_at hl 0 rfl) ?_
  refine kI fx (m_AC_init l g a) q104 q52 q102 q103 rfl hdJ0_init ⟨(Nat.le_of_ble_eq_true rfl), (Nat.le_of_ble_eq_true rfl)⟩ ⟨(Nat.le_of_ble_eq_true rfl), (Nat.le_of_ble_eq_true rfl)⟩ hl.1 hS rfl (Nat.le_of_ble_eq_true rfl) trivial (fun _ h => h.elim) dJ1_init_1 (fun rv9 H locs hQ hz9 hk9 hS => ?_)
  obtain ⟨rfl, rfl⟩ := hQ
  refine W.eq (g2 := F0 m 4 ls []) rfl ?_
  refine lv_aload_n hx hb dJ1_init_4 rfl (lv_at hl 0 rfl) ?_
  refine lv_iconst (v := 0) hx hb dJ1_init_5 (by decide) ?_
  refine mput fx tfJ2 h_a hS rfl 0 (by decide) q110 (fun _ h => h) rfl rfl rfl (Nat.le_of_ble_eq_true rfl) dJ1_init_6 (fun H locs hat hz hoq hS => ?_)
  replace h_a : mAt g a (.inr (2, [.int 0, .null, .int 0])) H := hat
  exact rv hx hb hr hlocks hS (⟨rfl, h_a⟩) ⟨(Nat.le_of_ble_eq_true rfl), (Nat.le_of_ble_eq_true rfl)⟩ dJ1_init_9

set_option maxHeartbeats 4000000 in
theorem m_AL_init (l : Launch) (g : GT) (a : Nat) (ha : bA g a) : Cn l g yJ2_init cJ2_init 1 (none) 3 0 0 [.ref a] (fun q => q = a) (fun H => mAt g a (.inr (2, [.int 0, .null, .int 0])) H) (fun Hp rv Hq => rv = none ∧ mAt g a (.inr (2, [.int 0, .ref (g.2.2 1), .int 0])) Hq) := by
  refine Cn.start (plainFor_of_name (by decide +kernel)) (Nat.le_of_ble_eq_true rfl) ?_
  intro p ev s m below meth c ls H locs hH hx hb hr hts hown hlocks hml hnm hK hP hS hl
  have h_a := hP
  have fx : Fx p s m ([.ref a] : List Value).toArray c cJ2_init RJ2 g (fun q => q = a) 1 := ⟨hx, hb, hts, hown, hK, fun q h => by rw [h]; exact ha, hml⟩
  have hl : lv_has ls 1 [(0, .ref a)] := hl
  refine lv_aload_n hx hb dJ2_init_0 rfl (lv_at hl 0 rfl) ?_
  refine kI fx (m_AbL_init l g a (fx.2.2.2.2.2.1 _ rfl)) q101 q53 q99 q100 rfl hdJ1_init ⟨(Nat.le_of_ble_eq_true rfl), (Nat.le_of_ble_eq_true rfl)⟩ ⟨(Nat.le_of_ble_eq_true rfl), (Nat.le_of_ble_eq_true rfl)⟩ hl.1 hS rfl (Nat.le_of_ble_eq_true rfl) h_a (fun q h => by cases h; exact rfl) dJ2_init_1 (fun rv9 H locs hQ hz9 hk9 hS => ?_)
  obtain ⟨rfl, hat⟩ := hQ
  replace h_a : mAt g a (.inr (2, [.int 0, .null, .int 0])) H := hat
  refine W.eq (g2 := F0 m 4 ls []) rfl ?_
  refine lv_aload_n hx hb dJ2_init_4 rfl (lv_at hl 0 rfl) ?_
  refine mgets fx hK.2.2.de hS q106 (fun _ h => h) dJ2_init_5 ?_
  refine mput fx tfJ2 h_a hS rfl 1 (by decide) q108 (fun _ h => h) rfl rfl rfl (Nat.le_of_ble_eq_true rfl) dJ2_init_8 (fun H locs hat hz hoq hS => ?_)
  replace h_a : mAt g a (.inr (2, [.int 0, .ref (g.2.2 1), .int 0])) H := hat
  exact rv hx hb hr hlocks hS (⟨rfl, h_a⟩) ⟨(Nat.le_of_ble_eq_true rfl), (Nat.le_of_ble_eq_true rfl)⟩ dJ2_init_11

set_option maxHeartbeats 4000000 in
theorem m_AL_size (l : Launch) (g : GT) (a e : Nat) (mo n : Int32) : Cn l g yJ2_size cJ2_size 1 ((some .int)) 0 0 0 [.ref a] (fun _ => False) (fun H => mAt g a (.inr (2, [.int mo, .ref e, .int n])) H) (fun Hp rv Hq => Hp = Hq ∧ rv = some (.int n)) := by
  refine Cn.start (plainFor_of_name (by decide +kernel)) (Nat.le_of_ble_eq_true rfl) ?_
  intro p ev s m below meth c ls H locs hH hx hb hr hts hown hlocks hml hnm hK hP hS hl
  have h_a := hP
  have fx : Fx p s m ([.ref a] : List Value).toArray c cJ2_size RJ2 g (fun _ => False) 1 := ⟨hx, hb, hts, hown, hK, fun _ h => h.elim, hml⟩
  have hl : lv_has ls 1 [(0, .ref a)] := hl
  refine lv_aload_n hx hb dJ2_size_0 rfl (lv_at hl 0 rfl) ?_
  refine mget fx tfJ2 h_a 2 (by decide) q109 (fun _ h => h) (v := .int n) rfl dJ2_size_1 ?_
  exact ri hx hb hr hlocks hS (⟨hH.symm, rfl⟩) ⟨(Nat.le_of_ble_eq_true rfl), (Nat.le_of_ble_eq_true rfl)⟩ dJ2_size_4

set_option maxHeartbeats 4000000 in
theorem m_AL_isEmpty (l : Launch) (g : GT) (a e : Nat) (mo n : Int32) : Cn l g yJ2_isEmpty cJ2_isEmpty 1 ((some .boolean)) 0 0 0 [.ref a] (fun _ => False) (fun H => mAt g a (.inr (2, [.int mo, .ref e, .int n])) H) (fun Hp rv Hq => Hp = Hq ∧ rv = some (.int (if n = 0 then 1 else 0))) := by
  refine Cn.start (plainFor_of_name (by decide +kernel)) (Nat.le_of_ble_eq_true rfl) ?_
  intro p ev s m below meth c ls H locs hH hx hb hr hts hown hlocks hml hnm hK hP hS hl
  have h_a := hP
  have fx : Fx p s m ([.ref a] : List Value).toArray c cJ2_isEmpty RJ2 g (fun _ => False) 1 := ⟨hx, hb, hts, hown, hK, fun _ h => h.elim, hml⟩
  have hl : lv_has ls 1 [(0, .ref a)] := hl
  refine lv_aload_n hx hb dJ2_isEmpty_0 rfl (lv_at hl 0 rfl) ?_
  refine mget fx tfJ2 h_a 2 (by decide) q109 (fun _ h => h) (v := .int n) rfl dJ2_isEmpty_1 ?_
  have K_3 : ∀ (locs : List Loc) (ls : Array Slot) (v_2 : Int32), v_2 = (if n = 0 then 1 else 0) → va_S (fun _ => False) s.heap H locs → lv_has ls 1 [(0, .ref a)] → W p l ev (mR 0 0 0) s m ([.ref a] : List Value).toArray below meth c H locs 0 0 (MQ below (mQ (fun _ => False) (fun Hp rv Hq => Hp = Hq ∧ rv = some (.int (if n = 0 then 1 else 0)))) ([.ref a] : List Value).toArray s 0 0 (fun _ => False)) (F0 m 12 ls [.int v_2]) := by
    intro locs ls v_2 hv_2 hS hl
    have bzv_2 : bz v_2 := by rw [hv_2]; (repeat' split) <;> first | exact Or.inl rfl | exact Or.inr rfl
    exact rz hx hb hr hlocks (nar_z bzv_2) hS (⟨hH.symm, by subst hv_2; rfl⟩) ⟨(Nat.le_of_ble_eq_true rfl), (Nat.le_of_ble_eq_true rfl)⟩ dJ2_isEmpty_12
  refine lv_if_ne (tgt := 11) hx hb dJ2_isEmpty_4 (by decide) (fun c_1 => ?_) (fun c_1 => ?_)
  · skip
    refine lv_iconst (v := 0) hx hb dJ2_isEmpty_11 (by decide) ?_
    exact K_3 _ _ 0 (by rw [if_neg c_1]) hS (lv_sub hl [0] rfl)
  · skip
    refine lv_iconst (v := 1) hx hb dJ2_isEmpty_7 (by decide) ?_
    refine lv_goto (tgt := 12) hx hb dJ2_isEmpty_8 (by decide) ?_
    exact K_3 _ _ 1 (by rw [if_pos c_1]) hS (lv_sub hl [0] rfl)

set_option maxHeartbeats 4000000 in
theorem m_checkIndexP (l : Launch) (g : GT) (k n : Nat) (hk : k < n) (hn : n < 2 ^ 31) : Cn l g yJ15_checkIndex cJ15_checkIndex 3 ((some .int)) 0 0 0 [.int (nI k), .int (nI n), .null] (fun _ => False) (fun _ => True) (fun Hp rv Hq => Hp = Hq ∧ rv = some (.int (nI k))) := by
  refine Cn.start (plainFor_of_name (by decide +kernel)) (Nat.le_of_ble_eq_true rfl) ?_
  intro p ev s m below meth c ls H locs hH hx hb hr hts hown hlocks hml hnm hK hP hS hl
  have fx : Fx p s m ([.int (nI k), .int (nI n), .null] : List Value).toArray c cJ15_checkIndex RJ15 g (fun _ => False) 3 := ⟨hx, hb, hts, hown, hK, fun _ h => h.elim, hml⟩
  have hl : lv_has ls 3 [(0, .int (nI k)), (1, .int (nI n)), (2, .null)] := hl
  refine lv_iload_n hx hb dJ15_checkIndex_0 rfl (lv_at hl 0 rfl) ?_
  refine lv_if_lt (tgt := 9) hx hb dJ15_checkIndex_1 (by decide) (fun h9 => absurd h9 (nI_pos (by omega))) (fun _ => ?_)
  refine lv_iload_n hx hb dJ15_checkIndex_4 rfl (lv_at hl 0 rfl) ?_
  refine lv_iload_n hx hb dJ15_checkIndex_5 rfl (lv_at hl 1 rfl) ?_
  refine lv_icmp_lt (tgt := 16) hx hb dJ15_checkIndex_6 (by decide) (fun _ => ?_) (fun h9 => absurd (nI_lt hk hn) h9)
  refine lv_iload_n hx hb dJ15_checkIndex_16 rfl (lv_at hl 0 rfl) ?_
  exact ri hx hb hr hlocks hS (⟨hH.symm, rfl⟩) ⟨(Nat.le_of_ble_eq_true rfl), (Nat.le_of_ble_eq_true rfl)⟩ dJ15_checkIndex_17

set_option maxHeartbeats 4000000 in
theorem m_checkIndex (l : Launch) (g : GT) (k n : Nat) (hk : k < n) (hn : n < 2 ^ 31) : Cn l g yJ14_checkIndex cJ14_checkIndex 2 ((some .int)) 1 0 0 [.int (nI k), .int (nI n)] (fun _ => False) (fun _ => True) (fun Hp rv Hq => Hp = Hq ∧ rv = some (.int (nI k))) := by
  refine Cn.start (plainFor_of_name (by decide +kernel)) (Nat.le_of_ble_eq_true rfl) ?_
  intro p ev s m below meth c ls H locs hH hx hb hr hts hown hlocks hml hnm hK hP hS hl
  have fx : Fx p s m ([.int (nI k), .int (nI n)] : List Value).toArray c cJ14_checkIndex RJ14 g (fun _ => False) 2 := ⟨hx, hb, hts, hown, hK, fun _ h => h.elim, hml⟩
  have hl : lv_has ls 2 [(0, .int (nI k)), (1, .int (nI n))] := hl
  refine lv_iload_n hx hb dJ14_checkIndex_0 rfl (lv_at hl 0 rfl) ?_
  refine lv_iload_n hx hb dJ14_checkIndex_1 rfl (lv_at hl 1 rfl) ?_
  refine lv_null hx hb dJ14_checkIndex_2 ?_
  refine kS fx (m_checkIndexP l g k n hk hn) (lw_S q269 q270 q74 q271) hdJ15_checkIndex ⟨(Nat.le_of_ble_eq_true rfl), (Nat.le_of_ble_eq_true rfl)⟩ ⟨(Nat.le_of_ble_eq_true rfl), (Nat.le_of_ble_eq_true rfl)⟩ hl.1 hS rfl (Nat.le_of_ble_eq_true rfl) trivial (fun _ h => h.elim) dJ14_checkIndex_3 (fun rv9 H locs hQ hz9 hk9 hS => ?_)
  obtain ⟨rfl, rfl⟩ := hQ
  refine W.eq (g2 := F0 m 6 ls [.int (nI k)]) rfl ?_
  exact ri hx hb hr hlocks hS (⟨hH.symm, rfl⟩) ⟨(Nat.le_of_ble_eq_true rfl), (Nat.le_of_ble_eq_true rfl)⟩ dJ14_checkIndex_6

set_option maxHeartbeats 4000000 in
theorem m_AL_elementData (l : Launch) (g : GT) (a e k n cap b : Nat) (mo : Int32) (f : Nat → Option Nat) (hk : k < n) (hnc : n ≤ cap) (hcap : cap < 2 ^ 31) (hf : f k = some b) : Cn l g yJ2_elementData cJ2_elementData 2 ((some (.object "java/lang/Object"))) 0 0 0 [.ref a, .int (nI k)] (fun _ => False) (fun H => mAt g a (.inr (2, [.int mo, .ref e, .int (nI n)])) H ∧ mAt g e (.inl (g.2.1 2, cap, rfs f)) H) (fun Hp rv Hq => Hp = Hq ∧ rv = some (.ref b)) := by
  refine Cn.start (plainFor_of_name (by decide +kernel)) (Nat.le_of_ble_eq_true rfl) ?_
  intro p ev s m below meth c ls H locs hH hx hb hr hts hown hlocks hml hnm hK hP hS hl
  obtain ⟨h_a, h_e⟩ := hP
  have hkc : k < cap := Nat.lt_of_lt_of_le hk hnc
  have hn : n < 2 ^ 31 := Nat.lt_of_le_of_lt hnc hcap
  have fx : Fx p s m ([.ref a, .int (nI k)] : List Value).toArray c cJ2_elementData RJ2 g (fun _ => False) 2 := ⟨hx, hb, hts, hown, hK, fun _ h => h.elim, hml⟩
  have hl : lv_has ls 2 [(0, .ref a), (1, .int (nI k))] := hl
  refine lv_aload_n hx hb dJ2_elementData_0 rfl (lv_at hl 0 rfl) ?_
  refine mget fx tfJ2 h_a 1 (by decide) q108 (fun _ h => h) (v := .ref e) rfl dJ2_elementData_1 ?_
  refine lv_iload_n hx hb dJ2_elementData_4 rfl (lv_at hl 1 rfl) ?_
  refine maldq fx h_e k rfl hkc hcap hf dJ2_elementData_5 ?_
  exact ra hx hb hr (Or.inl ⟨_, rfl⟩) hlocks hS (⟨hH.symm, rfl⟩) ⟨(Nat.le_of_ble_eq_true rfl), (Nat.le_of_ble_eq_true rfl)⟩ dJ2_elementData_6

set_option maxHeartbeats 4000000 in
theorem m_AL_get (l : Launch) (g : GT) (a e k n cap b : Nat) (mo : Int32) (f : Nat → Option Nat) (hk : k < n) (hnc : n ≤ cap) (hcap : cap < 2 ^ 31) (hf : f k = some b) : Cn l g yJ2_get cJ2_get 2 ((some (.object "java/lang/Object"))) 2 0 0 [.ref a, .int (nI k)] (fun _ => False) (fun H => mAt g a (.inr (2, [.int mo, .ref e, .int (nI n)])) H ∧ mAt g e (.inl (g.2.1 2, cap, rfs f)) H) (fun Hp rv Hq => Hp = Hq ∧ rv = some (.ref b)) := by
  refine Cn.start (plainFor_of_name (by decide +kernel)) (Nat.le_of_ble_eq_true rfl) ?_
  intro p ev s m below meth c ls H locs hH hx hb hr hts hown hlocks hml hnm hK hP hS hl
  obtain ⟨h_a, h_e⟩ := hP
  have hkc : k < cap := Nat.lt_of_lt_of_le hk hnc
  have hn : n < 2 ^ 31 := Nat.lt_of_le_of_lt hnc hcap
  have fx : Fx p s m ([.ref a, .int (nI k)] : List Value).toArray c cJ2_get RJ2 g (fun _ => False) 2 := ⟨hx, hb, hts, hown, hK, fun _ h => h.elim, hml⟩
  have hl : lv_has ls 2 [(0, .ref a), (1, .int (nI k))] := hl
  refine lv_iload_n hx hb dJ2_get_0 rfl (lv_at hl 1 rfl) ?_
  refine lv_aload_n hx hb dJ2_get_1 rfl (lv_at hl 0 rfl) ?_
  refine mget fx tfJ2 h_a 2 (by decide) q109 (fun _ h => h) (v := .int (nI n)) rfl dJ2_get_2 ?_
  refine kS fx (m_checkIndex l g k n hk hn) (lw_S q266 q267 q73 q268) hdJ14_checkIndex ⟨(Nat.le_of_ble_eq_true rfl), (Nat.le_of_ble_eq_true rfl)⟩ ⟨(Nat.le_of_ble_eq_true rfl), (Nat.le_of_ble_eq_true rfl)⟩ hl.1 hS rfl (Nat.le_of_ble_eq_true rfl) trivial (fun _ h => h.elim) dJ2_get_5 (fun rv9 H locs hQ hz9 hk9 hS => ?_)
  obtain ⟨rfl, rfl⟩ := hQ
  refine W.eq (g2 := F0 m 8 ls [.int (nI k)]) rfl ?_
  refine lv_pop hx hb dJ2_get_8 rfl ?_
  refine lv_aload_n hx hb dJ2_get_9 rfl (lv_at hl 0 rfl) ?_
  refine lv_iload_n hx hb dJ2_get_10 rfl (lv_at hl 1 rfl) ?_
  refine kV fx (m_AL_elementData l g a e k n cap b mo f hk hnc hcap hf) (lw_V q272 q273 q274 q54 q275) hdJ2_elementData ⟨(Nat.le_of_ble_eq_true rfl), (Nat.le_of_ble_eq_true rfl)⟩ ⟨(Nat.le_of_ble_eq_true rfl), (Nat.le_of_ble_eq_true rfl)⟩ hl.1 hS tfJ2.2.1 h_a rfl (Nat.le_of_ble_eq_true rfl) (⟨h_a, h_e⟩) (fun _ h => h.elim) dJ2_get_11 (fun rv9 H locs hQ hz9 hk9 hS => ?_)
  obtain ⟨rfl, rfl⟩ := hQ
  refine W.eq (g2 := F0 m 14 ls [.ref b]) rfl ?_
  exact ra hx hb hr (Or.inl ⟨_, rfl⟩) hlocks hS (⟨hH.symm, rfl⟩) ⟨(Nat.le_of_ble_eq_true rfl), (Nat.le_of_ble_eq_true rfl)⟩ dJ2_get_14

set_option maxHeartbeats 4000000 in
theorem m_newLength (l : Launch) (g : GT) (o mg pf : Int32) (h1 : ¬ (o + jmax mg pf) ≤ 0) (h2 : ¬ 2147483639 < (o + jmax mg pf)) : Cn l g yJ11_newLength cJ11_newLength 4 ((some .int)) 1 0 0 [.int o, .int mg, .int pf] (fun _ => False) (fun _ => True) (fun Hp rv Hq => Hp = Hq ∧ rv = some (.int (o + jmax mg pf))) := by
  refine Cn.start (plainFor_of_name (by decide +kernel)) (Nat.le_of_ble_eq_true rfl) ?_
  intro p ev s m below meth c ls H locs hH hx hb hr hts hown hlocks hml hnm hK hP hS hl
  have fx : Fx p s m ([.int o, .int mg, .int pf] : List Value).toArray c cJ11_newLength RJ11 g (fun _ => False) 4 := ⟨hx, hb, hts, hown, hK, fun _ h => h.elim, hml⟩
  have hl : lv_has ls 4 [(0, .int o), (1, .int mg), (2, .int pf)] := hl
  refine lv_iload_n hx hb dJ11_newLength_0 rfl (lv_at hl 0 rfl) ?_
  refine lv_iload_n hx hb dJ11_newLength_1 rfl (lv_at hl 1 rfl) ?_
  refine lv_iload_n hx hb dJ11_newLength_2 rfl (lv_at hl 2 rfl) ?_
  refine kS fx (m_max l g mg pf) (lw_S q374 q375 q67 q376) hdJ12_max ⟨(Nat.le_of_ble_eq_true rfl), (Nat.le_of_ble_eq_true rfl)⟩ ⟨(Nat.le_of_ble_eq_true rfl), (Nat.le_of_ble_eq_true rfl)⟩ hl.1 hS rfl (Nat.le_of_ble_eq_true rfl) trivial (fun _ h => h.elim) dJ11_newLength_3 (fun rv9 H locs hQ hz9 hk9 hS => ?_)
  obtain ⟨rfl, rfl⟩ := hQ
  refine W.eq (g2 := F0 m 6 ls [.int (jmax mg pf), .int o]) rfl ?_
  refine lv_iadd hx hb dJ11_newLength_6 ?_
  refine lv_istore_n (lv' := [(3, .int (o + (jmax mg pf))), (0, .int o), (1, .int mg), (2, .int pf)]) hx hb dJ11_newLength_7 rfl hl (by decide) rfl (fun ls hl => ?_)
  refine lv_iconst (v := 0) hx hb dJ11_newLength_8 (by decide) ?_
  refine lv_iload_n hx hb dJ11_newLength_9 rfl (lv_at hl 0 rfl) ?_
  refine lv_icmp_ge (tgt := 21) hx hb dJ11_newLength_10 (by decide) (fun h9 => absurd h9 h1) (fun _ => ?_)
  refine lv_iload_n hx hb dJ11_newLength_13 rfl (lv_at hl 0 rfl) ?_
  refine lv_ldc (v := 2147483639) hx hb hown (hts _ q377) dJ11_newLength_14 ?_
  refine lv_icmp_gt (tgt := 21) hx hb dJ11_newLength_16 (by decide) (fun h9 => absurd h9 h2) (fun _ => ?_)
  refine lv_iload_n hx hb dJ11_newLength_19 rfl (lv_at hl 0 rfl) ?_
  exact ri hx hb hr hlocks hS (⟨hH.symm, rfl⟩) ⟨(Nat.le_of_ble_eq_true rfl), (Nat.le_of_ble_eq_true rfl)⟩ dJ11_newLength_20

theorem mEl.kept' {g : GT} {y : Nat} {H H1 : Heap} (h : mEl g y H) (hq : y < H.size → H1[y]? = H[y]?) : mEl g y H1 := by
  rcases h with ⟨ci, vs, r, h1, h2, h3⟩ | h
  · exact Or.inl ⟨ci, vs, r, h1.kept (hq h1.lt), h2, h3⟩
  · exact Or.inr h
/-- the list's elements may lie in it, and aren't the list -/
def mEls (g : GT) (a : Nat) (f : Nat → Option Nat) (H : Heap) : Prop := ∀ i y, f i = some y → mEl g y H ∧ y ≠ a
theorem mEls.kept {g : GT} {a : Nat} {f : Nat → Option Nat} {H H1 : Heap} (h : mEls g a f H) (hq : ∀ q, q < H.size → q ≠ a → H1[q]? = H[q]?) : mEls g a f H1 := fun i y hy => ⟨(h i y hy).1.kept' (fun hl => hq y hl (h i y hy).2), (h i y hy).2⟩
theorem jmin_nI {a b : Nat} (ha : a < 2 ^ 31) (hb : b < 2 ^ 31) : jmin (nI a) (nI b) = nI (min a b) := by
  unfold jmin
  by_cases h : b < a
  · rw [if_pos ((nI_ltI hb ha).mpr h), Nat.min_eq_right (Nat.le_of_lt h)]
  · rw [if_neg (fun z => h ((nI_ltI hb ha).mp z)), Nat.min_eq_left (by omega)]
theorem jmax_nI {a b : Nat} (ha : a < 2 ^ 31) (hb : b < 2 ^ 31) : jmax (nI a) (nI b) = nI (max a b) := by
  unfold jmax
  by_cases h : a < b
  · rw [if_pos ((nI_ltI ha hb).mpr h), Nat.max_eq_right (Nat.le_of_lt h)]
  · rw [if_neg (fun z => h ((nI_ltI ha hb).mp z)), Nat.max_eq_left (by omega)]
theorem cpy_all {f : Nat → Option Nat} {c m : Nat} (hc : c ≤ m) (hf : ∀ k, c ≤ k → f k = none) : va_cpy f (fun _ => none) 0 0 (min c m) = f := by
  funext k
  unfold va_cpy
  by_cases h : 0 ≤ k ∧ k < 0 + min c m
  · rw [if_pos h]; congr 1; omega
  · rw [if_neg h, hf k (by omega)]
set_option maxHeartbeats 4000000 in
theorem m_copyOf3 (l : Launch) (g : GT) (ea k cap sz : Nat) (f : Nat → Option Nat) (hk : k < 2 ^ 26) (hcap : cap < 2 ^ 31) : Cn l g yJ13_copyOf_2 cJ13_copyOf_2 4 ((some (.array (.object "java/lang/Object")))) 1 1 k [.ref ea, .int (nI k), .ref (g.2.2 3)] (fun q => sz ≤ q) (fun H => sz = H.size ∧ mAt g ea (.inl (g.2.1 2, cap, rfs f)) H ∧ ∀ i, i < min cap k → ∀ y, f i = some y → mEl g y H) (fun Hp rv Hq => ∃ q, rv = some (.ref q) ∧ sz ≤ q ∧ mAt g q (.inl (g.2.1 2, k, rfs (va_cpy f (fun _ => none) 0 0 (min cap k)))) Hq) := by
  refine Cn.start (plainFor_of_name (by decide +kernel)) (Nat.le_of_ble_eq_true rfl) ?_
  intro p ev s m below meth c ls H locs hH hx hb hr hts hown hlocks hml hnm hK hP hS hl
  obtain ⟨hsz, h_e, hE0⟩ := hP
  have hE : ∀ i, i < min cap k → ∀ y, f i = some y → mEl g y s.heap := by rw [← hH]; exact hE0
  have hszs : sz = s.heap.size := by rw [hsz, hH]
  have hAs : ∀ q, s.heap.size ≤ q → sz ≤ q := fun q h => by rw [hszs]; exact h
  have hAb : ∀ q, sz ≤ q → bA g q := fun q h => Nat.le_trans hK.2.2.sz (by rw [← hszs]; exact h)
  have fx : Fx p s m ([.ref ea, .int (nI k), .ref (g.2.2 3)] : List Value).toArray c cJ13_copyOf_2 RJ13 g (fun q => sz ≤ q) 4 := ⟨hx, hb, hts, hown, hK, hAb, hml⟩
  have hl : lv_has ls 4 [(0, .ref ea), (1, .int (nI k)), (2, .ref (g.2.2 3))] := hl
  refine lv_aload_n hx hb dJ13_copyOf_2_0 rfl (lv_at hl 2 rfl) ?_
  refine mldcM fx q407 dJ13_copyOf_2_1 ?_
  refine lv_acmp_ne (rx := some (g.2.2 3)) (ry := some (g.2.2 3)) (tgt := 13) hx hb dJ13_copyOf_2_3 (by decide) (fun h9 => absurd rfl h9) (fun _ => ?_)
  refine lv_iload_n hx hb dJ13_copyOf_2_6 rfl (lv_at hl 1 rfl) ?_
  refine mnewq fx q409 hS k rfl (by omega) ⟨(Nat.le_of_ble_eq_true rfl), (by show 0 + k ≤ k; omega)⟩ dJ13_copyOf_2_7 (fun an_2 H ean_2 hloan_2 hat hz hoq hS => ?_)
  have ne_3 : ea ≠ an_2 := Nat.ne_of_lt (by rw [ean_2]; exact h_e.lt)
  replace h_e := h_e.kept (hoq _ (by rw [ean_2]; exact h_e.lt))
  have inan_2 := hAs an_2 hloan_2
  have hn_1 : mAt g an_2 (.inl (g.2.1 2, k, rfs (fun _ => none))) H := hat
  have hoqn : ∀ y, y < s.heap.size → H[y]? = s.heap[y]? := fun y h => by rw [hoq y (Nat.lt_of_lt_of_le h hloan_2), hH]
  refine lv_goto (tgt := 24) hx hb dJ13_copyOf_2_10 (by decide) ?_
  refine lv_astore_n (lv' := [(3, .ref an_2), (0, .ref ea), (1, .int (nI k)), (2, .ref (g.2.2 3))]) hx hb dJ13_copyOf_2_24 rfl hl (by decide) rfl (fun ls hl => ?_)
  refine lv_aload_n hx hb dJ13_copyOf_2_25 rfl (lv_at hl 1 rfl) ?_
  refine lv_iconst (v := 0) hx hb dJ13_copyOf_2_26 (by decide) ?_
  refine lv_aload_n hx hb dJ13_copyOf_2_27 rfl (lv_at hl 0 rfl) ?_
  refine lv_iconst (v := 0) hx hb dJ13_copyOf_2_28 (by decide) ?_
  refine lv_aload_n hx hb dJ13_copyOf_2_29 rfl (lv_at hl 1 rfl) ?_
  refine malen fx (t := 2) (.object "java/lang/Object") rfl h_e dJ13_copyOf_2_30 ?_
  refine lv_iload_n hx hb dJ13_copyOf_2_31 rfl (lv_at hl 2 rfl) ?_
  refine kS fx (m_min l g (nI cap) (nI k)) (lw_S q410 q411 q67 q412) hdJ12_min ⟨(Nat.le_of_ble_eq_true rfl), (Nat.le_of_ble_eq_true rfl)⟩ ⟨(Nat.le_of_ble_eq_true rfl), (by show 0 + k + 0 ≤ k; omega)⟩ hl.1 hS rfl (Nat.le_of_ble_eq_true rfl) trivial (fun _ h => h.elim) dJ13_copyOf_2_32 (fun rv9 H locs hQ hz9 hk9 hS => ?_)
  obtain ⟨rfl, rfl⟩ := hQ
  refine W.eq (g2 := F0 m 35 ls [.int (jmin (nI cap) (nI k)), .int 0, .ref an_2, .int 0, .ref ea]) rfl ?_
  refine mcopyM fx hl.1 q413 h_e hn_1 hS inan_2 0 0 (min cap k) (by omega) (by omega) (by omega) (by omega) (fun i hi y hy => mAny fx hS ((hE i (by omega) y (by rw [Nat.zero_add] at hy; exact hy)).kept' (hoqn y))) rfl rfl (jmin_nI (by omega) (by omega)) (Nat.le_of_ble_eq_true rfl) (Nat.le_of_ble_eq_true rfl) dJ13_copyOf_2_35 (fun H locs hat hz hoq hS => ?_)
  replace h_e := h_e.kept (hoq _ ne_3)
  replace hn_1 : mAt g an_2 (.inl (g.2.1 2, k, rfs (va_cpy f (fun _ => none) 0 0 (min cap k)))) H := hat
  refine lv_aload_n hx hb dJ13_copyOf_2_38 rfl (lv_at hl 0 rfl) ?_
  exact ra hx hb hr (Or.inr ⟨_, rfl⟩) hlocks hS (⟨an_2, rfl, by rw [hszs]; exact hloan_2, hn_1⟩) ⟨(Nat.le_of_ble_eq_true rfl), (by omega)⟩ dJ13_copyOf_2_39

set_option maxHeartbeats 4000000 in
theorem m_copyOf (l : Launch) (g : GT) (ea k cap sz : Nat) (f : Nat → Option Nat) (hk : k < 2 ^ 26) (hcap : cap < 2 ^ 31) : Cn l g yJ13_copyOf cJ13_copyOf 2 ((some (.array (.object "java/lang/Object")))) 2 1 k [.ref ea, .int (nI k)] (fun q => sz ≤ q) (fun H => sz = H.size ∧ mAt g ea (.inl (g.2.1 2, cap, rfs f)) H ∧ ∀ i, i < min cap k → ∀ y, f i = some y → mEl g y H) (fun Hp rv Hq => ∃ q, rv = some (.ref q) ∧ sz ≤ q ∧ mAt g q (.inl (g.2.1 2, k, rfs (va_cpy f (fun _ => none) 0 0 (min cap k)))) Hq) := by
  refine Cn.start (plainFor_of_name (by decide +kernel)) (Nat.le_of_ble_eq_true rfl) ?_
  intro p ev s m below meth c ls H locs hH hx hb hr hts hown hlocks hml hnm hK hP hS hl
  obtain ⟨hsz, h_e, hE0⟩ := hP
  have hszs : sz = s.heap.size := by rw [hsz, hH]
  have hAs : ∀ q, s.heap.size ≤ q → sz ≤ q := fun q h => by rw [hszs]; exact h
  have hAb : ∀ q, sz ≤ q → bA g q := fun q h => Nat.le_trans hK.2.2.sz (by rw [← hszs]; exact h)
  have fx : Fx p s m ([.ref ea, .int (nI k)] : List Value).toArray c cJ13_copyOf RJ13 g (fun q => sz ≤ q) 2 := ⟨hx, hb, hts, hown, hK, hAb, hml⟩
  have hl : lv_has ls 2 [(0, .ref ea), (1, .int (nI k))] := hl
  refine lv_aload_n hx hb dJ13_copyOf_0 rfl (lv_at hl 0 rfl) ?_
  refine lv_iload_n hx hb dJ13_copyOf_1 rfl (lv_at hl 1 rfl) ?_
  refine lv_aload_n hx hb dJ13_copyOf_2 rfl (lv_at hl 0 rfl) ?_
  refine mgetC fx hl.1 q384 (mArrCls fx h_e) (Nat.le_of_ble_eq_true rfl) (Nat.le_of_ble_eq_true rfl) dJ13_copyOf_3 ?_
  have hSb := hS
  refine kS fx (m_copyOf3 l g ea k cap _ f hk hcap) (lw_S q404 q405 q68 q406) hdJ13_copyOf_2 ⟨(Nat.le_of_ble_eq_true rfl), (Nat.le_of_ble_eq_true rfl)⟩ ⟨(Nat.le_of_ble_eq_true rfl), (by show 0 + k ≤ k; omega)⟩ hl.1 hS rfl (Nat.le_of_ble_eq_true rfl) (⟨rfl, h_e, hE0⟩) (fun q h => hAs q (Nat.le_trans hS.1 h)) dJ13_copyOf_6 (fun rv9 H locs hQ hz9 hk9 hS => ?_)
  obtain ⟨an_1, rfl, hloan_1, hat⟩ := hQ
  have ne_3 : ea ≠ an_1 := Nat.ne_of_lt (Nat.lt_of_lt_of_le h_e.lt hloan_1)
  replace h_e := h_e.kept (hk9 _ h_e.lt (Nat.not_le.mpr h_e.lt))
  have inan_1 := hAs an_1 (Nat.le_trans hSb.1 hloan_1)
  have hloan_1 := Nat.le_trans hSb.1 hloan_1
  have hn_2 : mAt g an_1 (.inl (g.2.1 2, k, rfs (va_cpy f (fun _ => none) 0 0 (min cap k)))) H := hat
  refine W.eq (g2 := F0 m 9 ls [.ref an_1]) rfl ?_
  exact ra hx hb hr (Or.inr ⟨_, rfl⟩) hlocks hS (⟨an_1, rfl, by rw [hszs]; exact hloan_1, hn_2⟩) ⟨(Nat.le_of_ble_eq_true rfl), (by omega)⟩ dJ13_copyOf_9

set_option maxHeartbeats 4000000 in
theorem m_copyOf30 (l : Launch) (g : GT) (sz : Nat) : Cn l g yJ13_copyOf_2 cJ13_copyOf_2 4 ((some (.array (.object "java/lang/Object")))) 1 1 0 [.ref (g.2.2 1), .int 0, .ref (g.2.2 3)] (fun q => sz ≤ q) (fun H => sz = H.size) (fun Hp rv Hq => ∃ q, rv = some (.ref q) ∧ sz ≤ q ∧ mAt g q (.inl (g.2.1 2, 0, rfs (fun _ => none))) Hq) := by
  refine Cn.start (plainFor_of_name (by decide +kernel)) (Nat.le_of_ble_eq_true rfl) ?_
  intro p ev s m below meth c ls H locs hH hx hb hr hts hown hlocks hml hnm hK hP hS hl
  have hsz := hP
  have hszs : sz = s.heap.size := by rw [hsz, hH]
  have hAs : ∀ q, s.heap.size ≤ q → sz ≤ q := fun q h => by rw [hszs]; exact h
  have hAb : ∀ q, sz ≤ q → bA g q := fun q h => Nat.le_trans hK.2.2.sz (by rw [← hszs]; exact h)
  have fx : Fx p s m ([.ref (g.2.2 1), .int 0, .ref (g.2.2 3)] : List Value).toArray c cJ13_copyOf_2 RJ13 g (fun q => sz ≤ q) 4 := ⟨hx, hb, hts, hown, hK, hAb, hml⟩
  have hl : lv_has ls 4 [(0, .ref (g.2.2 1)), (1, .int 0), (2, .ref (g.2.2 3))] := hl
  refine lv_aload_n hx hb dJ13_copyOf_2_0 rfl (lv_at hl 2 rfl) ?_
  refine mldcM fx q407 dJ13_copyOf_2_1 ?_
  refine lv_acmp_ne (rx := some (g.2.2 3)) (ry := some (g.2.2 3)) (tgt := 13) hx hb dJ13_copyOf_2_3 (by decide) (fun h9 => absurd rfl h9) (fun _ => ?_)
  refine lv_iload_n hx hb dJ13_copyOf_2_6 rfl (lv_at hl 1 rfl) ?_
  refine mnewq fx q409 hS 0 rfl (by decide) ⟨(Nat.le_of_ble_eq_true rfl), (Nat.le_of_ble_eq_true rfl)⟩ dJ13_copyOf_2_7 (fun an_2 H ean_2 hloan_2 hat hz hoq hS => ?_)
  have inan_2 := hAs an_2 hloan_2
  have hn_1 : mAt g an_2 (.inl (g.2.1 2, 0, rfs (fun _ => none))) H := hat
  refine lv_goto (tgt := 24) hx hb dJ13_copyOf_2_10 (by decide) ?_
  refine lv_astore_n (lv' := [(3, .ref an_2), (0, .ref (g.2.2 1)), (1, .int 0), (2, .ref (g.2.2 3))]) hx hb dJ13_copyOf_2_24 rfl hl (by decide) rfl (fun ls hl => ?_)
  refine lv_aload_n hx hb dJ13_copyOf_2_25 rfl (lv_at hl 1 rfl) ?_
  refine lv_iconst (v := 0) hx hb dJ13_copyOf_2_26 (by decide) ?_
  refine lv_aload_n hx hb dJ13_copyOf_2_27 rfl (lv_at hl 0 rfl) ?_
  refine lv_iconst (v := 0) hx hb dJ13_copyOf_2_28 (by decide) ?_
  refine lv_aload_n hx hb dJ13_copyOf_2_29 rfl (lv_at hl 1 rfl) ?_
  refine mDElen fx hS dJ13_copyOf_2_30 ?_
  refine lv_iload_n hx hb dJ13_copyOf_2_31 rfl (lv_at hl 2 rfl) ?_
  refine kS fx (m_min l g 0 0) (lw_S q410 q411 q67 q412) hdJ12_min ⟨(Nat.le_of_ble_eq_true rfl), (Nat.le_of_ble_eq_true rfl)⟩ ⟨(Nat.le_of_ble_eq_true rfl), (Nat.le_of_ble_eq_true rfl)⟩ hl.1 hS rfl (Nat.le_of_ble_eq_true rfl) trivial (fun _ h => h.elim) dJ13_copyOf_2_32 (fun rv9 H locs hQ hz9 hk9 hS => ?_)
  obtain ⟨rfl, rfl⟩ := hQ
  refine W.eq (g2 := F0 m 35 ls [.int 0, .int 0, .ref an_2, .int 0, .ref (g.2.2 1)]) rfl ?_
  refine mcopy0 fx hl.1 q413 hn_1 hS inan_2 (Nat.le_of_ble_eq_true rfl) (Nat.le_of_ble_eq_true rfl) dJ13_copyOf_2_35 (fun H locs hat hz hoq hS => ?_)
  replace hn_1 : mAt g an_2 (.inl (g.2.1 2, 0, rfs (fun _ => none))) H := hat
  refine lv_aload_n hx hb dJ13_copyOf_2_38 rfl (lv_at hl 0 rfl) ?_
  exact ra hx hb hr (Or.inr ⟨_, rfl⟩) hlocks hS (⟨an_2, rfl, by rw [hszs]; exact hloan_2, hn_1⟩) ⟨(Nat.le_of_ble_eq_true rfl), (Nat.le_of_ble_eq_true rfl)⟩ dJ13_copyOf_2_39

set_option maxHeartbeats 4000000 in
theorem m_copyOf0 (l : Launch) (g : GT) (sz : Nat) : Cn l g yJ13_copyOf cJ13_copyOf 2 ((some (.array (.object "java/lang/Object")))) 2 1 0 [.ref (g.2.2 1), .int 0] (fun q => sz ≤ q) (fun H => sz = H.size) (fun Hp rv Hq => ∃ q, rv = some (.ref q) ∧ sz ≤ q ∧ mAt g q (.inl (g.2.1 2, 0, rfs (fun _ => none))) Hq) := by
  refine Cn.start (plainFor_of_name (by decide +kernel)) (Nat.le_of_ble_eq_true rfl) ?_
  intro p ev s m below meth c ls H locs hH hx hb hr hts hown hlocks hml hnm hK hP hS hl
  have hsz := hP
  have hszs : sz = s.heap.size := by rw [hsz, hH]
  have hAs : ∀ q, s.heap.size ≤ q → sz ≤ q := fun q h => by rw [hszs]; exact h
  have hAb : ∀ q, sz ≤ q → bA g q := fun q h => Nat.le_trans hK.2.2.sz (by rw [← hszs]; exact h)
  have fx : Fx p s m ([.ref (g.2.2 1), .int 0] : List Value).toArray c cJ13_copyOf RJ13 g (fun q => sz ≤ q) 2 := ⟨hx, hb, hts, hown, hK, hAb, hml⟩
  have hl : lv_has ls 2 [(0, .ref (g.2.2 1)), (1, .int 0)] := hl
  refine lv_aload_n hx hb dJ13_copyOf_0 rfl (lv_at hl 0 rfl) ?_
  refine lv_iload_n hx hb dJ13_copyOf_1 rfl (lv_at hl 1 rfl) ?_
  refine lv_aload_n hx hb dJ13_copyOf_2 rfl (lv_at hl 0 rfl) ?_
  refine mgetC fx hl.1 q384 (mDECls fx hS) (Nat.le_of_ble_eq_true rfl) (Nat.le_of_ble_eq_true rfl) dJ13_copyOf_3 ?_
  have hSb := hS
  refine kS fx (m_copyOf30 l g _) (lw_S q404 q405 q68 q406) hdJ13_copyOf_2 ⟨(Nat.le_of_ble_eq_true rfl), (Nat.le_of_ble_eq_true rfl)⟩ ⟨(Nat.le_of_ble_eq_true rfl), (Nat.le_of_ble_eq_true rfl)⟩ hl.1 hS rfl (Nat.le_of_ble_eq_true rfl) rfl (fun q h => hAs q (Nat.le_trans hS.1 h)) dJ13_copyOf_6 (fun rv9 H locs hQ hz9 hk9 hS => ?_)
  obtain ⟨an_1, rfl, hloan_1, hat⟩ := hQ
  have inan_1 := hAs an_1 (Nat.le_trans hSb.1 hloan_1)
  have hloan_1 := Nat.le_trans hSb.1 hloan_1
  have hn_2 : mAt g an_1 (.inl (g.2.1 2, 0, rfs (fun _ => none))) H := hat
  refine W.eq (g2 := F0 m 9 ls [.ref an_1]) rfl ?_
  exact ra hx hb hr (Or.inr ⟨_, rfl⟩) hlocks hS (⟨an_1, rfl, by rw [hszs]; exact hloan_1, hn_2⟩) ⟨(Nat.le_of_ble_eq_true rfl), (Nat.le_of_ble_eq_true rfl)⟩ dJ13_copyOf_9

/-- the list's capacity behind one add -/
def newCap (n cap : Nat) : Nat := if n < cap then cap else if cap = 0 then 10 else cap + max 1 (cap / 2)
theorem shr1 {n : Nat} (h : n < 2 ^ 31) : nI n >>> ((1 : Int32) &&& 31) = nI (n / 2) := pk_shrN h _ 1 (by decide)
set_option maxHeartbeats 4000000 in
theorem m_grow2A (l : Launch) (g : GT) (a ea n cap sz : Nat) (mo : Int32) (f : Nat → Option Nat) (ha : bA g a) (hae : a ≠ ea) (h0 : cap ≠ 0) (hc : cap < 2 ^ 24) (hf : ∀ k, cap ≤ k → f k = none) : Cn l g yJ2_grow_2 cJ2_grow_2 4 ((some (.array (.object "java/lang/Object")))) 3 1 (cap + max 1 (cap / 2)) [.ref a, .int (nI (cap + 1))] (fA (fun q => q = a) sz) (fun H => sz = H.size ∧ mAt g a (.inr (2, [.int mo, .ref ea, .int (nI n)])) H ∧ mAt g ea (.inl (g.2.1 2, cap, rfs f)) H ∧ mEls g a f H) (fun Hp rv Hq => ∃ q, rv = some (.ref q) ∧ sz ≤ q ∧ mAt g a (.inr (2, [.int mo, .ref q, .int (nI n)])) Hq ∧ mAt g q (.inl (g.2.1 2, cap + max 1 (cap / 2), rfs f)) Hq) := by
  refine Cn.start (plainFor_of_name (by decide +kernel)) (Nat.le_of_ble_eq_true rfl) ?_
  intro p ev s m below meth c ls H locs hH hx hb hr hts hown hlocks hml hnm hK hP hS hl
  obtain ⟨hsz, h_a, h_e, hEl⟩ := hP
  have hszs : sz = s.heap.size := by rw [hsz, hH]
  have hAs : ∀ q, s.heap.size ≤ q → (fA (fun q => q = a) sz) q := fun q h => Or.inr (by rw [hszs]; exact h)
  have hAb : ∀ q, (fA (fun q => q = a) sz) q → bA g q := fun q h => h.elim (fun h => by rw [h]; exact ha) (fun h => Nat.le_trans hK.2.2.sz (by rw [← hszs]; exact h))
  have hcap : cap < 2 ^ 31 := by omega
  have hk26 : cap + max 1 (cap / 2) < 2 ^ 26 := by omega
  have h0cap : 0 < nI cap := by have := nI_lt (show 0 < cap by omega) hcap; rwa [nI_0] at this
  have enl : nI cap + jmax (nI (cap + 1) - nI cap) (nI cap >>> ((1 : Int32) &&& 31)) = nI (cap + max 1 (cap / 2)) := by
      rw [shr1 hcap, pk_sub (by omega), show cap + 1 - cap = 1 from by omega, jmax_nI (by omega) (by omega), nI_add]
  have hn1 : ¬ nI cap + jmax (nI (cap + 1) - nI cap) (nI cap >>> ((1 : Int32) &&& 31)) ≤ 0 := by rw [enl]; exact nI_nle (by omega) (by omega)
  have hn2 : ¬ 2147483639 < nI cap + jmax (nI (cap + 1) - nI cap) (nI cap >>> ((1 : Int32) &&& 31)) := by rw [enl]; exact nI_nlt (a := 2147483639) (by omega) (by omega)
  have fx : Fx p s m ([.ref a, .int (nI (cap + 1))] : List Value).toArray c cJ2_grow_2 RJ2 g (fA (fun q => q = a) sz) 4 := ⟨hx, hb, hts, hown, hK, hAb, hml⟩
  have hl : lv_has ls 4 [(0, .ref a), (1, .int (nI (cap + 1)))] := hl
  refine lv_aload_n hx hb dJ2_grow_2_0 rfl (lv_at hl 0 rfl) ?_
  refine mget fx tfJ2 h_a 1 (by decide) q108 (fun _ h => h) (v := .ref ea) rfl dJ2_grow_2_1 ?_
  refine malen fx (t := 2) (.object "java/lang/Object") rfl h_e dJ2_grow_2_4 ?_
  refine lv_istore_n (lv' := [(2, .int (nI cap)), (0, .ref a), (1, .int (nI (cap + 1)))]) hx hb dJ2_grow_2_5 rfl hl (by decide) rfl (fun ls hl => ?_)
  refine lv_iload_n hx hb dJ2_grow_2_6 rfl (lv_at hl 0 rfl) ?_
  refine lv_if_gt (tgt := 20) hx hb dJ2_grow_2_7 (by decide) (fun _ => ?_) (fun h9 => absurd h0cap h9)
  refine lv_iload_n hx hb dJ2_grow_2_20 rfl (lv_at hl 0 rfl) ?_
  refine lv_iload_n hx hb dJ2_grow_2_21 rfl (lv_at hl 2 rfl) ?_
  refine lv_iload_n hx hb dJ2_grow_2_22 rfl (lv_at hl 0 rfl) ?_
  refine lv_isub hx hb dJ2_grow_2_23 ?_
  refine lv_iload_n hx hb dJ2_grow_2_24 rfl (lv_at hl 0 rfl) ?_
  refine lv_iconst (v := 1) hx hb dJ2_grow_2_25 (by decide) ?_
  refine lv_ishr hx hb dJ2_grow_2_26 ?_
  refine kS fx (m_newLength l g (nI cap) ((nI (cap + 1)) - (nI cap)) ((nI cap) >>> (1 &&& 31)) hn1 hn2) (lw_S q371 q372 q66 q373) hdJ11_newLength ⟨(Nat.le_of_ble_eq_true rfl), (Nat.le_of_ble_eq_true rfl)⟩ ⟨(Nat.le_of_ble_eq_true rfl), (by show 0 + 0 ≤ cap + max 1 (cap / 2); omega)⟩ hl.1 hS rfl (Nat.le_of_ble_eq_true rfl) trivial (fun _ h => h.elim) dJ2_grow_2_27 (fun rv9 H locs hQ hz9 hk9 hS => ?_)
  obtain ⟨rfl, hq9⟩ := hQ
  rw [enl] at hq9
  obtain rfl := hq9
  refine W.eq (g2 := F0 m 30 ls [.int (nI (cap + max 1 (cap / 2)))]) rfl ?_
  refine lv_istore_n (lv' := [(3, .int (nI (cap + max 1 (cap / 2)))), (2, .int (nI cap)), (0, .ref a), (1, .int (nI (cap + 1)))]) hx hb dJ2_grow_2_30 rfl hl (by decide) rfl (fun ls hl => ?_)
  refine lv_aload_n hx hb dJ2_grow_2_31 rfl (lv_at hl 2 rfl) ?_
  refine lv_aload_n hx hb dJ2_grow_2_32 rfl (lv_at hl 2 rfl) ?_
  refine mget fx tfJ2 h_a 1 (by decide) q108 (fun _ h => h) (v := .ref ea) rfl dJ2_grow_2_33 ?_
  refine lv_iload_n hx hb dJ2_grow_2_36 rfl (lv_at hl 0 rfl) ?_
  have hE0 : ∀ i, i < min cap (cap + max 1 (cap / 2)) → ∀ y, f i = some y → mEl g y H := fun i _ y hy => (hEl i y hy).1
  have hSb := hS
  refine kS fx (m_copyOf l g ea (cap + max 1 (cap / 2)) cap _ f hk26 hcap) (lw_S q381 q382 q68 q383) hdJ13_copyOf ⟨(Nat.le_of_ble_eq_true rfl), (Nat.le_of_ble_eq_true rfl)⟩ ⟨(Nat.le_of_ble_eq_true rfl), (by show 0 + (cap + max 1 (cap / 2)) ≤ cap + max 1 (cap / 2); omega)⟩ hl.1 hS rfl (Nat.le_of_ble_eq_true rfl) (⟨rfl, h_e, hE0⟩) (fun q h => hAs q (Nat.le_trans hS.1 h)) dJ2_grow_2_37 (fun rv9 H locs hQ hz9 hk9 hS => ?_)
  obtain ⟨an_1, rfl, hloan_1, hat⟩ := hQ
  have ne_3 : a ≠ an_1 := Nat.ne_of_lt (Nat.lt_of_lt_of_le h_a.lt hloan_1)
  replace h_a := h_a.kept (hk9 _ h_a.lt (Nat.not_le.mpr h_a.lt))
  have ne_4 : ea ≠ an_1 := Nat.ne_of_lt (Nat.lt_of_lt_of_le h_e.lt hloan_1)
  replace h_e := h_e.kept (hk9 _ h_e.lt (Nat.not_le.mpr h_e.lt))
  have inan_1 := hAs an_1 (Nat.le_trans hSb.1 hloan_1)
  have hloan_1 := Nat.le_trans hSb.1 hloan_1
  have hn_2 : mAt g an_1 (.inl (g.2.1 2, (cap + max 1 (cap / 2)), rfs (va_cpy f (fun _ => none) 0 0 (min cap (cap + max 1 (cap / 2)))))) H := hat
  refine W.eq (g2 := F0 m 40 ls [.ref an_1, .ref a]) rfl ?_
  rw [cpy_all (by omega) hf] at hn_2
  refine lv_dup_x1 hx hb dJ2_grow_2_40 rfl rfl ?_
  refine mput fx tfJ2 h_a hS (Or.inl rfl) 1 (by decide) q108 (fun _ h => h) rfl rfl rfl (Nat.le_of_ble_eq_true rfl) dJ2_grow_2_41 (fun H locs hat hz hoq hS => ?_)
  replace h_e := h_e.kept (hoq _ (Ne.symm hae))
  replace hn_2 := hn_2.kept (hoq _ (Ne.symm ne_3))
  replace h_a : mAt g a (.inr (2, [.int mo, .ref an_1, .int (nI n)])) H := hat
  exact ra hx hb hr (Or.inr ⟨_, rfl⟩) hlocks hS (⟨an_1, rfl, by rw [hszs]; exact hloan_1, h_a, hn_2⟩) ⟨(Nat.le_of_ble_eq_true rfl), (by omega)⟩ dJ2_grow_2_44

set_option maxHeartbeats 4000000 in
theorem m_grow2B (l : Launch) (g : GT) (a n k sz : Nat) (mo : Int32) (ha : bA g a) (hk : k < 2 ^ 24) : Cn l g yJ2_grow_2 cJ2_grow_2 4 ((some (.array (.object "java/lang/Object")))) 3 1 (max 10 k) [.ref a, .int (nI k)] (fA (fun q => q = a) sz) (fun H => sz = H.size ∧ mAt g a (.inr (2, [.int mo, .ref (g.2.2 1), .int (nI n)])) H) (fun Hp rv Hq => ∃ q, rv = some (.ref q) ∧ sz ≤ q ∧ mAt g a (.inr (2, [.int mo, .ref q, .int (nI n)])) Hq ∧ mAt g q (.inl (g.2.1 2, max 10 k, rfs (fun _ => none))) Hq) := by
  refine Cn.start (plainFor_of_name (by decide +kernel)) (Nat.le_of_ble_eq_true rfl) ?_
  intro p ev s m below meth c ls H locs hH hx hb hr hts hown hlocks hml hnm hK hP hS hl
  obtain ⟨hsz, h_a⟩ := hP
  have hszs : sz = s.heap.size := by rw [hsz, hH]
  have hAs : ∀ q, s.heap.size ≤ q → (fA (fun q => q = a) sz) q := fun q h => Or.inr (by rw [hszs]; exact h)
  have hAb : ∀ q, (fA (fun q => q = a) sz) q → bA g q := fun q h => h.elim (fun h => by rw [h]; exact ha) (fun h => Nat.le_trans hK.2.2.sz (by rw [← hszs]; exact h))
  have fx : Fx p s m ([.ref a, .int (nI k)] : List Value).toArray c cJ2_grow_2 RJ2 g (fA (fun q => q = a) sz) 4 := ⟨hx, hb, hts, hown, hK, hAb, hml⟩
  have hl : lv_has ls 4 [(0, .ref a), (1, .int (nI k))] := hl
  refine lv_aload_n hx hb dJ2_grow_2_0 rfl (lv_at hl 0 rfl) ?_
  refine mget fx tfJ2 h_a 1 (by decide) q108 (fun _ h => h) (v := .ref (g.2.2 1)) rfl dJ2_grow_2_1 ?_
  refine mDElen fx hS dJ2_grow_2_4 ?_
  refine lv_istore_n (lv' := [(2, .int 0), (0, .ref a), (1, .int (nI k))]) hx hb dJ2_grow_2_5 rfl hl (by decide) rfl (fun ls hl => ?_)
  refine lv_iload_n hx hb dJ2_grow_2_6 rfl (lv_at hl 0 rfl) ?_
  refine lv_if_gt (tgt := 20) hx hb dJ2_grow_2_7 (by decide) (fun h9 => absurd h9 (by decide)) (fun _ => ?_)
  refine lv_aload_n hx hb dJ2_grow_2_10 rfl (lv_at hl 1 rfl) ?_
  refine mget fx tfJ2 h_a 1 (by decide) q108 (fun _ h => h) (v := .ref (g.2.2 1)) rfl dJ2_grow_2_11 ?_
  refine mgets fx hK.2.2.de hS q106 (fun _ h => h) dJ2_grow_2_14 ?_
  refine lv_acmp_eq (rx := some (g.2.2 1)) (ry := some (g.2.2 1)) (tgt := 45) hx hb dJ2_grow_2_17 (by decide) (fun _ => ?_) (fun h9 => absurd rfl h9)
  refine lv_aload_n hx hb dJ2_grow_2_45 rfl (lv_at hl 1 rfl) ?_
  refine lv_bipush (v := 10) hx hb dJ2_grow_2_46 (by decide) ?_
  refine lv_iload_n hx hb dJ2_grow_2_48 rfl (lv_at hl 2 rfl) ?_
  refine kS fx (m_max l g 10 (nI k)) (lw_S q416 q375 q67 q376) hdJ12_max ⟨(Nat.le_of_ble_eq_true rfl), (Nat.le_of_ble_eq_true rfl)⟩ ⟨(Nat.le_of_ble_eq_true rfl), (by show 0 + 0 ≤ max 10 k; omega)⟩ hl.1 hS rfl (Nat.le_of_ble_eq_true rfl) trivial (fun _ h => h.elim) dJ2_grow_2_49 (fun rv9 H locs hQ hz9 hk9 hS => ?_)
  obtain ⟨rfl, rfl⟩ := hQ
  refine W.eq (g2 := F0 m 52 ls [.int (jmax 10 (nI k)), .ref a]) rfl ?_
  refine mnewq fx q417 hS (max 10 k) (jmax_nI (a := 10) (by omega) (by omega)) (by omega) ⟨(Nat.le_of_ble_eq_true rfl), (by show 0 + max 10 k ≤ max 10 k; omega)⟩ dJ2_grow_2_52 (fun an_2 H ean_2 hloan_2 hat hz hoq hS => ?_)
  have ne_3 : a ≠ an_2 := Nat.ne_of_lt (by rw [ean_2]; exact h_a.lt)
  replace h_a := h_a.kept (hoq _ (by rw [ean_2]; exact h_a.lt))
  have inan_2 := hAs an_2 hloan_2
  have hn_1 : mAt g an_2 (.inl (g.2.1 2, max 10 k, rfs (fun _ => none))) H := hat
  refine lv_dup_x1 hx hb dJ2_grow_2_55 rfl rfl ?_
  refine mput fx tfJ2 h_a hS (Or.inl rfl) 1 (by decide) q108 (fun _ h => h) rfl rfl rfl (Nat.le_of_ble_eq_true rfl) dJ2_grow_2_56 (fun H locs hat hz hoq hS => ?_)
  replace hn_1 := hn_1.kept (hoq _ (Ne.symm ne_3))
  replace h_a : mAt g a (.inr (2, [.int mo, .ref an_2, .int (nI n)])) H := hat
  exact ra hx hb hr (Or.inr ⟨_, rfl⟩) hlocks hS (⟨an_2, rfl, by rw [hszs]; exact hloan_2, h_a, hn_1⟩) ⟨(Nat.le_of_ble_eq_true rfl), (by omega)⟩ dJ2_grow_2_59

set_option maxHeartbeats 4000000 in
theorem m_growA (l : Launch) (g : GT) (a ea cap sz : Nat) (mo : Int32) (f : Nat → Option Nat) (ha : bA g a) (hae : a ≠ ea) (h0 : cap ≠ 0) (hc : cap < 2 ^ 24) (hf : ∀ k, cap ≤ k → f k = none) : Cn l g yJ2_grow cJ2_grow 1 ((some (.array (.object "java/lang/Object")))) 4 1 (cap + max 1 (cap / 2)) [.ref a] (fA (fun q => q = a) sz) (fun H => sz = H.size ∧ mAt g a (.inr (2, [.int mo, .ref ea, .int (nI cap)])) H ∧ mAt g ea (.inl (g.2.1 2, cap, rfs f)) H ∧ mEls g a f H) (fun Hp rv Hq => ∃ q, rv = some (.ref q) ∧ sz ≤ q ∧ mAt g a (.inr (2, [.int mo, .ref q, .int (nI cap)])) Hq ∧ mAt g q (.inl (g.2.1 2, cap + max 1 (cap / 2), rfs f)) Hq) := by
  refine Cn.start (plainFor_of_name (by decide +kernel)) (Nat.le_of_ble_eq_true rfl) ?_
  intro p ev s m below meth c ls H locs hH hx hb hr hts hown hlocks hml hnm hK hP hS hl
  obtain ⟨hsz, h_a, h_e, hEl⟩ := hP
  have hszs : sz = s.heap.size := by rw [hsz, hH]
  have hAs : ∀ q, s.heap.size ≤ q → (fA (fun q => q = a) sz) q := fun q h => Or.inr (by rw [hszs]; exact h)
  have hAb : ∀ q, (fA (fun q => q = a) sz) q → bA g q := fun q h => h.elim (fun h => by rw [h]; exact ha) (fun h => Nat.le_trans hK.2.2.sz (by rw [← hszs]; exact h))
  have fx : Fx p s m ([.ref a] : List Value).toArray c cJ2_grow RJ2 g (fA (fun q => q = a) sz) 1 := ⟨hx, hb, hts, hown, hK, hAb, hml⟩
  have hl : lv_has ls 1 [(0, .ref a)] := hl
  refine lv_aload_n hx hb dJ2_grow_0 rfl (lv_at hl 0 rfl) ?_
  refine lv_aload_n hx hb dJ2_grow_1 rfl (lv_at hl 0 rfl) ?_
  refine mget fx tfJ2 h_a 2 (by decide) q109 (fun _ h => h) (v := .int (nI cap)) rfl dJ2_grow_2 ?_
  refine lv_iconst (v := 1) hx hb dJ2_grow_5 (by decide) ?_
  refine lv_iadd hx hb dJ2_grow_6 ?_
  rw [show (nI cap) + 1 = nI (cap + 1) from nI_add _ _]
  have hSb := hS
  refine kV fx (m_grow2A l g a ea cap cap _ mo f (fx.2.2.2.2.2.1 _ (Or.inl rfl)) hae h0 hc hf) (lw_V q367 q369 qs7 q54 q370) hdJ2_grow_2 ⟨(Nat.le_of_ble_eq_true rfl), (Nat.le_of_ble_eq_true rfl)⟩ ⟨(Nat.le_of_ble_eq_true rfl), (by show 0 + (cap + max 1 (cap / 2)) ≤ cap + max 1 (cap / 2); omega)⟩ hl.1 hS tfJ2.2.1 h_a rfl (Nat.le_of_ble_eq_true rfl) (⟨rfl, h_a, h_e, hEl⟩) (fun q h => h.elim (fun h => Or.inl h) (fun h => hAs q (Nat.le_trans hS.1 h))) dJ2_grow_7 (fun rv9 H locs hQ hz9 hk9 hS => ?_)
  obtain ⟨an_1, rfl, hloan_1, hat, hatn⟩ := hQ
  have ne_3 : ea ≠ an_1 := Nat.ne_of_lt (Nat.lt_of_lt_of_le h_e.lt hloan_1)
  replace h_e := h_e.kept (hk9 _ h_e.lt (fun h => h.elim (Ne.symm hae) (Nat.not_le.mpr h_e.lt)))
  have ne_4 : a ≠ an_1 := Nat.ne_of_lt (Nat.lt_of_lt_of_le h_a.lt hloan_1)
  replace h_a : mAt g a (.inr (2, [.int mo, .ref an_1, .int (nI cap)])) H := hat
  have inan_1 := hAs an_1 (Nat.le_trans hSb.1 hloan_1)
  have hloan_1 := Nat.le_trans hSb.1 hloan_1
  have hn_2 : mAt g an_1 (.inl (g.2.1 2, cap + max 1 (cap / 2), rfs f)) H := hatn
  refine W.eq (g2 := F0 m 10 ls [.ref an_1]) rfl ?_
  exact ra hx hb hr (Or.inr ⟨_, rfl⟩) hlocks hS (⟨an_1, rfl, by rw [hszs]; exact hloan_1, h_a, hn_2⟩) ⟨(Nat.le_of_ble_eq_true rfl), (by omega)⟩ dJ2_grow_10

set_option maxHeartbeats 4000000 in
theorem m_growB (l : Launch) (g : GT) (a sz : Nat) (mo : Int32) (ha : bA g a) : Cn l g yJ2_grow cJ2_grow 1 ((some (.array (.object "java/lang/Object")))) 4 1 10 [.ref a] (fA (fun q => q = a) sz) (fun H => sz = H.size ∧ mAt g a (.inr (2, [.int mo, .ref (g.2.2 1), .int (nI 0)])) H) (fun Hp rv Hq => ∃ q, rv = some (.ref q) ∧ sz ≤ q ∧ mAt g a (.inr (2, [.int mo, .ref q, .int (nI 0)])) Hq ∧ mAt g q (.inl (g.2.1 2, 10, rfs (fun _ => none))) Hq) := by
  refine Cn.start (plainFor_of_name (by decide +kernel)) (Nat.le_of_ble_eq_true rfl) ?_
  intro p ev s m below meth c ls H locs hH hx hb hr hts hown hlocks hml hnm hK hP hS hl
  obtain ⟨hsz, h_a⟩ := hP
  have hszs : sz = s.heap.size := by rw [hsz, hH]
  have hAs : ∀ q, s.heap.size ≤ q → (fA (fun q => q = a) sz) q := fun q h => Or.inr (by rw [hszs]; exact h)
  have hAb : ∀ q, (fA (fun q => q = a) sz) q → bA g q := fun q h => h.elim (fun h => by rw [h]; exact ha) (fun h => Nat.le_trans hK.2.2.sz (by rw [← hszs]; exact h))
  have fx : Fx p s m ([.ref a] : List Value).toArray c cJ2_grow RJ2 g (fA (fun q => q = a) sz) 1 := ⟨hx, hb, hts, hown, hK, hAb, hml⟩
  have hl : lv_has ls 1 [(0, .ref a)] := hl
  refine lv_aload_n hx hb dJ2_grow_0 rfl (lv_at hl 0 rfl) ?_
  refine lv_aload_n hx hb dJ2_grow_1 rfl (lv_at hl 0 rfl) ?_
  refine mget fx tfJ2 h_a 2 (by decide) q109 (fun _ h => h) (v := .int (nI 0)) rfl dJ2_grow_2 ?_
  refine lv_iconst (v := 1) hx hb dJ2_grow_5 (by decide) ?_
  refine lv_iadd hx hb dJ2_grow_6 ?_
  rw [show (nI 0) + 1 = nI (0 + 1) from nI_add _ _]
  have hSb := hS
  refine kV fx (m_grow2B l g a 0 (0 + 1) _ mo (fx.2.2.2.2.2.1 _ (Or.inl rfl)) (by omega)) (lw_V q367 q369 qs7 q54 q370) hdJ2_grow_2 ⟨(Nat.le_of_ble_eq_true rfl), (Nat.le_of_ble_eq_true rfl)⟩ ⟨(Nat.le_of_ble_eq_true rfl), (Nat.le_of_ble_eq_true rfl)⟩ hl.1 hS tfJ2.2.1 h_a rfl (Nat.le_of_ble_eq_true rfl) (⟨rfl, h_a⟩) (fun q h => h.elim (fun h => Or.inl h) (fun h => hAs q (Nat.le_trans hS.1 h))) dJ2_grow_7 (fun rv9 H locs hQ hz9 hk9 hS => ?_)
  obtain ⟨an_1, rfl, hloan_1, hat, hatn⟩ := hQ
  have ne_3 : a ≠ an_1 := Nat.ne_of_lt (Nat.lt_of_lt_of_le h_a.lt hloan_1)
  replace h_a : mAt g a (.inr (2, [.int mo, .ref an_1, .int (nI 0)])) H := hat
  have inan_1 := hAs an_1 (Nat.le_trans hSb.1 hloan_1)
  have hloan_1 := Nat.le_trans hSb.1 hloan_1
  have hn_2 : mAt g an_1 (.inl (g.2.1 2, max 10 (0 + 1), rfs (fun _ => none))) H := hatn
  refine W.eq (g2 := F0 m 10 ls [.ref an_1]) rfl ?_
  exact ra hx hb hr (Or.inr ⟨_, rfl⟩) hlocks hS (⟨an_1, rfl, by rw [hszs]; exact hloan_1, h_a, hn_2⟩) ⟨(Nat.le_of_ble_eq_true rfl), (by omega)⟩ dJ2_grow_10

set_option maxHeartbeats 4000000 in
theorem m_add2A (l : Launch) (g : GT) (a v ea cap sz : Nat) (mo : Int32) (f : Nat → Option Nat) (ha : bA g a) (hae : a ≠ ea) (hva : v ≠ a) (h0 : cap ≠ 0) (hc : cap < 2 ^ 24) (hf : ∀ k, cap ≤ k → f k = none) : Cn l g yJ2_add_2 cJ2_add_2 4 (none) 5 1 (cap + max 1 (cap / 2)) [.ref a, .ref v, .ref ea, .int (nI cap)] (fA (fun q => q = a) sz) (fun H => sz = H.size ∧ mAt g a (.inr (2, [.int mo, .ref ea, .int (nI cap)])) H ∧ mAt g ea (.inl (g.2.1 2, cap, rfs f)) H ∧ mEls g a f H ∧ mEl g v H) (fun Hp rv Hq => ∃ q, rv = none ∧ sz ≤ q ∧ mAt g a (.inr (2, [.int mo, .ref q, .int (nI (cap + 1))])) Hq ∧ mAt g q (.inl (g.2.1 2, cap + max 1 (cap / 2), rfs (va_up f cap (some v)))) Hq) := by
  refine Cn.start (plainFor_of_name (by decide +kernel)) (Nat.le_of_ble_eq_true rfl) ?_
  intro p ev s m below meth c ls H locs hH hx hb hr hts hown hlocks hml hnm hK hP hS hl
  obtain ⟨hsz, h_a, h_e, hEl, hv⟩ := hP
  have hszs : sz = s.heap.size := by rw [hsz, hH]
  have hAs : ∀ q, s.heap.size ≤ q → (fA (fun q => q = a) sz) q := fun q h => Or.inr (by rw [hszs]; exact h)
  have hAb : ∀ q, (fA (fun q => q = a) sz) q → bA g q := fun q h => h.elim (fun h => by rw [h]; exact ha) (fun h => Nat.le_trans hK.2.2.sz (by rw [← hszs]; exact h))
  have fx : Fx p s m ([.ref a, .ref v, .ref ea, .int (nI cap)] : List Value).toArray c cJ2_add_2 RJ2 g (fA (fun q => q = a) sz) 4 := ⟨hx, hb, hts, hown, hK, hAb, hml⟩
  have hl : lv_has ls 4 [(0, .ref a), (1, .ref v), (2, .ref ea), (3, .int (nI cap))] := hl
  refine lv_iload_n hx hb dJ2_add_2_0 rfl (lv_at hl 3 rfl) ?_
  refine lv_aload_n hx hb dJ2_add_2_1 rfl (lv_at hl 2 rfl) ?_
  refine malen fx (t := 2) (.object "java/lang/Object") rfl h_e dJ2_add_2_2 ?_
  refine lv_icmp_ne (tgt := 11) hx hb dJ2_add_2_3 (by decide) (fun h9 => absurd rfl h9) (fun _ => ?_)
  refine lv_aload_n hx hb dJ2_add_2_6 rfl (lv_at hl 0 rfl) ?_
  have hSb := hS
  refine kV fx (m_growA l g a ea cap _ mo f (fx.2.2.2.2.2.1 _ (Or.inl rfl)) hae h0 hc hf) (lw_V q363 q365 qs6 q54 q366) hdJ2_grow ⟨(Nat.le_of_ble_eq_true rfl), (Nat.le_of_ble_eq_true rfl)⟩ ⟨(Nat.le_of_ble_eq_true rfl), (by show 0 + (cap + max 1 (cap / 2)) ≤ cap + max 1 (cap / 2); omega)⟩ hl.1 hS tfJ2.2.1 h_a rfl (Nat.le_of_ble_eq_true rfl) (⟨rfl, h_a, h_e, hEl⟩) (fun q h => h.elim (fun h => Or.inl h) (fun h => hAs q (Nat.le_trans hS.1 h))) dJ2_add_2_7 (fun rv9 H locs hQ hz9 hk9 hS => ?_)
  obtain ⟨an_1, rfl, hloan_1, hat, hatn⟩ := hQ
  replace hv := hv.kept' (fun h => hk9 _ h (fun z => z.elim hva (Nat.not_le.mpr h)))
  have ne_3 : ea ≠ an_1 := Nat.ne_of_lt (Nat.lt_of_lt_of_le h_e.lt hloan_1)
  replace h_e := h_e.kept (hk9 _ h_e.lt (fun h => h.elim (Ne.symm hae) (Nat.not_le.mpr h_e.lt)))
  have ne_4 : a ≠ an_1 := Nat.ne_of_lt (Nat.lt_of_lt_of_le h_a.lt hloan_1)
  replace h_a : mAt g a (.inr (2, [.int mo, .ref an_1, .int (nI cap)])) H := hat
  have inan_1 := hAs an_1 (Nat.le_trans hSb.1 hloan_1)
  have hloan_1 := Nat.le_trans hSb.1 hloan_1
  have hn_2 : mAt g an_1 (.inl (g.2.1 2, cap + max 1 (cap / 2), rfs f)) H := hatn
  refine W.eq (g2 := F0 m 10 ls [.ref an_1]) rfl ?_
  refine lv_astore_n (lv' := [(2, .ref an_1), (0, .ref a), (1, .ref v), (3, .int (nI cap))]) hx hb dJ2_add_2_10 rfl hl (by decide) rfl (fun ls hl => ?_)
  refine lv_aload_n hx hb dJ2_add_2_11 rfl (lv_at hl 0 rfl) ?_
  refine lv_iload_n hx hb dJ2_add_2_12 rfl (lv_at hl 3 rfl) ?_
  refine lv_aload_n hx hb dJ2_add_2_13 rfl (lv_at hl 2 rfl) ?_
  refine mastq fx hn_2 (mAny fx hS hv) hS inan_1 cap rfl (by omega) (by omega) dJ2_add_2_14 (fun H locs hat hz hoq hS => ?_)
  replace h_a := h_a.kept (hoq _ ne_4)
  replace h_e := h_e.kept (hoq _ ne_3)
  replace hn_2 : mAt g an_1 (.inl (g.2.1 2, cap + max 1 (cap / 2), rfs (va_up f cap (some v)))) H := hat
  refine lv_aload_n hx hb dJ2_add_2_15 rfl (lv_at hl 1 rfl) ?_
  refine lv_iload_n hx hb dJ2_add_2_16 rfl (lv_at hl 3 rfl) ?_
  refine lv_iconst (v := 1) hx hb dJ2_add_2_17 (by decide) ?_
  refine lv_iadd hx hb dJ2_add_2_18 ?_
  rw [show (nI cap) + 1 = nI (cap + 1) from nI_add _ _]
  refine mput fx tfJ2 h_a hS (Or.inl rfl) 2 (by decide) q109 (fun _ h => h) rfl rfl rfl (Nat.le_of_ble_eq_true rfl) dJ2_add_2_19 (fun H locs hat hz hoq hS => ?_)
  replace h_e := h_e.kept (hoq _ (Ne.symm hae))
  replace hn_2 := hn_2.kept (hoq _ (Ne.symm ne_4))
  replace h_a : mAt g a (.inr (2, [.int mo, .ref an_1, .int (nI (cap + 1))])) H := hat
  exact rv hx hb hr hlocks hS (⟨an_1, rfl, by rw [hszs]; exact hloan_1, h_a, hn_2⟩) ⟨(Nat.le_of_ble_eq_true rfl), (by omega)⟩ dJ2_add_2_22

set_option maxHeartbeats 4000000 in
theorem m_addA (l : Launch) (g : GT) (a v ea cap sz : Nat) (mo : Int32) (f : Nat → Option Nat) (ha : bA g a) (hae : a ≠ ea) (hva : v ≠ a) (h0 : cap ≠ 0) (hc : cap < 2 ^ 24) (hf : ∀ k, cap ≤ k → f k = none) : Cn l g yJ2_add cJ2_add 2 ((some .boolean)) 6 1 (cap + max 1 (cap / 2)) [.ref a, .ref v] (fA (fun q => q = a) sz) (fun H => sz = H.size ∧ mAt g a (.inr (2, [.int mo, .ref ea, .int (nI cap)])) H ∧ mAt g ea (.inl (g.2.1 2, cap, rfs f)) H ∧ mEls g a f H ∧ mEl g v H) (fun Hp rv Hq => ∃ q, rv = some (.int 1) ∧ sz ≤ q ∧ mAt g a (.inr (2, [.int (mo + 1), .ref q, .int (nI (cap + 1))])) Hq ∧ mAt g q (.inl (g.2.1 2, cap + max 1 (cap / 2), rfs (va_up f cap (some v)))) Hq) := by
  refine Cn.start (plainFor_of_name (by decide +kernel)) (Nat.le_of_ble_eq_true rfl) ?_
  intro p ev s m below meth c ls H locs hH hx hb hr hts hown hlocks hml hnm hK hP hS hl
  obtain ⟨hsz, h_a, h_e, hEl, hv⟩ := hP
  have hszs : sz = s.heap.size := by rw [hsz, hH]
  have hAs : ∀ q, s.heap.size ≤ q → (fA (fun q => q = a) sz) q := fun q h => Or.inr (by rw [hszs]; exact h)
  have hAb : ∀ q, (fA (fun q => q = a) sz) q → bA g q := fun q h => h.elim (fun h => by rw [h]; exact ha) (fun h => Nat.le_trans hK.2.2.sz (by rw [← hszs]; exact h))
  have fx : Fx p s m ([.ref a, .ref v] : List Value).toArray c cJ2_add RJ2 g (fA (fun q => q = a) sz) 2 := ⟨hx, hb, hts, hown, hK, hAb, hml⟩
  have hl : lv_has ls 2 [(0, .ref a), (1, .ref v)] := hl
  refine lv_aload_n hx hb dJ2_add_0 rfl (lv_at hl 0 rfl) ?_
  refine lv_dup hx hb dJ2_add_1 rfl ?_
  refine mget fx tfJ2 h_a 0 (by decide) q111 (fun x h => u_same (hts _ q112) x h) (v := .int mo) rfl dJ2_add_2 ?_
  refine lv_iconst (v := 1) hx hb dJ2_add_5 (by decide) ?_
  refine lv_iadd hx hb dJ2_add_6 ?_
  refine mput fx tfJ2 h_a hS (Or.inl rfl) 0 (by decide) q111 (fun x h => u_same (hts _ q112) x h) rfl rfl rfl (Nat.le_of_ble_eq_true rfl) dJ2_add_7 (fun H locs hat hz hoq hS => ?_)
  replace h_e := h_e.kept (hoq _ (Ne.symm hae))
  replace hv := hv.kept (hoq _ hva)
  replace hEl := hEl.kept (fun q _ h => hoq q h)
  replace h_a : mAt g a (.inr (2, [.int (mo + 1), .ref ea, .int (nI cap)])) H := hat
  refine lv_aload_n hx hb dJ2_add_10 rfl (lv_at hl 0 rfl) ?_
  refine lv_aload_n hx hb dJ2_add_11 rfl (lv_at hl 1 rfl) ?_
  refine lv_aload_n hx hb dJ2_add_12 rfl (lv_at hl 0 rfl) ?_
  refine mget fx tfJ2 h_a 1 (by decide) q108 (fun _ h => h) (v := .ref ea) rfl dJ2_add_13 ?_
  refine lv_aload_n hx hb dJ2_add_16 rfl (lv_at hl 0 rfl) ?_
  refine mget fx tfJ2 h_a 2 (by decide) q109 (fun _ h => h) (v := .int (nI cap)) rfl dJ2_add_17 ?_
  have hSb := hS
  refine kV fx (m_add2A l g a v ea cap _ (mo + 1) f ha hae hva h0 hc hf) (lw_V q359 q361 qs5 q54 q362) hdJ2_add_2 ⟨(Nat.le_of_ble_eq_true rfl), (Nat.le_of_ble_eq_true rfl)⟩ ⟨(Nat.le_of_ble_eq_true rfl), (by show 0 + (cap + max 1 (cap / 2)) ≤ cap + max 1 (cap / 2); omega)⟩ hl.1 hS tfJ2.2.1 h_a rfl (Nat.le_of_ble_eq_true rfl) (⟨rfl, h_a, h_e, hEl, hv⟩) (fun q h => h.elim (fun h => Or.inl h) (fun h => hAs q (Nat.le_trans hS.1 h))) dJ2_add_20 (fun rv9 H locs hQ hz9 hk9 hS => ?_)
  obtain ⟨an_9, rfl, hloan_9, hat, hatn⟩ := hQ
  have hloan_9 := Nat.le_trans hSb.1 hloan_9
  replace h_a : mAt g a (.inr (2, [.int (mo + 1), .ref an_9, .int (nI (cap + 1))])) H := hat
  have hn_9 : mAt g an_9 (.inl (g.2.1 2, cap + max 1 (cap / 2), rfs (va_up f cap (some v)))) H := hatn
  refine W.eq (g2 := F0 m 23 ls []) rfl ?_
  refine lv_iconst (v := 1) hx hb dJ2_add_23 (by decide) ?_
  exact rz hx hb hr hlocks rfl hS (⟨an_9, rfl, by rw [hszs]; exact hloan_9, h_a, hn_9⟩) ⟨(Nat.le_of_ble_eq_true rfl), (by omega)⟩ dJ2_add_24

set_option maxHeartbeats 4000000 in
theorem m_add2B (l : Launch) (g : GT) (a v sz : Nat) (mo : Int32) (ha : bA g a) (hva : v ≠ a) : Cn l g yJ2_add_2 cJ2_add_2 4 (none) 5 1 10 [.ref a, .ref v, .ref (g.2.2 1), .int (nI 0)] (fA (fun q => q = a) sz) (fun H => sz = H.size ∧ mAt g a (.inr (2, [.int mo, .ref (g.2.2 1), .int (nI 0)])) H ∧ mEl g v H) (fun Hp rv Hq => ∃ q, rv = none ∧ sz ≤ q ∧ mAt g a (.inr (2, [.int mo, .ref q, .int (nI (0 + 1))])) Hq ∧ mAt g q (.inl (g.2.1 2, 10, rfs (va_up (fun _ => none) 0 (some v)))) Hq) := by
  refine Cn.start (plainFor_of_name (by decide +kernel)) (Nat.le_of_ble_eq_true rfl) ?_
  intro p ev s m below meth c ls H locs hH hx hb hr hts hown hlocks hml hnm hK hP hS hl
  obtain ⟨hsz, h_a, hv⟩ := hP
  have hszs : sz = s.heap.size := by rw [hsz, hH]
  have hAs : ∀ q, s.heap.size ≤ q → (fA (fun q => q = a) sz) q := fun q h => Or.inr (by rw [hszs]; exact h)
  have hAb : ∀ q, (fA (fun q => q = a) sz) q → bA g q := fun q h => h.elim (fun h => by rw [h]; exact ha) (fun h => Nat.le_trans hK.2.2.sz (by rw [← hszs]; exact h))
  have fx : Fx p s m ([.ref a, .ref v, .ref (g.2.2 1), .int (nI 0)] : List Value).toArray c cJ2_add_2 RJ2 g (fA (fun q => q = a) sz) 4 := ⟨hx, hb, hts, hown, hK, hAb, hml⟩
  have hl : lv_has ls 4 [(0, .ref a), (1, .ref v), (2, .ref (g.2.2 1)), (3, .int (nI 0))] := hl
  refine lv_iload_n hx hb dJ2_add_2_0 rfl (lv_at hl 3 rfl) ?_
  refine lv_aload_n hx hb dJ2_add_2_1 rfl (lv_at hl 2 rfl) ?_
  refine mDElen fx hS dJ2_add_2_2 ?_
  refine lv_icmp_ne (tgt := 11) hx hb dJ2_add_2_3 (by decide) (fun h9 => absurd rfl h9) (fun _ => ?_)
  refine lv_aload_n hx hb dJ2_add_2_6 rfl (lv_at hl 0 rfl) ?_
  have hSb := hS
  refine kV fx (m_growB l g a _ mo (fx.2.2.2.2.2.1 _ (Or.inl rfl))) (lw_V q363 q365 qs6 q54 q366) hdJ2_grow ⟨(Nat.le_of_ble_eq_true rfl), (Nat.le_of_ble_eq_true rfl)⟩ ⟨(Nat.le_of_ble_eq_true rfl), (Nat.le_of_ble_eq_true rfl)⟩ hl.1 hS tfJ2.2.1 h_a rfl (Nat.le_of_ble_eq_true rfl) (⟨rfl, h_a⟩) (fun q h => h.elim (fun h => Or.inl h) (fun h => hAs q (Nat.le_trans hS.1 h))) dJ2_add_2_7 (fun rv9 H locs hQ hz9 hk9 hS => ?_)
  obtain ⟨an_1, rfl, hloan_1, hat, hatn⟩ := hQ
  replace hv := hv.kept' (fun h => hk9 _ h (fun z => z.elim hva (Nat.not_le.mpr h)))
  have ne_3 : a ≠ an_1 := Nat.ne_of_lt (Nat.lt_of_lt_of_le h_a.lt hloan_1)
  replace h_a : mAt g a (.inr (2, [.int mo, .ref an_1, .int (nI 0)])) H := hat
  have inan_1 := hAs an_1 (Nat.le_trans hSb.1 hloan_1)
  have hloan_1 := Nat.le_trans hSb.1 hloan_1
  have hn_2 : mAt g an_1 (.inl (g.2.1 2, 10, rfs (fun _ => none))) H := hatn
  refine W.eq (g2 := F0 m 10 ls [.ref an_1]) rfl ?_
  refine lv_astore_n (lv' := [(2, .ref an_1), (0, .ref a), (1, .ref v), (3, .int (nI 0))]) hx hb dJ2_add_2_10 rfl hl (by decide) rfl (fun ls hl => ?_)
  refine lv_aload_n hx hb dJ2_add_2_11 rfl (lv_at hl 0 rfl) ?_
  refine lv_iload_n hx hb dJ2_add_2_12 rfl (lv_at hl 3 rfl) ?_
  refine lv_aload_n hx hb dJ2_add_2_13 rfl (lv_at hl 2 rfl) ?_
  refine mastq fx hn_2 (mAny fx hS hv) hS inan_1 0 rfl (by decide) (by omega) dJ2_add_2_14 (fun H locs hat hz hoq hS => ?_)
  replace h_a := h_a.kept (hoq _ ne_3)
  replace hn_2 : mAt g an_1 (.inl (g.2.1 2, 10, rfs (va_up (fun _ => none) 0 (some v)))) H := hat
  refine lv_aload_n hx hb dJ2_add_2_15 rfl (lv_at hl 1 rfl) ?_
  refine lv_iload_n hx hb dJ2_add_2_16 rfl (lv_at hl 3 rfl) ?_
  refine lv_iconst (v := 1) hx hb dJ2_add_2_17 (by decide) ?_
  refine lv_iadd hx hb dJ2_add_2_18 ?_
  rw [show (nI 0) + 1 = nI (0 + 1) from nI_add _ _]
  refine mput fx tfJ2 h_a hS (Or.inl rfl) 2 (by decide) q109 (fun _ h => h) rfl rfl rfl (Nat.le_of_ble_eq_true rfl) dJ2_add_2_19 (fun H locs hat hz hoq hS => ?_)
  replace hn_2 := hn_2.kept (hoq _ (Ne.symm ne_3))
  replace h_a : mAt g a (.inr (2, [.int mo, .ref an_1, .int (nI (0 + 1))])) H := hat
  exact rv hx hb hr hlocks hS (⟨an_1, rfl, by rw [hszs]; exact hloan_1, h_a, hn_2⟩) ⟨(Nat.le_of_ble_eq_true rfl), (Nat.le_of_ble_eq_true rfl)⟩ dJ2_add_2_22

set_option maxHeartbeats 4000000 in
theorem m_addB (l : Launch) (g : GT) (a v sz : Nat) (mo : Int32) (ha : bA g a) (hva : v ≠ a) : Cn l g yJ2_add cJ2_add 2 ((some .boolean)) 6 1 10 [.ref a, .ref v] (fA (fun q => q = a) sz) (fun H => sz = H.size ∧ mAt g a (.inr (2, [.int mo, .ref (g.2.2 1), .int (nI 0)])) H ∧ mEl g v H) (fun Hp rv Hq => ∃ q, rv = some (.int 1) ∧ sz ≤ q ∧ mAt g a (.inr (2, [.int (mo + 1), .ref q, .int (nI (0 + 1))])) Hq ∧ mAt g q (.inl (g.2.1 2, 10, rfs (va_up (fun _ => none) 0 (some v)))) Hq) := by
  refine Cn.start (plainFor_of_name (by decide +kernel)) (Nat.le_of_ble_eq_true rfl) ?_
  intro p ev s m below meth c ls H locs hH hx hb hr hts hown hlocks hml hnm hK hP hS hl
  obtain ⟨hsz, h_a, hv⟩ := hP
  have hszs : sz = s.heap.size := by rw [hsz, hH]
  have hAs : ∀ q, s.heap.size ≤ q → (fA (fun q => q = a) sz) q := fun q h => Or.inr (by rw [hszs]; exact h)
  have hAb : ∀ q, (fA (fun q => q = a) sz) q → bA g q := fun q h => h.elim (fun h => by rw [h]; exact ha) (fun h => Nat.le_trans hK.2.2.sz (by rw [← hszs]; exact h))
  have fx : Fx p s m ([.ref a, .ref v] : List Value).toArray c cJ2_add RJ2 g (fA (fun q => q = a) sz) 2 := ⟨hx, hb, hts, hown, hK, hAb, hml⟩
  have hl : lv_has ls 2 [(0, .ref a), (1, .ref v)] := hl
  refine lv_aload_n hx hb dJ2_add_0 rfl (lv_at hl 0 rfl) ?_
  refine lv_dup hx hb dJ2_add_1 rfl ?_
  refine mget fx tfJ2 h_a 0 (by decide) q111 (fun x h => u_same (hts _ q112) x h) (v := .int mo) rfl dJ2_add_2 ?_
  refine lv_iconst (v := 1) hx hb dJ2_add_5 (by decide) ?_
  refine lv_iadd hx hb dJ2_add_6 ?_
  refine mput fx tfJ2 h_a hS (Or.inl rfl) 0 (by decide) q111 (fun x h => u_same (hts _ q112) x h) rfl rfl rfl (Nat.le_of_ble_eq_true rfl) dJ2_add_7 (fun H locs hat hz hoq hS => ?_)
  replace hv := hv.kept (hoq _ hva)
  replace h_a : mAt g a (.inr (2, [.int (mo + 1), .ref (g.2.2 1), .int (nI 0)])) H := hat
  refine lv_aload_n hx hb dJ2_add_10 rfl (lv_at hl 0 rfl) ?_
  refine lv_aload_n hx hb dJ2_add_11 rfl (lv_at hl 1 rfl) ?_
  refine lv_aload_n hx hb dJ2_add_12 rfl (lv_at hl 0 rfl) ?_
  refine mget fx tfJ2 h_a 1 (by decide) q108 (fun _ h => h) (v := .ref (g.2.2 1)) rfl dJ2_add_13 ?_
  refine lv_aload_n hx hb dJ2_add_16 rfl (lv_at hl 0 rfl) ?_
  refine mget fx tfJ2 h_a 2 (by decide) q109 (fun _ h => h) (v := .int (nI 0)) rfl dJ2_add_17 ?_
  have hSb := hS
  refine kV fx (m_add2B l g a v _ (mo + 1) ha hva) (lw_V q359 q361 qs5 q54 q362) hdJ2_add_2 ⟨(Nat.le_of_ble_eq_true rfl), (Nat.le_of_ble_eq_true rfl)⟩ ⟨(Nat.le_of_ble_eq_true rfl), (Nat.le_of_ble_eq_true rfl)⟩ hl.1 hS tfJ2.2.1 h_a rfl (Nat.le_of_ble_eq_true rfl) (⟨rfl, h_a, hv⟩) (fun q h => h.elim (fun h => Or.inl h) (fun h => hAs q (Nat.le_trans hS.1 h))) dJ2_add_20 (fun rv9 H locs hQ hz9 hk9 hS => ?_)
  obtain ⟨an_9, rfl, hloan_9, hat, hatn⟩ := hQ
  have hloan_9 := Nat.le_trans hSb.1 hloan_9
  replace h_a : mAt g a (.inr (2, [.int (mo + 1), .ref an_9, .int (nI (0 + 1))])) H := hat
  have hn_9 : mAt g an_9 (.inl (g.2.1 2, 10, rfs (va_up (fun _ => none) 0 (some v)))) H := hatn
  refine W.eq (g2 := F0 m 23 ls []) rfl ?_
  refine lv_iconst (v := 1) hx hb dJ2_add_23 (by decide) ?_
  exact rz hx hb hr hlocks rfl hS (⟨an_9, rfl, by rw [hszs]; exact hloan_9, h_a, hn_9⟩) ⟨(Nat.le_of_ble_eq_true rfl), (Nat.le_of_ble_eq_true rfl)⟩ dJ2_add_24

set_option maxHeartbeats 4000000 in
theorem m_add2I (l : Launch) (g : GT) (a v ea n cap : Nat) (mo : Int32) (f : Nat → Option Nat) (ha : bA g a) (hea : bA g ea) (hae : a ≠ ea) (hva : v ≠ a) (hn : n < cap) (hc : cap < 2 ^ 24) : Cn l g yJ2_add_2 cJ2_add_2 4 (none) 5 0 0 [.ref a, .ref v, .ref ea, .int (nI n)] (fun q => q = a ∨ q = ea) (fun H => mAt g a (.inr (2, [.int mo, .ref ea, .int (nI n)])) H ∧ mAt g ea (.inl (g.2.1 2, cap, rfs f)) H ∧ mEl g v H) (fun Hp rv Hq => rv = none ∧ mAt g a (.inr (2, [.int mo, .ref ea, .int (nI (n + 1))])) Hq ∧ mAt g ea (.inl (g.2.1 2, cap, rfs (va_up f n (some v)))) Hq) := by
  refine Cn.start (plainFor_of_name (by decide +kernel)) (Nat.le_of_ble_eq_true rfl) ?_
  intro p ev s m below meth c ls H locs hH hx hb hr hts hown hlocks hml hnm hK hP hS hl
  obtain ⟨h_a, h_e, hv⟩ := hP
  have hncap : ¬ nI n = nI cap := fun z => by have := (nI_eq (by omega) (by omega)).mp z; omega
  have fx : Fx p s m ([.ref a, .ref v, .ref ea, .int (nI n)] : List Value).toArray c cJ2_add_2 RJ2 g (fun q => q = a ∨ q = ea) 4 := ⟨hx, hb, hts, hown, hK, (fun q h => h.elim (fun h => by rw [h]; exact ha) (fun h => by rw [h]; exact hea)), hml⟩
  have hl : lv_has ls 4 [(0, .ref a), (1, .ref v), (2, .ref ea), (3, .int (nI n))] := hl
  refine lv_iload_n hx hb dJ2_add_2_0 rfl (lv_at hl 3 rfl) ?_
  refine lv_aload_n hx hb dJ2_add_2_1 rfl (lv_at hl 2 rfl) ?_
  refine malen fx (t := 2) (.object "java/lang/Object") rfl h_e dJ2_add_2_2 ?_
  refine lv_icmp_ne (tgt := 11) hx hb dJ2_add_2_3 (by decide) (fun _ => ?_) (fun h9 => absurd h9 hncap)
  refine lv_aload_n hx hb dJ2_add_2_11 rfl (lv_at hl 2 rfl) ?_
  refine lv_iload_n hx hb dJ2_add_2_12 rfl (lv_at hl 3 rfl) ?_
  refine lv_aload_n hx hb dJ2_add_2_13 rfl (lv_at hl 1 rfl) ?_
  refine mastq fx h_e (mAny fx hS hv) hS (Or.inr rfl) n rfl hn (by omega) dJ2_add_2_14 (fun H locs hat hz hoq hS => ?_)
  replace h_a := h_a.kept (hoq _ hae)
  replace h_e : mAt g ea (.inl (g.2.1 2, cap, rfs (va_up f n (some v)))) H := hat
  refine lv_aload_n hx hb dJ2_add_2_15 rfl (lv_at hl 0 rfl) ?_
  refine lv_iload_n hx hb dJ2_add_2_16 rfl (lv_at hl 3 rfl) ?_
  refine lv_iconst (v := 1) hx hb dJ2_add_2_17 (by decide) ?_
  refine lv_iadd hx hb dJ2_add_2_18 ?_
  rw [show (nI n) + 1 = nI (n + 1) from nI_add _ _]
  refine mput fx tfJ2 h_a hS (Or.inl rfl) 2 (by decide) q109 (fun _ h => h) rfl rfl rfl (Nat.le_of_ble_eq_true rfl) dJ2_add_2_19 (fun H locs hat hz hoq hS => ?_)
  replace h_e := h_e.kept (hoq _ (Ne.symm hae))
  replace h_a : mAt g a (.inr (2, [.int mo, .ref ea, .int (nI (n + 1))])) H := hat
  exact rv hx hb hr hlocks hS (⟨rfl, h_a, h_e⟩) ⟨(Nat.le_of_ble_eq_true rfl), (Nat.le_of_ble_eq_true rfl)⟩ dJ2_add_2_22

set_option maxHeartbeats 4000000 in
theorem m_addI (l : Launch) (g : GT) (a v ea n cap : Nat) (mo : Int32) (f : Nat → Option Nat) (ha : bA g a) (hea : bA g ea) (hae : a ≠ ea) (hva : v ≠ a) (hn : n < cap) (hc : cap < 2 ^ 24) : Cn l g yJ2_add cJ2_add 2 ((some .boolean)) 6 0 0 [.ref a, .ref v] (fun q => q = a ∨ q = ea) (fun H => mAt g a (.inr (2, [.int mo, .ref ea, .int (nI n)])) H ∧ mAt g ea (.inl (g.2.1 2, cap, rfs f)) H ∧ mEl g v H) (fun Hp rv Hq => rv = some (.int 1) ∧ mAt g a (.inr (2, [.int (mo + 1), .ref ea, .int (nI (n + 1))])) Hq ∧ mAt g ea (.inl (g.2.1 2, cap, rfs (va_up f n (some v)))) Hq) := by
  refine Cn.start (plainFor_of_name (by decide +kernel)) (Nat.le_of_ble_eq_true rfl) ?_
  intro p ev s m below meth c ls H locs hH hx hb hr hts hown hlocks hml hnm hK hP hS hl
  obtain ⟨h_a, h_e, hv⟩ := hP
  have hncap : ¬ nI n = nI cap := fun z => by have := (nI_eq (by omega) (by omega)).mp z; omega
  have fx : Fx p s m ([.ref a, .ref v] : List Value).toArray c cJ2_add RJ2 g (fun q => q = a ∨ q = ea) 2 := ⟨hx, hb, hts, hown, hK, (fun q h => h.elim (fun h => by rw [h]; exact ha) (fun h => by rw [h]; exact hea)), hml⟩
  have hl : lv_has ls 2 [(0, .ref a), (1, .ref v)] := hl
  refine lv_aload_n hx hb dJ2_add_0 rfl (lv_at hl 0 rfl) ?_
  refine lv_dup hx hb dJ2_add_1 rfl ?_
  refine mget fx tfJ2 h_a 0 (by decide) q111 (fun x h => u_same (hts _ q112) x h) (v := .int mo) rfl dJ2_add_2 ?_
  refine lv_iconst (v := 1) hx hb dJ2_add_5 (by decide) ?_
  refine lv_iadd hx hb dJ2_add_6 ?_
  refine mput fx tfJ2 h_a hS (Or.inl rfl) 0 (by decide) q111 (fun x h => u_same (hts _ q112) x h) rfl rfl rfl (Nat.le_of_ble_eq_true rfl) dJ2_add_7 (fun H locs hat hz hoq hS => ?_)
  replace h_e := h_e.kept (hoq _ (Ne.symm hae))
  replace hv := hv.kept (hoq _ hva)
  replace h_a : mAt g a (.inr (2, [.int (mo + 1), .ref ea, .int (nI n)])) H := hat
  refine lv_aload_n hx hb dJ2_add_10 rfl (lv_at hl 0 rfl) ?_
  refine lv_aload_n hx hb dJ2_add_11 rfl (lv_at hl 1 rfl) ?_
  refine lv_aload_n hx hb dJ2_add_12 rfl (lv_at hl 0 rfl) ?_
  refine mget fx tfJ2 h_a 1 (by decide) q108 (fun _ h => h) (v := .ref ea) rfl dJ2_add_13 ?_
  refine lv_aload_n hx hb dJ2_add_16 rfl (lv_at hl 0 rfl) ?_
  refine mget fx tfJ2 h_a 2 (by decide) q109 (fun _ h => h) (v := .int (nI n)) rfl dJ2_add_17 ?_
  refine kV fx (m_add2I l g a v ea n cap (mo + 1) f ha hea hae hva hn hc) (lw_V q359 q361 qs5 q54 q362) hdJ2_add_2 ⟨(Nat.le_of_ble_eq_true rfl), (Nat.le_of_ble_eq_true rfl)⟩ ⟨(Nat.le_of_ble_eq_true rfl), (Nat.le_of_ble_eq_true rfl)⟩ hl.1 hS tfJ2.2.1 h_a rfl (Nat.le_of_ble_eq_true rfl) (⟨h_a, h_e, hv⟩) (fun q h => h) dJ2_add_20 (fun rv9 H locs hQ hz9 hk9 hS => ?_)
  obtain ⟨rfl, hat, hat2⟩ := hQ
  replace h_a : mAt g a (.inr (2, [.int (mo + 1), .ref ea, .int (nI (n + 1))])) H := hat
  replace h_e : mAt g ea (.inl (g.2.1 2, cap, rfs (va_up f n (some v)))) H := hat2
  refine W.eq (g2 := F0 m 23 ls []) rfl ?_
  refine lv_iconst (v := 1) hx hb dJ2_add_23 (by decide) ?_
  exact rz hx hb hr hlocks rfl hS (⟨rfl, h_a, h_e⟩) ⟨(Nat.le_of_ble_eq_true rfl), (Nat.le_of_ble_eq_true rfl)⟩ dJ2_add_24

theorem Cn.mono {l : Launch} {g : GT} {y : MethodName} {cc : ByteArray} {mL : Nat} {ret : Option FieldType} {lv mc ms : Nat} {As : List Value} {A A' : Nat → Prop} {Ph Ph' : Heap → Prop} {Qh Qh' : Heap → Option Value → Heap → Prop}
    (h : Cn l g y cc mL ret lv mc ms As A Ph Qh) (hA : ∀ q, A q → A' q) (hP : ∀ H, Ph' H → Ph H) (hQ : ∀ Hp rv Hq, Ph' Hp → Qh Hp rv Hq → Qh' Hp rv Hq) : Cn l g y cc mL ret lv mc ms As A' Ph' Qh' := by
  intro p e ha hc hk s m args below hf happ hPc hK
  obtain ⟨k, o, h1, h2, h3, ⟨⟨v, e1, hq⟩, hF⟩, L, hL, hLf⟩ := h p e ha hc hk s m args below hf happ ⟨hPc.1, hPc.2.1, hP _ hPc.2.2⟩ hK
  exact ⟨k, o, h1, h2, h3, ⟨⟨v, e1, hQ _ _ _ hPc.2.2 hq⟩, hF.1, fun q hq hn => hF.2 q hq (fun z => hn (hA q z))⟩, L, hL, fun q hq => hA _ (hLf q hq)⟩
/-- add: whatever the list's capacity (0: the empty list's own array) -/
theorem m_AL_add (l : Launch) (g : GT) (a v ea n cap sz : Nat) (mo : Int32) (f : Nat → Option Nat) (ha : bA g a) (hea : cap ≠ 0 → bA g ea ∧ a ≠ ea) (he0 : cap = 0 → ea = g.2.2 1) (hva : v ≠ a) (hnc : n ≤ cap) (hc : cap < 2 ^ 24) (hf : ∀ k, n ≤ k → f k = none) : Cn l g yJ2_add cJ2_add 2 (some .boolean) 6 (if n < cap then 0 else 1) (if n < cap then 0 else newCap n cap) [.ref a, .ref v] (fA (fun q => q = a ∨ (cap ≠ 0 ∧ q = ea)) sz)
    (fun H => sz = H.size ∧ mAt g a (.inr (2, [.int mo, .ref ea, .int (nI n)])) H ∧ (cap ≠ 0 → mAt g ea (.inl (g.2.1 2, cap, rfs f)) H) ∧ mEls g a f H ∧ mEl g v H)
    (fun Hp rv Hq => ∃ q, rv = some (.int 1) ∧ (if n < cap then q = ea else sz ≤ q) ∧ mAt g a (.inr (2, [.int (mo + 1), .ref q, .int (nI (n + 1))])) Hq ∧ mAt g q (.inl (g.2.1 2, newCap n cap, rfs (va_up f n (some v)))) Hq) := by
  by_cases h1 : n < cap
  · rw [if_pos h1, if_pos h1]
    obtain ⟨h2, h3⟩ := hea (by omega)
    refine (m_addI l g a v ea n cap mo f ha h2 h3 hva h1 hc).mono (fun q h => Or.inl (h.elim (fun h => Or.inl h) (fun h => Or.inr ⟨by omega, h⟩))) (fun H h => ⟨h.2.1, h.2.2.1 (by omega), h.2.2.2.2⟩) (fun Hp rv Hq _ h => ?_)
    obtain ⟨e1, e2, e3⟩ := h
    refine ⟨ea, e1, by rw [if_pos h1], e2, ?_⟩
    rw [show newCap n cap = cap from if_pos h1]
    exact e3
  · rw [if_neg h1, if_neg h1]
    by_cases h0 : cap = 0
    · subst h0
      obtain rfl : n = 0 := by omega
      have hz := he0 rfl
      subst hz
      refine (m_addB l g a v sz mo ha hva).mono (fun q h => h.elim (fun h => Or.inl (Or.inl h)) (fun h => Or.inr h)) (fun H h => ⟨h.1, h.2.1, h.2.2.2.2⟩) (fun Hp rv Hq _ h => ?_)
      obtain ⟨q, e1, e2, e3, e4⟩ := h
      refine ⟨q, e1, by rw [if_neg h1]; exact e2, e3, ?_⟩
      rw [show f = fun _ => none from funext fun k => hf k (Nat.zero_le _)]
      exact e4
    · obtain rfl : n = cap := by omega
      obtain ⟨h2, h3⟩ := hea h0
      rw [show newCap n n = n + max 1 (n / 2) from by unfold newCap; rw [if_neg h1, if_neg h0]]
      refine (m_addA l g a v ea n sz mo f ha h3 hva h0 hc hf).mono (fun q h => h.elim (fun h => Or.inl (Or.inl h)) (fun h => Or.inr h)) (fun H h => ⟨h.1, h.2.1, h.2.2.1 h0, h.2.2.2⟩) (fun Hp rv Hq _ h => ?_)
      obtain ⟨q, e1, e2, e3, e4⟩ := h
      exact ⟨q, e1, by rw [if_neg h1]; exact e2, e3, e4⟩
/-- the cached Integer of k (0 ≤ k < 128) -/
def icA (g : GT) (k : Nat) : Nat := g.2.2 (1000 + (k + 128))
section MI
variable {p : Program} {l : Launch} {e : Env} {R : Room} {s : State} {m : MethodId} {args : Array Value} {below : List Frame} {meth : Method} {c : Code} {H : Heap} {locs : List Loc} {cells slots : Nat} {Q : State → Prop}
variable {cc : ByteArray} {pc : Nat} {ls : Array Slot} {rest st0 : List Value} {A A1 : Nat → Prop} {g : GT} {own : String} {nL : Nat} {mc1 ms1 : Nat} {Qh1 : Heap → Option Value → Heap → Prop} {Ph1 : Heap → Prop}
theorem mIrecv (fx : Fx p s m args c cc own g A nL) (hS : va_S A s.heap H locs) {k : Nat} (hk : k < 128) : ∃ cell : Cell, H[icA g k]? = some cell ∧ cell.vm.isStatics = false ∧ s.vm.findClass "java/lang/Integer" = some cell.cls := by
  obtain ⟨cell, e1, e2, e3, e4⟩ := fx.2.2.2.2.1.2.2.bc.1 (k + 128) (by omega)
  exact ⟨cell, by unfold icA; rw [hS.2.1 _ (Array.getElem?_eq_some_iff.mp e1).1 (fun z => e4 (fx.2.2.2.2.2.1 _ z))]; exact e1, e2, e3⟩
theorem mIel {k : Nat} (hk : k < 128) : mEl g (icA g k) H := Or.inr ⟨k + 128, by omega, rfl⟩
theorem mcastI (fx : Fx p s m args c cc own g A nL) (hS : va_S A s.heap H locs) {k index : Nat} (hk : k < 128) (hl : Cond.classLink own index "java/lang/Integer" ∈ lw_all) (hdg : decode cc pc = .ok (.checkcast index, 3))
    (kk : W p l e R s m args below meth c H locs cells slots Q (F0 m (pc + 3) ls (.ref (icA g k) :: rest))) : W p l e R s m args below meth c H locs cells slots Q (F0 m pc ls (.ref (icA g k) :: rest)) :=
  va_castS fx.1 fx.2.1 fx.2.2.2.1 (fx.2.2.1 _ hl) (fx.2.2.2.2.1.1.1 11 _ tfJ17.2.1).2 (mIrecv fx hS hk) hdg kk
theorem mIget (fx : Fx p s m args c cc own g A nL) (hS : va_S A s.heap H locs) {k index : Nat} (hk : k < 128) (hl : Cond.fieldLink own index "java/lang/Integer" "value" "I" ∈ lw_all) (hdg : decode cc pc = .ok (.getfield index, 3))
    (kk : W p l e R s m args below meth c H locs cells slots Q (F0 m (pc + 3) ls (.int (nI k) :: rest))) : W p l e R s m args below meth c H locs cells slots Q (F0 m pc ls (.ref (icA g k) :: rest)) := by
  have hE : va_Ef 256 "java/lang/Integer" "value" "I" (fun k => .int (vb_c k)) (fun k => g.2.2 (1000 + k)) A s s.heap := fx.2.2.2.2.1.2.2.bc.2.narrow fx.2.2.2.2.2.1
  refine va_getX fx.1 fx.2.1 hE (i := k + 128) (by omega) hS fx.2.2.2.1 (fx.2.2.1 _ hl) (fun _ h => h) hdg ?_
  rw [show vb_c (k + 128) = nI k from by show nI (k + 128) - nI 128 = nI k; rw [pk_sub (by omega)]; congr 1]
  exact kk
theorem mIald (fx : Fx p s m args c cc own g A nL) (hS : va_S A s.heap H locs) {k : Nat} (hk : k < 128) {i : Int32} (hi : i = nI (k + 128)) (hdg : decode cc pc = .ok (.aaload, 1))
    (kk : W p l e R s m args below meth c H locs cells slots Q (F0 m (pc + 1) ls (.ref (icA g k) :: rest))) : W p l e R s m args below meth c H locs cells slots Q (F0 m pc ls (.int i :: .ref (g.2.2 2) :: rest)) := by
  subst hi
  exact vb_tq fx.1 fx.2.1 (va_T.narrow fx.2.2.2.2.1.2.2.ct fx.2.2.2.2.2.1) hS (vp_in_nI (show k + 128 < 256 by omega) (by omega)) (v := .ref (icA g k)) (by rw [nI_clamp (by omega)]; rfl) hdg kk
theorem kVr (fx : Fx p s m args c cc own g A nL) {y : MethodName} {bytes : ByteArray} {mL index lv b : Nat} {ret : Option FieldType} {As : List Value}
    (hM : Cn l g y bytes mL ret lv mc1 ms1 (.ref b :: As) A1 Ph1 Qh1) (hw : GoodIn lw_all (wsV own index y.cls y (ws_ y bytes mL ret)))
    (hd : y.cls ≠ "java/lang/invoke/MethodHandle" ∧ y.cls ≠ "java/lang/invoke/VarHandle" ∧ (parseMethodDescriptor y.desc).map (fun d => d.parameters.length) = some As.length)
    (hR : lv + 1 ≤ R.frames ∧ 8 + (mL + 11) + 64 * lv ≤ R.locals) (hcs : cells + mc1 ≤ R.cells ∧ slots + ms1 ≤ R.slots) (hl : ls.size = nL) (hS : va_S A s.heap H locs)
    (hrecv : ∃ cell : Cell, H[b]? = some cell ∧ cell.vm.isStatics = false ∧ s.vm.findClass y.cls = some cell.cls) (hst : st0 = As.reverse ++ .ref b :: rest) (hrest : (rest.map fun v => v.category).sum ≤ 8) (hP : Ph1 H) (hA : ∀ q, A1 q → A q) (hdg : decode cc pc = .ok (.invokevirtual index, 3))
    (kk : ∀ (v : Option Value) (H1 : Heap) (locs1 : List Loc), Qh1 H v H1 → H.size ≤ H1.size → (∀ q : Nat, q < H.size → ¬ A1 q → H1[q]? = H[q]?) → va_S A s.heap H1 locs1 → W p l e R s m args below meth c H1 locs1 (cells + mc1) (slots + ms1) Q (F0 m (pc + 3) ls (v.toList ++ rest))) : W p l e R s m args below meth c H locs cells slots Q (F0 m pc ls st0) :=
  kRun (va_runV (As := As) ⟨fx.1, fx.2.1, fx.2.2.2.2.2.2, fx.2.2.2.1, fx.2.2.1⟩ hM (cwV As.length fx.2.2.1 hw rfl rfl rfl ⟨rfl, hd⟩ hR) ⟨kBlind, hrecv, kPre fx hS hP⟩ rfl rfl hl hst (lv_room hrest) hdg hcs) hS hA kk
end MI
set_option maxHeartbeats 4000000 in
theorem m_valueOf (l : Launch) (g : GT) (k : Nat) (hk : k < 128) : Cn l g yJ17_valueOf cJ17_valueOf 1 ((some (.object "java/lang/Integer"))) 0 0 0 [.int (nI k)] (fun _ => False) (fun _ => True) (fun Hp rv Hq => Hp = Hq ∧ rv = some (.ref (icA g k))) := by
  refine Cn.start (plainFor_of_name (by decide +kernel)) (Nat.le_of_ble_eq_true rfl) ?_
  intro p ev s m below meth c ls H locs hH hx hb hr hts hown hlocks hml hnm hK hP hS hl
  have hk1 : ¬ nI k < (-128) := fun z => by
      have h := Int32.lt_iff_toInt_lt.mp z
      rw [nI_toInt (by omega)] at h
      have h2 : ((-128 : Int32)).toInt = -128 := by decide
      omega
  have hk2 : ¬ 127 < nI k := nI_nlt (b := k) (a := 127) (by omega) (by omega)
  have fx : Fx p s m ([.int (nI k)] : List Value).toArray c cJ17_valueOf RJ17 g (fun _ => False) 1 := ⟨hx, hb, hts, hown, hK, fun _ h => h.elim, hml⟩
  have hl : lv_has ls 1 [(0, .int (nI k))] := hl
  refine lv_iload_n hx hb dJ17_valueOf_0 rfl (lv_at hl 0 rfl) ?_
  refine lv_bipush (v := (-128)) hx hb dJ17_valueOf_1 (by decide) ?_
  refine lv_icmp_lt (tgt := 23) hx hb dJ17_valueOf_3 (by decide) (fun h9 => absurd h9 hk1) (fun _ => ?_)
  refine lv_iload_n hx hb dJ17_valueOf_6 rfl (lv_at hl 0 rfl) ?_
  refine mgets fx hK.2.2.hi hS q1292 (fun _ h => h) dJ17_valueOf_7 ?_
  refine lv_icmp_gt (tgt := 23) hx hb dJ17_valueOf_10 (by decide) (fun h9 => absurd h9 hk2) (fun _ => ?_)
  refine mgets fx hK.2.2.ca hS q1294 (fun _ h => h) dJ17_valueOf_13 ?_
  refine lv_iload_n hx hb dJ17_valueOf_16 rfl (lv_at hl 0 rfl) ?_
  refine lv_sipush (v := 128) hx hb dJ17_valueOf_17 (by decide) ?_
  refine lv_iadd hx hb dJ17_valueOf_20 ?_
  rw [show (nI k) + 128 = nI (k + 128) from nI_add _ _]
  refine mIald fx hS hk rfl dJ17_valueOf_21 ?_
  exact ra hx hb hr (Or.inl ⟨_, rfl⟩) hlocks hS (⟨hH.symm, rfl⟩) ⟨(Nat.le_of_ble_eq_true rfl), (Nat.le_of_ble_eq_true rfl)⟩ dJ17_valueOf_22

set_option maxHeartbeats 4000000 in
theorem m_intValue (l : Launch) (g : GT) (k : Nat) (hk : k < 128) : Cn l g yJ17_intValue cJ17_intValue 1 ((some .int)) 0 0 0 [.ref (icA g k)] (fun _ => False) (fun _ => True) (fun Hp rv Hq => Hp = Hq ∧ rv = some (.int (nI k))) := by
  refine Cn.start (plainFor_of_name (by decide +kernel)) (Nat.le_of_ble_eq_true rfl) ?_
  intro p ev s m below meth c ls H locs hH hx hb hr hts hown hlocks hml hnm hK hP hS hl
  have fx : Fx p s m ([.ref (icA g k)] : List Value).toArray c cJ17_intValue RJ17 g (fun _ => False) 1 := ⟨hx, hb, hts, hown, hK, fun _ h => h.elim, hml⟩
  have hl : lv_has ls 1 [(0, .ref (icA g k))] := hl
  refine lv_aload_n hx hb dJ17_intValue_0 rfl (lv_at hl 0 rfl) ?_
  refine mIget fx hS hk q1305 dJ17_intValue_1 ?_
  exact ri hx hb hr hlocks hS (⟨hH.symm, rfl⟩) ⟨(Nat.le_of_ble_eq_true rfl), (Nat.le_of_ble_eq_true rfl)⟩ dJ17_intValue_4

def clrF (f : Nat → Option Nat) (i : Nat) : Nat → Option Nat := fun j => if j < i then none else f j
theorem clrF_0 (f : Nat → Option Nat) : clrF f 0 = f := by funext j; unfold clrF; rw [if_neg (by omega)]
theorem clrF_s (f : Nat → Option Nat) (i : Nat) : va_up (clrF f i) i none = clrF f (i + 1) := by
  funext j
  unfold va_up clrF
  by_cases h : j = i
  · rw [if_pos h, if_pos (by omega)]
  · rw [if_neg h]
    by_cases h2 : j < i
    · rw [if_pos h2, if_pos (by omega)]
    · rw [if_neg h2, if_neg (by omega)]
theorem clrF_n {f : Nat → Option Nat} {n : Nat} (hf : ∀ k, n ≤ k → f k = none) : clrF f n = fun _ => none := by
  funext j
  unfold clrF
  by_cases h : j < n
  · rw [if_pos h]
  · rw [if_neg h, hf j (by omega)]
set_option maxHeartbeats 4000000 in
theorem m_clear (l : Launch) (g : GT) (a ea n cap : Nat) (mo : Int32) (f : Nat → Option Nat) (ha : bA g a) (hea : bA g ea) (hae : a ≠ ea) (hn : n ≤ cap) (hc : cap < 2 ^ 24) (hf : ∀ k, n ≤ k → f k = none) : Cn l g yJ2_clear cJ2_clear 4 (none) 0 0 0 [.ref a] (fun q => q = a ∨ q = ea) (fun H => mAt g a (.inr (2, [.int mo, .ref ea, .int (nI n)])) H ∧ mAt g ea (.inl (g.2.1 2, cap, rfs f)) H) (fun Hp rv Hq => rv = none ∧ mAt g a (.inr (2, [.int (mo + 1), .ref ea, .int 0])) Hq ∧ mAt g ea (.inl (g.2.1 2, cap, rfs (fun _ => none))) Hq) := by
  refine Cn.start (plainFor_of_name (by decide +kernel)) (Nat.le_of_ble_eq_true rfl) ?_
  intro p ev s m below meth c ls H locs hH hx hb hr hts hown hlocks hml hnm hK hP hS hl
  obtain ⟨h_a, h_e⟩ := hP
  have fx : Fx p s m ([.ref a] : List Value).toArray c cJ2_clear RJ2 g (fun q => q = a ∨ q = ea) 4 := ⟨hx, hb, hts, hown, hK, (fun q h => h.elim (fun h => by rw [h]; exact ha) (fun h => by rw [h]; exact hea)), hml⟩
  have hl : lv_has ls 4 [(0, .ref a)] := hl
  refine lv_aload_n hx hb dJ2_clear_0 rfl (lv_at hl 0 rfl) ?_
  refine lv_dup hx hb dJ2_clear_1 rfl ?_
  refine mget fx tfJ2 h_a 0 (by decide) q111 (fun x h => u_same (hts _ q112) x h) (v := .int mo) rfl dJ2_clear_2 ?_
  refine lv_iconst (v := 1) hx hb dJ2_clear_5 (by decide) ?_
  refine lv_iadd hx hb dJ2_clear_6 ?_
  refine mput fx tfJ2 h_a hS (Or.inl rfl) 0 (by decide) q111 (fun x h => u_same (hts _ q112) x h) rfl rfl rfl (Nat.le_of_ble_eq_true rfl) dJ2_clear_7 (fun H locs hat hz hoq hS => ?_)
  replace h_e := h_e.kept (hoq _ (Ne.symm hae))
  replace h_a : mAt g a (.inr (2, [.int (mo + 1), .ref ea, .int (nI n)])) H := hat
  refine lv_aload_n hx hb dJ2_clear_10 rfl (lv_at hl 0 rfl) ?_
  refine mget fx tfJ2 h_a 1 (by decide) q108 (fun _ h => h) (v := .ref ea) rfl dJ2_clear_11 ?_
  refine lv_astore_n (lv' := [(1, .ref ea), (0, .ref a)]) hx hb dJ2_clear_14 rfl hl (by decide) rfl (fun ls hl => ?_)
  refine lv_aload_n hx hb dJ2_clear_15 rfl (lv_at hl 1 rfl) ?_
  refine mget fx tfJ2 h_a 2 (by decide) q109 (fun _ h => h) (v := .int (nI n)) rfl dJ2_clear_16 ?_
  refine lv_istore_n (lv' := [(2, .int (nI n)), (1, .ref ea), (0, .ref a)]) hx hb dJ2_clear_19 rfl hl (by decide) rfl (fun ls hl => ?_)
  refine lv_aload_n hx hb dJ2_clear_20 rfl (lv_at hl 2 rfl) ?_
  refine lv_iconst (v := 0) hx hb dJ2_clear_21 (by decide) ?_
  refine lv_dup_x1 hx hb dJ2_clear_22 rfl rfl ?_
  refine mput fx tfJ2 h_a hS (Or.inl rfl) 2 (by decide) q109 (fun _ h => h) rfl rfl rfl (Nat.le_of_ble_eq_true rfl) dJ2_clear_23 (fun H locs hat hz hoq hS => ?_)
  replace h_e := h_e.kept (hoq _ (Ne.symm hae))
  replace h_a : mAt g a (.inr (2, [.int (mo + 1), .ref ea, .int 0])) H := hat
  refine lv_istore_n (lv' := [(3, .int 0), (2, .int (nI n)), (1, .ref ea), (0, .ref a)]) hx hb dJ2_clear_26 rfl hl (by decide) rfl (fun ls hl => ?_)
  have lp_1 : ∀ (d_2 i : Nat) (H : Heap) (locs : List Loc) (ls : Array Slot), i + d_2 = n → va_S (fun q => q = a ∨ q = ea) s.heap H locs → mAt g a (.inr (2, [.int (mo + 1), .ref ea, .int 0])) H → mAt g ea (.inl (g.2.1 2, cap, rfs (clrF f i))) H → lv_has ls 4 [(3, .int (nI i)), (0, .ref a), (1, .ref ea), (2, .int (nI n))] → W p l ev (mR 0 0 0) s m ([.ref a] : List Value).toArray below meth c H locs 0 0 (MQ below (mQ (fun q => q = a ∨ q = ea) (fun Hp rv Hq => rv = none ∧ mAt g a (.inr (2, [.int (mo + 1), .ref ea, .int 0])) Hq ∧ mAt g ea (.inl (g.2.1 2, cap, rfs (fun _ => none))) Hq)) ([.ref a] : List Value).toArray s 0 0 (fun q => q = a ∨ q = ea)) (F0 m 27 ls []) := by
    intro d_2
    induction d_2 with
    | zero =>
      intro i H locs ls hid hS h_a h_e hl
      obtain rfl : n = i := by omega
      refine lv_iload_n hx hb dJ2_clear_27 rfl (lv_at hl 0 rfl) ?_
      refine lv_iload_n hx hb dJ2_clear_28 rfl (lv_at hl 3 rfl) ?_
      refine lv_icmp_ge (tgt := 42) hx hb dJ2_clear_29 (by decide) (fun _ => ?_) (fun h9 => absurd (nI_le (Nat.le_refl _) (by omega)) h9)
      exact rv hx hb hr hlocks hS (⟨rfl, h_a, by rw [← clrF_n hf]; exact h_e⟩) ⟨(Nat.le_of_ble_eq_true rfl), (Nat.le_of_ble_eq_true rfl)⟩ dJ2_clear_42
    | succ d_2 ih =>
      intro i H locs ls hid hS h_a h_e hl
      have hi_i : i < n := by omega
      refine lv_iload_n hx hb dJ2_clear_27 rfl (lv_at hl 0 rfl) ?_
      refine lv_iload_n hx hb dJ2_clear_28 rfl (lv_at hl 3 rfl) ?_
      refine lv_icmp_ge (tgt := 42) hx hb dJ2_clear_29 (by decide) (fun h9 => absurd h9 (nI_ge hi_i (by omega))) (fun _ => ?_)
      refine lv_aload_n hx hb dJ2_clear_32 rfl (lv_at hl 2 rfl) ?_
      refine lv_iload_n hx hb dJ2_clear_33 rfl (lv_at hl 0 rfl) ?_
      refine lv_null hx hb dJ2_clear_34 ?_
      refine mastN fx h_e hS (Or.inr rfl) i rfl (by omega) (by omega) dJ2_clear_35 (fun H locs hat hz hoq hS => ?_)
      replace h_a := h_a.kept (hoq _ hae)
      replace h_e : mAt g ea (.inl (g.2.1 2, cap, rfs (va_up (clrF f i) i none))) H := hat
      refine lv_iinc (v := nI (i + 1)) (lv' := [(3, .int (nI (i + 1))), (0, .ref a), (1, .ref ea), (2, .int (nI n))]) hx hb dJ2_clear_36 hl (k := 0) rfl (nI_1 _) (by decide) rfl (fun ls hl => ?_)
      refine lv_goto (tgt := 27) hx hb dJ2_clear_39 (by decide) ?_
      exact ih (i + 1) H locs ls (by omega) hS h_a (by rw [← clrF_s]; exact h_e) (lv_sub hl [0, 1, 2, 3] rfl)
  exact lp_1 (n - 0) 0 H locs ls (by omega) hS h_a (by rw [clrF_0]; exact h_e) (lv_sub hl [0, 3, 2, 1] rfl)

set_option maxHeartbeats 4000000 in
theorem m_clear0 (l : Launch) (g : GT) (a ea : Nat) (mo : Int32) (ha : bA g a) : Cn l g yJ2_clear cJ2_clear 4 (none) 0 0 0 [.ref a] (fun q => q = a) (fun H => mAt g a (.inr (2, [.int mo, .ref ea, .int (nI 0)])) H) (fun Hp rv Hq => rv = none ∧ mAt g a (.inr (2, [.int (mo + 1), .ref ea, .int 0])) Hq) := by
  refine Cn.start (plainFor_of_name (by decide +kernel)) (Nat.le_of_ble_eq_true rfl) ?_
  intro p ev s m below meth c ls H locs hH hx hb hr hts hown hlocks hml hnm hK hP hS hl
  have h_a := hP
  have fx : Fx p s m ([.ref a] : List Value).toArray c cJ2_clear RJ2 g (fun q => q = a) 4 := ⟨hx, hb, hts, hown, hK, (fun q h => by rw [h]; exact ha), hml⟩
  have hl : lv_has ls 4 [(0, .ref a)] := hl
  refine lv_aload_n hx hb dJ2_clear_0 rfl (lv_at hl 0 rfl) ?_
  refine lv_dup hx hb dJ2_clear_1 rfl ?_
  refine mget fx tfJ2 h_a 0 (by decide) q111 (fun x h => u_same (hts _ q112) x h) (v := .int mo) rfl dJ2_clear_2 ?_
  refine lv_iconst (v := 1) hx hb dJ2_clear_5 (by decide) ?_
  refine lv_iadd hx hb dJ2_clear_6 ?_
  refine mput fx tfJ2 h_a hS rfl 0 (by decide) q111 (fun x h => u_same (hts _ q112) x h) rfl rfl rfl (Nat.le_of_ble_eq_true rfl) dJ2_clear_7 (fun H locs hat hz hoq hS => ?_)
  replace h_a : mAt g a (.inr (2, [.int (mo + 1), .ref ea, .int (nI 0)])) H := hat
  refine lv_aload_n hx hb dJ2_clear_10 rfl (lv_at hl 0 rfl) ?_
  refine mget fx tfJ2 h_a 1 (by decide) q108 (fun _ h => h) (v := .ref ea) rfl dJ2_clear_11 ?_
  refine lv_astore_n (lv' := [(1, .ref ea), (0, .ref a)]) hx hb dJ2_clear_14 rfl hl (by decide) rfl (fun ls hl => ?_)
  refine lv_aload_n hx hb dJ2_clear_15 rfl (lv_at hl 1 rfl) ?_
  refine mget fx tfJ2 h_a 2 (by decide) q109 (fun _ h => h) (v := .int (nI 0)) rfl dJ2_clear_16 ?_
  refine lv_istore_n (lv' := [(2, .int (nI 0)), (1, .ref ea), (0, .ref a)]) hx hb dJ2_clear_19 rfl hl (by decide) rfl (fun ls hl => ?_)
  refine lv_aload_n hx hb dJ2_clear_20 rfl (lv_at hl 2 rfl) ?_
  refine lv_iconst (v := 0) hx hb dJ2_clear_21 (by decide) ?_
  refine lv_dup_x1 hx hb dJ2_clear_22 rfl rfl ?_
  refine mput fx tfJ2 h_a hS rfl 2 (by decide) q109 (fun _ h => h) rfl rfl rfl (Nat.le_of_ble_eq_true rfl) dJ2_clear_23 (fun H locs hat hz hoq hS => ?_)
  replace h_a : mAt g a (.inr (2, [.int (mo + 1), .ref ea, .int 0])) H := hat
  refine lv_istore_n (lv' := [(3, .int 0), (2, .int (nI 0)), (1, .ref ea), (0, .ref a)]) hx hb dJ2_clear_26 rfl hl (by decide) rfl (fun ls hl => ?_)
  refine lv_iload_n hx hb dJ2_clear_27 rfl (lv_at hl 0 rfl) ?_
  refine lv_iload_n hx hb dJ2_clear_28 rfl (lv_at hl 1 rfl) ?_
  refine lv_icmp_ge (tgt := 42) hx hb dJ2_clear_29 (by decide) (fun _ => ?_) (fun h9 => absurd (nI_le (Nat.le_refl 0) (by decide)) h9)
  exact rv hx hb hr hlocks hS (⟨rfl, h_a⟩) ⟨(Nat.le_of_ble_eq_true rfl), (Nat.le_of_ble_eq_true rfl)⟩ dJ2_clear_42

/-- the list without its k-th element; n: how many are left -/
def rmF (f : Nat → Option Nat) (k n : Nat) : Nat → Option Nat := fun j => if j < k then f j else if j < n then f (j + 1) else none
theorem rmF_a {f : Nat → Option Nat} {k n : Nat} (hk : k < n) (hf : ∀ j, n + 1 ≤ j → f j = none) : va_up (va_cpy f f (k + 1) k (n - k)) n none = rmF f k n := by
  funext j
  unfold va_up va_cpy rmF
  by_cases h : j = n
  · rw [if_pos h, if_neg (by omega), if_neg (by omega)]
  · rw [if_neg h]
    by_cases h2 : k ≤ j ∧ j < k + (n - k)
    · rw [if_pos h2, if_neg (by omega), if_pos (by omega)]; congr 1; omega
    · rw [if_neg h2]
      by_cases h3 : j < k
      · rw [if_pos h3]
      · rw [if_neg h3, if_neg (by omega), hf j (by omega)]
theorem rmF_b {f : Nat → Option Nat} {n : Nat} (hf : ∀ j, n + 1 ≤ j → f j = none) : va_up f n none = rmF f n n := by
  funext j
  unfold va_up rmF
  by_cases h : j = n
  · rw [if_pos h, if_neg (by omega), if_neg (by omega)]
  · rw [if_neg h]
    by_cases h3 : j < n
    · rw [if_pos h3]
    · rw [if_neg h3, if_neg h3, hf j (by omega)]
set_option maxHeartbeats 4000000 in
theorem m_fastRemove_a (l : Launch) (g : GT) (a ea k n cap : Nat) (mo : Int32) (f : Nat → Option Nat) (ha : bA g a) (hea : bA g ea) (hae : a ≠ ea) (hk : k ≤ n) (hn : n < cap) (hc : cap < 2 ^ 24) (hf : ∀ j, n + 1 ≤ j → f j = none) (hkn : k < n) : Cn l g yJ2_fastRemove cJ2_fastRemove 4 (none) 1 0 0 [.ref a, .ref ea, .int (nI k)] (fun q => q = a ∨ q = ea) (fun H => mAt g a (.inr (2, [.int mo, .ref ea, .int (nI (n + 1))])) H ∧ mAt g ea (.inl (g.2.1 2, cap, rfs f)) H ∧ mEls g a f H) (fun Hp rv Hq => rv = none ∧ mAt g a (.inr (2, [.int (mo + 1), .ref ea, .int (nI n)])) Hq ∧ mAt g ea (.inl (g.2.1 2, cap, rfs (rmF f k n))) Hq) := by
  refine Cn.start (plainFor_of_name (by decide +kernel)) (Nat.le_of_ble_eq_true rfl) ?_
  intro p ev s m below meth c ls H locs hH hx hb hr hts hown hlocks hml hnm hK hP hS hl
  obtain ⟨h_a, h_e, hEl⟩ := hP
  have fx : Fx p s m ([.ref a, .ref ea, .int (nI k)] : List Value).toArray c cJ2_fastRemove RJ2 g (fun q => q = a ∨ q = ea) 4 := ⟨hx, hb, hts, hown, hK, (fun q h => h.elim (fun h => by rw [h]; exact ha) (fun h => by rw [h]; exact hea)), hml⟩
  have hl : lv_has ls 4 [(0, .ref a), (1, .ref ea), (2, .int (nI k))] := hl
  refine lv_aload_n hx hb dJ2_fastRemove_0 rfl (lv_at hl 0 rfl) ?_
  refine lv_dup hx hb dJ2_fastRemove_1 rfl ?_
  refine mget fx tfJ2 h_a 0 (by decide) q111 (fun x h => u_same (hts _ q112) x h) (v := .int mo) rfl dJ2_fastRemove_2 ?_
  refine lv_iconst (v := 1) hx hb dJ2_fastRemove_5 (by decide) ?_
  refine lv_iadd hx hb dJ2_fastRemove_6 ?_
  refine mput fx tfJ2 h_a hS (Or.inl rfl) 0 (by decide) q111 (fun x h => u_same (hts _ q112) x h) rfl rfl rfl (Nat.le_of_ble_eq_true rfl) dJ2_fastRemove_7 (fun H locs hat hz hoq hS => ?_)
  replace h_e := h_e.kept (hoq _ (Ne.symm hae))
  replace hEl := hEl.kept (fun q _ h => hoq q h)
  replace h_a : mAt g a (.inr (2, [.int (mo + 1), .ref ea, .int (nI (n + 1))])) H := hat
  refine lv_aload_n hx hb dJ2_fastRemove_10 rfl (lv_at hl 0 rfl) ?_
  refine mget fx tfJ2 h_a 2 (by decide) q109 (fun _ h => h) (v := .int (nI (n + 1))) rfl dJ2_fastRemove_11 ?_
  refine lv_iconst (v := 1) hx hb dJ2_fastRemove_14 (by decide) ?_
  refine lv_isub hx hb dJ2_fastRemove_15 ?_
  rw [show (nI (n + 1)) - 1 = nI n from nI_pred _]
  refine lv_dup hx hb dJ2_fastRemove_16 rfl ?_
  refine lv_istore_n (lv' := [(3, .int (nI n)), (0, .ref a), (1, .ref ea), (2, .int (nI k))]) hx hb dJ2_fastRemove_17 rfl hl (by decide) rfl (fun ls hl => ?_)
  refine lv_iload_n hx hb dJ2_fastRemove_18 rfl (lv_at hl 3 rfl) ?_
  refine lv_icmp_le (tgt := 34) hx hb dJ2_fastRemove_19 (by decide) (fun h9 => absurd h9 (nI_ge hkn (by omega))) (fun _ => ?_)
  refine lv_aload_n hx hb dJ2_fastRemove_22 rfl (lv_at hl 2 rfl) ?_
  refine lv_iload_n hx hb dJ2_fastRemove_23 rfl (lv_at hl 3 rfl) ?_
  refine lv_iconst (v := 1) hx hb dJ2_fastRemove_24 (by decide) ?_
  refine lv_iadd hx hb dJ2_fastRemove_25 ?_
  rw [show (nI k) + 1 = nI (k + 1) from nI_add _ _]
  refine lv_aload_n hx hb dJ2_fastRemove_26 rfl (lv_at hl 2 rfl) ?_
  refine lv_iload_n hx hb dJ2_fastRemove_27 rfl (lv_at hl 3 rfl) ?_
  refine lv_iload_n hx hb dJ2_fastRemove_28 rfl (lv_at hl 0 rfl) ?_
  refine lv_iload_n hx hb dJ2_fastRemove_29 rfl (lv_at hl 3 rfl) ?_
  refine lv_isub hx hb dJ2_fastRemove_30 ?_
  refine mcopyM fx hl.1 q1340 h_e h_e hS (Or.inr rfl) (k + 1) k (n - k) (by omega) (by omega) (by omega) (by omega) (fun i hi y hy => mAny fx hS (hEl _ y hy).1) rfl rfl (pk_sub (by omega)) (Nat.le_of_ble_eq_true rfl) (Nat.le_of_ble_eq_true rfl) dJ2_fastRemove_31 (fun H locs hat hz hoq hS => ?_)
  replace h_a := h_a.kept (hoq _ hae)
  replace h_e : mAt g ea (.inl (g.2.1 2, cap, rfs (va_cpy f f (k + 1) k (n - k)))) H := hat
  refine lv_aload_n hx hb dJ2_fastRemove_34 rfl (lv_at hl 2 rfl) ?_
  refine lv_aload_n hx hb dJ2_fastRemove_35 rfl (lv_at hl 1 rfl) ?_
  refine lv_iload_n hx hb dJ2_fastRemove_36 rfl (lv_at hl 0 rfl) ?_
  refine lv_dup_x1 hx hb dJ2_fastRemove_37 rfl rfl ?_
  refine mput fx tfJ2 h_a hS (Or.inl rfl) 2 (by decide) q109 (fun _ h => h) rfl rfl rfl (Nat.le_of_ble_eq_true rfl) dJ2_fastRemove_38 (fun H locs hat hz hoq hS => ?_)
  replace h_e := h_e.kept (hoq _ (Ne.symm hae))
  replace h_a : mAt g a (.inr (2, [.int (mo + 1), .ref ea, .int (nI n)])) H := hat
  refine lv_null hx hb dJ2_fastRemove_41 ?_
  refine mastN fx h_e hS (Or.inr rfl) n rfl hn (by omega) dJ2_fastRemove_42 (fun H locs hat hz hoq hS => ?_)
  replace h_a := h_a.kept (hoq _ hae)
  replace h_e : mAt g ea (.inl (g.2.1 2, cap, rfs (va_up (va_cpy f f (k + 1) k (n - k)) n none))) H := hat
  exact rv hx hb hr hlocks hS (⟨rfl, h_a, by rw [← rmF_a hkn hf]; exact h_e⟩) ⟨(Nat.le_of_ble_eq_true rfl), (Nat.le_of_ble_eq_true rfl)⟩ dJ2_fastRemove_43

set_option maxHeartbeats 4000000 in
theorem m_fastRemove_b (l : Launch) (g : GT) (a ea k n cap : Nat) (mo : Int32) (f : Nat → Option Nat) (ha : bA g a) (hea : bA g ea) (hae : a ≠ ea) (hk : k ≤ n) (hn : n < cap) (hc : cap < 2 ^ 24) (hf : ∀ j, n + 1 ≤ j → f j = none) (hkn : n ≤ k) : Cn l g yJ2_fastRemove cJ2_fastRemove 4 (none) 1 0 0 [.ref a, .ref ea, .int (nI k)] (fun q => q = a ∨ q = ea) (fun H => mAt g a (.inr (2, [.int mo, .ref ea, .int (nI (n + 1))])) H ∧ mAt g ea (.inl (g.2.1 2, cap, rfs f)) H ∧ mEls g a f H) (fun Hp rv Hq => rv = none ∧ mAt g a (.inr (2, [.int (mo + 1), .ref ea, .int (nI n)])) Hq ∧ mAt g ea (.inl (g.2.1 2, cap, rfs (rmF f k n))) Hq) := by
  refine Cn.start (plainFor_of_name (by decide +kernel)) (Nat.le_of_ble_eq_true rfl) ?_
  intro p ev s m below meth c ls H locs hH hx hb hr hts hown hlocks hml hnm hK hP hS hl
  obtain ⟨h_a, h_e, hEl⟩ := hP
  have fx : Fx p s m ([.ref a, .ref ea, .int (nI k)] : List Value).toArray c cJ2_fastRemove RJ2 g (fun q => q = a ∨ q = ea) 4 := ⟨hx, hb, hts, hown, hK, (fun q h => h.elim (fun h => by rw [h]; exact ha) (fun h => by rw [h]; exact hea)), hml⟩
  have hl : lv_has ls 4 [(0, .ref a), (1, .ref ea), (2, .int (nI k))] := hl
  refine lv_aload_n hx hb dJ2_fastRemove_0 rfl (lv_at hl 0 rfl) ?_
  refine lv_dup hx hb dJ2_fastRemove_1 rfl ?_
  refine mget fx tfJ2 h_a 0 (by decide) q111 (fun x h => u_same (hts _ q112) x h) (v := .int mo) rfl dJ2_fastRemove_2 ?_
  refine lv_iconst (v := 1) hx hb dJ2_fastRemove_5 (by decide) ?_
  refine lv_iadd hx hb dJ2_fastRemove_6 ?_
  refine mput fx tfJ2 h_a hS (Or.inl rfl) 0 (by decide) q111 (fun x h => u_same (hts _ q112) x h) rfl rfl rfl (Nat.le_of_ble_eq_true rfl) dJ2_fastRemove_7 (fun H locs hat hz hoq hS => ?_)
  replace h_e := h_e.kept (hoq _ (Ne.symm hae))
  replace hEl := hEl.kept (fun q _ h => hoq q h)
  replace h_a : mAt g a (.inr (2, [.int (mo + 1), .ref ea, .int (nI (n + 1))])) H := hat
  refine lv_aload_n hx hb dJ2_fastRemove_10 rfl (lv_at hl 0 rfl) ?_
  refine mget fx tfJ2 h_a 2 (by decide) q109 (fun _ h => h) (v := .int (nI (n + 1))) rfl dJ2_fastRemove_11 ?_
  refine lv_iconst (v := 1) hx hb dJ2_fastRemove_14 (by decide) ?_
  refine lv_isub hx hb dJ2_fastRemove_15 ?_
  rw [show (nI (n + 1)) - 1 = nI n from nI_pred _]
  refine lv_dup hx hb dJ2_fastRemove_16 rfl ?_
  refine lv_istore_n (lv' := [(3, .int (nI n)), (0, .ref a), (1, .ref ea), (2, .int (nI k))]) hx hb dJ2_fastRemove_17 rfl hl (by decide) rfl (fun ls hl => ?_)
  refine lv_iload_n hx hb dJ2_fastRemove_18 rfl (lv_at hl 3 rfl) ?_
  refine lv_icmp_le (tgt := 34) hx hb dJ2_fastRemove_19 (by decide) (fun _ => ?_) (fun h9 => absurd (nI_le hkn (by omega)) h9)
  refine lv_aload_n hx hb dJ2_fastRemove_34 rfl (lv_at hl 2 rfl) ?_
  refine lv_aload_n hx hb dJ2_fastRemove_35 rfl (lv_at hl 1 rfl) ?_
  refine lv_iload_n hx hb dJ2_fastRemove_36 rfl (lv_at hl 0 rfl) ?_
  refine lv_dup_x1 hx hb dJ2_fastRemove_37 rfl rfl ?_
  refine mput fx tfJ2 h_a hS (Or.inl rfl) 2 (by decide) q109 (fun _ h => h) rfl rfl rfl (Nat.le_of_ble_eq_true rfl) dJ2_fastRemove_38 (fun H locs hat hz hoq hS => ?_)
  replace h_e := h_e.kept (hoq _ (Ne.symm hae))
  replace hEl := hEl.kept (fun q _ h => hoq q h)
  replace h_a : mAt g a (.inr (2, [.int (mo + 1), .ref ea, .int (nI n)])) H := hat
  refine lv_null hx hb dJ2_fastRemove_41 ?_
  refine mastN fx h_e hS (Or.inr rfl) n rfl hn (by omega) dJ2_fastRemove_42 (fun H locs hat hz hoq hS => ?_)
  replace h_a := h_a.kept (hoq _ hae)
  replace h_e : mAt g ea (.inl (g.2.1 2, cap, rfs (va_up f n none))) H := hat
  exact rv hx hb hr hlocks hS (⟨rfl, h_a, by rw [show k = n by omega, ← rmF_b hf]; exact h_e⟩) ⟨(Nat.le_of_ble_eq_true rfl), (Nat.le_of_ble_eq_true rfl)⟩ dJ2_fastRemove_43

theorem m_fastRemove (l : Launch) (g : GT) (a ea k n cap : Nat) (mo : Int32) (f : Nat → Option Nat) (ha : bA g a) (hea : bA g ea) (hae : a ≠ ea) (hk : k ≤ n) (hn : n < cap) (hc : cap < 2 ^ 24) (hf : ∀ j, n + 1 ≤ j → f j = none) : Cn l g yJ2_fastRemove cJ2_fastRemove 4 (none : Option FieldType) 1 0 0 [.ref a, .ref ea, .int (nI k)] (fun q => q = a ∨ q = ea) (fun H => mAt g a (.inr (2, [.int mo, .ref ea, .int (nI (n + 1))])) H ∧ mAt g ea (.inl (g.2.1 2, cap, rfs f)) H ∧ mEls g a f H) (fun Hp rv Hq => rv = none ∧ mAt g a (.inr (2, [.int (mo + 1), .ref ea, .int (nI n)])) Hq ∧ mAt g ea (.inl (g.2.1 2, cap, rfs (rmF f k n))) Hq) := by
  by_cases h : k < n
  · exact m_fastRemove_a l g a ea k n cap mo f ha hea hae hk hn hc hf h
  · exact m_fastRemove_b l g a ea k n cap mo f ha hea hae hk hn hc hf (by omega)
set_option maxHeartbeats 4000000 in
theorem m_AL_remove (l : Launch) (g : GT) (a ea k n cap : Nat) (mo : Int32) (f : Nat → Option Nat) (ha : bA g a) (hea : bA g ea) (hae : a ≠ ea) (hk : k ≤ n) (hn : n < cap) (hc : cap < 2 ^ 24) (hf : ∀ j, n + 1 ≤ j → f j = none) (b : Nat) (hfk : f k = some b) : Cn l g yJ2_remove cJ2_remove 4 ((some (.object "java/lang/Object"))) 2 0 0 [.ref a, .int (nI k)] (fun q => q = a ∨ q = ea) (fun H => mAt g a (.inr (2, [.int mo, .ref ea, .int (nI (n + 1))])) H ∧ mAt g ea (.inl (g.2.1 2, cap, rfs f)) H ∧ mEls g a f H) (fun Hp rv Hq => rv = some (.ref b) ∧ mAt g a (.inr (2, [.int (mo + 1), .ref ea, .int (nI n)])) Hq ∧ mAt g ea (.inl (g.2.1 2, cap, rfs (rmF f k n))) Hq) := by
  refine Cn.start (plainFor_of_name (by decide +kernel)) (Nat.le_of_ble_eq_true rfl) ?_
  intro p ev s m below meth c ls H locs hH hx hb hr hts hown hlocks hml hnm hK hP hS hl
  obtain ⟨h_a, h_e, hEl⟩ := hP
  have fx : Fx p s m ([.ref a, .int (nI k)] : List Value).toArray c cJ2_remove RJ2 g (fun q => q = a ∨ q = ea) 4 := ⟨hx, hb, hts, hown, hK, (fun q h => h.elim (fun h => by rw [h]; exact ha) (fun h => by rw [h]; exact hea)), hml⟩
  have hl : lv_has ls 4 [(0, .ref a), (1, .int (nI k))] := hl
  refine lv_iload_n hx hb dJ2_remove_0 rfl (lv_at hl 1 rfl) ?_
  refine lv_aload_n hx hb dJ2_remove_1 rfl (lv_at hl 0 rfl) ?_
  refine mget fx tfJ2 h_a 2 (by decide) q109 (fun _ h => h) (v := .int (nI (n + 1))) rfl dJ2_remove_2 ?_
  refine kS fx (m_checkIndex l g k (n + 1) (by omega) (by omega)) (lw_S q266 q267 q73 q268) hdJ14_checkIndex ⟨(Nat.le_of_ble_eq_true rfl), (Nat.le_of_ble_eq_true rfl)⟩ ⟨(Nat.le_of_ble_eq_true rfl), (Nat.le_of_ble_eq_true rfl)⟩ hl.1 hS rfl (Nat.le_of_ble_eq_true rfl) trivial (fun _ h => h.elim) dJ2_remove_5 (fun rv9 H locs hQ hz9 hk9 hS => ?_)
  obtain ⟨rfl, rfl⟩ := hQ
  refine W.eq (g2 := F0 m 8 ls [.int (nI k)]) rfl ?_
  refine lv_pop hx hb dJ2_remove_8 rfl ?_
  refine lv_aload_n hx hb dJ2_remove_9 rfl (lv_at hl 0 rfl) ?_
  refine mget fx tfJ2 h_a 1 (by decide) q108 (fun _ h => h) (v := .ref ea) rfl dJ2_remove_10 ?_
  refine lv_astore_n (lv' := [(2, .ref ea), (0, .ref a), (1, .int (nI k))]) hx hb dJ2_remove_13 rfl hl (by decide) rfl (fun ls hl => ?_)
  refine lv_aload_n hx hb dJ2_remove_14 rfl (lv_at hl 0 rfl) ?_
  refine lv_iload_n hx hb dJ2_remove_15 rfl (lv_at hl 2 rfl) ?_
  refine maldq fx h_e k rfl (by omega) (by omega) hfk dJ2_remove_16 ?_
  refine lv_astore_n (lv' := [(3, .ref b), (2, .ref ea), (0, .ref a), (1, .int (nI k))]) hx hb dJ2_remove_17 rfl hl (by decide) rfl (fun ls hl => ?_)
  refine lv_aload_n hx hb dJ2_remove_18 rfl (lv_at hl 2 rfl) ?_
  refine lv_aload_n hx hb dJ2_remove_19 rfl (lv_at hl 1 rfl) ?_
  refine lv_iload_n hx hb dJ2_remove_20 rfl (lv_at hl 3 rfl) ?_
  refine kV fx (m_fastRemove l g a ea k n cap mo f ha hea hae hk hn hc hf) (lw_V q1336 q1338 qs34 q54 q1339) hdJ2_fastRemove ⟨(Nat.le_of_ble_eq_true rfl), (Nat.le_of_ble_eq_true rfl)⟩ ⟨(Nat.le_of_ble_eq_true rfl), (Nat.le_of_ble_eq_true rfl)⟩ hl.1 hS tfJ2.2.1 h_a rfl (Nat.le_of_ble_eq_true rfl) (⟨h_a, h_e, hEl⟩) (fun q h => h) dJ2_remove_21 (fun rv9 H locs hQ hz9 hk9 hS => ?_)
  obtain ⟨rfl, hat, hat2⟩ := hQ
  replace h_a : mAt g a (.inr (2, [.int (mo + 1), .ref ea, .int (nI n)])) H := hat
  replace h_e : mAt g ea (.inl (g.2.1 2, cap, rfs (rmF f k n))) H := hat2
  refine W.eq (g2 := F0 m 24 ls []) rfl ?_
  refine lv_aload_n hx hb dJ2_remove_24 rfl (lv_at hl 0 rfl) ?_
  exact ra hx hb hr (Or.inl ⟨_, rfl⟩) hlocks hS (⟨rfl, h_a, h_e⟩) ⟨(Nat.le_of_ble_eq_true rfl), (Nat.le_of_ble_eq_true rfl)⟩ dJ2_remove_25

theorem cpy_le {f : Nat → Option Nat} {c n : Nat} (hn : n ≤ c) (hf : ∀ k, n ≤ k → f k = none) : va_cpy f (fun _ => none) 0 0 (min c n) = f := by
  funext k
  unfold va_cpy
  by_cases h : 0 ≤ k ∧ k < 0 + min c n
  · rw [if_pos h]; congr 1; omega
  · rw [if_neg h, hf k (by omega)]
set_option maxHeartbeats 4000000 in
theorem m_toArray1 (l : Launch) (g : GT) (a ea n cap sz : Nat) (mo : Int32) (f : Nat → Option Nat) (hn : n ≤ cap) (hc : cap < 2 ^ 24) (hf : ∀ k, n ≤ k → f k = none) : Cn l g yJ2_toArray cJ2_toArray 1 ((some (.array (.object "java/lang/Object")))) 3 1 n [.ref a] (fun q => sz ≤ q) (fun H => sz = H.size ∧ mAt g a (.inr (2, [.int mo, .ref ea, .int (nI n)])) H ∧ mAt g ea (.inl (g.2.1 2, cap, rfs f)) H ∧ mEls g a f H) (fun Hp rv Hq => ∃ q, rv = some (.ref q) ∧ sz ≤ q ∧ mAt g q (.inl (g.2.1 2, n, rfs f)) Hq) := by
  refine Cn.start (plainFor_of_name (by decide +kernel)) (Nat.le_of_ble_eq_true rfl) ?_
  intro p ev s m below meth c ls H locs hH hx hb hr hts hown hlocks hml hnm hK hP hS hl
  obtain ⟨hsz, h_a, h_e, hEl⟩ := hP
  have hszs : sz = s.heap.size := by rw [hsz, hH]
  have hAs : ∀ q, s.heap.size ≤ q → sz ≤ q := fun q h => by rw [hszs]; exact h
  have hAb : ∀ q, sz ≤ q → bA g q := fun q h => Nat.le_trans hK.2.2.sz (by rw [← hszs]; exact h)
  have fx : Fx p s m ([.ref a] : List Value).toArray c cJ2_toArray RJ2 g (fun q => sz ≤ q) 1 := ⟨hx, hb, hts, hown, hK, hAb, hml⟩
  have hl : lv_has ls 1 [(0, .ref a)] := hl
  refine lv_aload_n hx hb dJ2_toArray_0 rfl (lv_at hl 0 rfl) ?_
  refine mget fx tfJ2 h_a 1 (by decide) q108 (fun _ h => h) (v := .ref ea) rfl dJ2_toArray_1 ?_
  refine lv_aload_n hx hb dJ2_toArray_4 rfl (lv_at hl 0 rfl) ?_
  refine mget fx tfJ2 h_a 2 (by decide) q109 (fun _ h => h) (v := .int (nI n)) rfl dJ2_toArray_5 ?_
  have hE0 : ∀ i, i < min cap n → ∀ y, f i = some y → mEl g y H := fun i _ y hy => (hEl i y hy).1
  have hSb := hS
  refine kS fx (m_copyOf l g ea n cap _ f (by omega) (by omega)) (lw_S q381 q382 q68 q383) hdJ13_copyOf ⟨(Nat.le_of_ble_eq_true rfl), (Nat.le_of_ble_eq_true rfl)⟩ ⟨(Nat.le_of_ble_eq_true rfl), (by show 0 + n ≤ n; omega)⟩ hl.1 hS rfl (Nat.le_of_ble_eq_true rfl) (⟨rfl, h_e, hE0⟩) (fun q h => hAs q (Nat.le_trans hS.1 h)) dJ2_toArray_8 (fun rv9 H locs hQ hz9 hk9 hS => ?_)
  obtain ⟨an_1, rfl, hloan_1, hat⟩ := hQ
  have ne_3 : a ≠ an_1 := Nat.ne_of_lt (Nat.lt_of_lt_of_le h_a.lt hloan_1)
  replace h_a := h_a.kept (hk9 _ h_a.lt (Nat.not_le.mpr h_a.lt))
  have ne_4 : ea ≠ an_1 := Nat.ne_of_lt (Nat.lt_of_lt_of_le h_e.lt hloan_1)
  replace h_e := h_e.kept (hk9 _ h_e.lt (Nat.not_le.mpr h_e.lt))
  have inan_1 := hAs an_1 (Nat.le_trans hSb.1 hloan_1)
  have hloan_1 := Nat.le_trans hSb.1 hloan_1
  have hn_2 : mAt g an_1 (.inl (g.2.1 2, n, rfs (va_cpy f (fun _ => none) 0 0 (min cap n)))) H := hat
  refine W.eq (g2 := F0 m 11 ls [.ref an_1]) rfl ?_
  rw [cpy_le hn hf] at hn_2
  exact ra hx hb hr (Or.inr ⟨_, rfl⟩) hlocks hS (⟨an_1, rfl, by rw [hszs]; exact hloan_1, hn_2⟩) ⟨(Nat.le_of_ble_eq_true rfl), (by omega)⟩ dJ2_toArray_11

set_option maxHeartbeats 4000000 in
theorem m_toArray0 (l : Launch) (g : GT) (a sz : Nat) (mo : Int32) : Cn l g yJ2_toArray cJ2_toArray 1 ((some (.array (.object "java/lang/Object")))) 3 1 0 [.ref a] (fun q => sz ≤ q) (fun H => sz = H.size ∧ mAt g a (.inr (2, [.int mo, .ref (g.2.2 1), .int 0])) H) (fun Hp rv Hq => ∃ q, rv = some (.ref q) ∧ sz ≤ q ∧ mAt g q (.inl (g.2.1 2, 0, rfs (fun _ => none))) Hq) := by
  refine Cn.start (plainFor_of_name (by decide +kernel)) (Nat.le_of_ble_eq_true rfl) ?_
  intro p ev s m below meth c ls H locs hH hx hb hr hts hown hlocks hml hnm hK hP hS hl
  obtain ⟨hsz, h_a⟩ := hP
  have hszs : sz = s.heap.size := by rw [hsz, hH]
  have hAs : ∀ q, s.heap.size ≤ q → sz ≤ q := fun q h => by rw [hszs]; exact h
  have hAb : ∀ q, sz ≤ q → bA g q := fun q h => Nat.le_trans hK.2.2.sz (by rw [← hszs]; exact h)
  have fx : Fx p s m ([.ref a] : List Value).toArray c cJ2_toArray RJ2 g (fun q => sz ≤ q) 1 := ⟨hx, hb, hts, hown, hK, hAb, hml⟩
  have hl : lv_has ls 1 [(0, .ref a)] := hl
  refine lv_aload_n hx hb dJ2_toArray_0 rfl (lv_at hl 0 rfl) ?_
  refine mget fx tfJ2 h_a 1 (by decide) q108 (fun _ h => h) (v := .ref (g.2.2 1)) rfl dJ2_toArray_1 ?_
  refine lv_aload_n hx hb dJ2_toArray_4 rfl (lv_at hl 0 rfl) ?_
  refine mget fx tfJ2 h_a 2 (by decide) q109 (fun _ h => h) (v := .int 0) rfl dJ2_toArray_5 ?_
  have hSb := hS
  refine kS fx (m_copyOf0 l g _) (lw_S q381 q382 q68 q383) hdJ13_copyOf ⟨(Nat.le_of_ble_eq_true rfl), (Nat.le_of_ble_eq_true rfl)⟩ ⟨(Nat.le_of_ble_eq_true rfl), (Nat.le_of_ble_eq_true rfl)⟩ hl.1 hS rfl (Nat.le_of_ble_eq_true rfl) rfl (fun q h => hAs q (Nat.le_trans hS.1 h)) dJ2_toArray_8 (fun rv9 H locs hQ hz9 hk9 hS => ?_)
  obtain ⟨an_1, rfl, hloan_1, hat⟩ := hQ
  have ne_3 : a ≠ an_1 := Nat.ne_of_lt (Nat.lt_of_lt_of_le h_a.lt hloan_1)
  replace h_a := h_a.kept (hk9 _ h_a.lt (Nat.not_le.mpr h_a.lt))
  have inan_1 := hAs an_1 (Nat.le_trans hSb.1 hloan_1)
  have hloan_1 := Nat.le_trans hSb.1 hloan_1
  have hn_2 : mAt g an_1 (.inl (g.2.1 2, 0, rfs (fun _ => none))) H := hat
  refine W.eq (g2 := F0 m 11 ls [.ref an_1]) rfl ?_
  exact ra hx hb hr (Or.inr ⟨_, rfl⟩) hlocks hS (⟨an_1, rfl, by rw [hszs]; exact hloan_1, hn_2⟩) ⟨(Nat.le_of_ble_eq_true rfl), (Nat.le_of_ble_eq_true rfl)⟩ dJ2_toArray_11

/-- toArray, whatever the capacity -/
theorem m_toArray (l : Launch) (g : GT) (a ea n cap sz : Nat) (mo : Int32) (f : Nat → Option Nat) (he0 : cap = 0 → ea = g.2.2 1) (hn : n ≤ cap) (hc : cap < 2 ^ 24) (hf : ∀ k, n ≤ k → f k = none) : Cn l g yJ2_toArray cJ2_toArray 1 (some (.array (.object "java/lang/Object"))) 3 1 n [.ref a] (fun q => sz ≤ q)
    (fun H => sz = H.size ∧ mAt g a (.inr (2, [.int mo, .ref ea, .int (nI n)])) H ∧ (cap ≠ 0 → mAt g ea (.inl (g.2.1 2, cap, rfs f)) H) ∧ mEls g a f H) (fun Hp rv Hq => ∃ q, rv = some (.ref q) ∧ sz ≤ q ∧ mAt g q (.inl (g.2.1 2, n, rfs f)) Hq) := by
  by_cases h0 : cap = 0
  · subst h0
    obtain rfl : n = 0 := by omega
    have hz := he0 rfl
    subst hz
    refine (m_toArray0 l g a sz mo).mono (fun q h => h) (fun H h => ⟨h.1, h.2.1⟩) (fun Hp rv Hq _ h => ?_)
    rw [show f = fun _ => none from funext fun k => hf k (Nat.zero_le _)]
    exact h
  · exact (m_toArray1 l g a ea n cap sz mo f hn hc hf).mono (fun q h => h) (fun H h => ⟨h.1, h.2.1, h.2.2.1 h0, h.2.2.2⟩) (fun Hp rv Hq _ h => h)
section MF
variable {p : Program} {l : Launch} {e : Env} {R : Room} {s : State} {m : MethodId} {args : Array Value} {below : List Frame} {meth : Method} {c : Code} {H : Heap} {locs : List Loc} {cells slots : Nat} {Q : State → Prop}
variable {cc : ByteArray} {pc : Nat} {ls : Array Slot} {rest st0 : List Value} {A A1 : Nat → Prop} {H0 : Heap} {g : GT} {nL : Nat} {mc1 ms1 : Nat} {Qh1 : Heap → Option Value → Heap → Prop} {Ph1 : Heap → Prop}
theorem kRun5 {a : Array Value} (hr : va_Run5 p l e R s m args below meth c H locs cells slots mc1 ms1 (F0 m pc ls st0) rest (mQ A1 Qh1 a) A1) (hS : va_S A H0 H locs) (hA : ∀ q, A1 q → A q)
    (kk : ∀ (v : Option Value) (H1 : Heap) (locs1 : List Loc), Qh1 H v H1 → H.size ≤ H1.size → (∀ q : Nat, q < H.size → ¬ A1 q → H1[q]? = H[q]?) → va_S A H0 H1 locs1 → W p l e R s m args below meth c H1 locs1 (cells + mc1) (slots + ms1) Q (F0 m (pc + 5) ls (v.toList ++ rest))) : W p l e R s m args below meth c H locs cells slots Q (F0 m pc ls st0) := by
  intro T hT X
  obtain ⟨v, st₀, t, T', L, h0, X', hL, e1, e2, ⟨⟨v', hv, hq⟩, hF⟩, st⟩ := hr T hT X
  cases hv
  obtain ⟨k1, k2, k3⟩ := vx_keep h0 e1 hS (fun q _ h => hA q h) hA hL hF
  rw [h0, ← e1] at hq
  obtain ⟨t2, a1, b1⟩ := kk v T'.heap (locs ++ L) hq k1 k2 k3 T' rfl X'
  exact ⟨t2, st t2 a1, b1⟩
/-- toArray through Collection -/
theorem kF (fx : Fx p s m args c cc RJ2 g A nL) {lv b : Nat} {fs : List Value}
    (hM : Cn l g yJ2_toArray cJ2_toArray 1 (some (.array (.object "java/lang/Object"))) lv mc1 ms1 [.ref b] A1 Ph1 Qh1)
    (hR : lv + 1 ≤ R.frames ∧ 8 + (1 + 11) + 64 * lv ≤ R.locals) (hcs : cells + mc1 ≤ R.cells ∧ slots + ms1 ≤ R.slots) (hl : ls.size = nL) (hS : va_S A s.heap H locs)
    (hat : mAt g b (.inr (2, fs)) H) (hrest : (rest.map fun v => v.category).sum ≤ 8) (hP : Ph1 H) (hA : ∀ q, A1 q → A q) (hdg : decode cc pc = .ok (.invokeinterface 42 1, 5))
    (kk : ∀ (v : Option Value) (H1 : Heap) (locs1 : List Loc), Qh1 H v H1 → H.size ≤ H1.size → (∀ q : Nat, q < H.size → ¬ A1 q → H1[q]? = H[q]?) → va_S A s.heap H1 locs1 → W p l e R s m args below meth c H1 locs1 (cells + mc1) (slots + ms1) Q (F0 m (pc + 5) ls (v.toList ++ rest))) : W p l e R s m args below meth c H locs cells slots Q (F0 m pc ls (.ref b :: rest)) :=
  kRun5 (va_runF (As := []) (fx.2.2.2.2.1.1.1 2 _ tfJ2.2.1).2 ⟨fx.1, fx.2.1, fx.2.2.2.2.2.2, fx.2.2.2.1, fx.2.2.1⟩ hM (va_cwF 0 fx.2.2.1 (lw_app (lw_in _ [1467, 1471, 1473, 54] (by decide +kernel) (by decide +kernel)) (lw_meth q1475)) rfl rfl rfl fx.2.2.2.2.1.2.2.fw (by decide +kernel) hR) ⟨kBlind, va_recv fx.2.2.2.2.1.1 hat.sg tfJ2.2.1 (q0 := 0) rfl, kPre fx hS hP⟩ rfl rfl hl rfl (lv_room hrest) hdg hcs) hS hA kk
end MF
theorem zadd (n : Nat) : (0 : Int32) + nI n = nI n := by rw [← nI_0, nI_add, Nat.zero_add]
theorem cpy_n {f : Nat → Option Nat} {n : Nat} (hf : ∀ k, n ≤ k → f k = none) : va_cpy f (fun _ => none) 0 0 n = f := by
  funext k
  unfold va_cpy
  by_cases h : 0 ≤ k ∧ k < 0 + n
  · rw [if_pos h]; congr 1; omega
  · rw [if_neg h, hf k (by omega)]
set_option maxHeartbeats 4000000 in
theorem m_addAll0 (l : Launch) (g : GT) (a b eb n cap sz : Nat) (mo mb : Int32) (f : Nat → Option Nat) (ha : bA g a) (hab : a ≠ b) (he0 : cap = 0 → eb = g.2.2 1) (hn : n ≤ cap) (hc : cap < 2 ^ 24) (hf : ∀ k, n ≤ k → f k = none) (hn9 : n = 0) : Cn l g yJ2_addAll cJ2_addAll 6 ((some .boolean)) 4 1 n [.ref a, .ref b] (fA (fun q => q = a) sz) (fun H => sz = H.size ∧ mAt g a (.inr (2, [.int mo, .ref (g.2.2 1), .int 0])) H ∧ mAt g b (.inr (2, [.int mb, .ref eb, .int (nI n)])) H ∧ (cap ≠ 0 → mAt g eb (.inl (g.2.1 2, cap, rfs f)) H) ∧ mEls g b f H ∧ mEls g a f H) (fun Hp rv Hq => rv = some (.int 0) ∧ mAt g a (.inr (2, [.int (mo + 1), .ref (g.2.2 1), .int 0])) Hq) := by
  refine Cn.start (plainFor_of_name (by decide +kernel)) (Nat.le_of_ble_eq_true rfl) ?_
  intro p ev s m below meth c ls H locs hH hx hb hr hts hown hlocks hml hnm hK hP hS hl
  obtain ⟨hsz, h_a, h_b, h_eb, hElb, hEl⟩ := hP
  have hszs : sz = s.heap.size := by rw [hsz, hH]
  have hAs : ∀ q, s.heap.size ≤ q → (fA (fun q => q = a) sz) q := fun q h => Or.inr (by rw [hszs]; exact h)
  have hAb : ∀ q, (fA (fun q => q = a) sz) q → bA g q := fun q h => h.elim (fun h => by rw [h]; exact ha) (fun h => Nat.le_trans hK.2.2.sz (by rw [← hszs]; exact h))
  have hn0 : nI n = 0 := by rw [hn9]; rfl
  have fx : Fx p s m ([.ref a, .ref b] : List Value).toArray c cJ2_addAll RJ2 g (fA (fun q => q = a) sz) 6 := ⟨hx, hb, hts, hown, hK, hAb, hml⟩
  have hl : lv_has ls 6 [(0, .ref a), (1, .ref b)] := hl
  refine lv_aload_n hx hb dJ2_addAll_0 rfl (lv_at hl 1 rfl) ?_
  have hSb := hS
  refine kF fx (m_toArray l g b eb n cap _ mb f he0 hn hc hf) ⟨(Nat.le_of_ble_eq_true rfl), (Nat.le_of_ble_eq_true rfl)⟩ ⟨(Nat.le_of_ble_eq_true rfl), (by show 0 + n ≤ n; omega)⟩ hl.1 hS h_b (Nat.le_of_ble_eq_true rfl) ⟨rfl, h_b, h_eb, hElb⟩ (fun q h => hAs q (Nat.le_trans hS.1 h)) dJ2_addAll_1 (fun rv9 H locs hQ hz9 hk9 hS => ?_)
  obtain ⟨an_1, rfl, hloan_1, hat⟩ := hQ
  replace hEl := hEl.kept (fun q h _ => hk9 q h (Nat.not_le.mpr h))
  have ne_3 : a ≠ an_1 := Nat.ne_of_lt (Nat.lt_of_lt_of_le h_a.lt hloan_1)
  replace h_a := h_a.kept (hk9 _ h_a.lt (Nat.not_le.mpr h_a.lt))
  have ne_4 : b ≠ an_1 := Nat.ne_of_lt (Nat.lt_of_lt_of_le h_b.lt hloan_1)
  replace h_b := h_b.kept (hk9 _ h_b.lt (Nat.not_le.mpr h_b.lt))
  have inan_1 := hAs an_1 (Nat.le_trans hSb.1 hloan_1)
  have hloan_1 := Nat.le_trans hSb.1 hloan_1
  have hn_2 : mAt g an_1 (.inl (g.2.1 2, n, rfs f)) H := hat
  refine W.eq (g2 := F0 m 6 ls [.ref an_1]) rfl ?_
  refine lv_astore_n (lv' := [(2, .ref an_1), (0, .ref a), (1, .ref b)]) hx hb dJ2_addAll_6 rfl hl (by decide) rfl (fun ls hl => ?_)
  refine lv_aload_n hx hb dJ2_addAll_7 rfl (lv_at hl 1 rfl) ?_
  refine lv_dup hx hb dJ2_addAll_8 rfl ?_
  refine mget fx tfJ2 h_a 0 (by decide) q111 (fun x h => u_same (hts _ q112) x h) (v := .int mo) rfl dJ2_addAll_9 ?_
  refine lv_iconst (v := 1) hx hb dJ2_addAll_12 (by decide) ?_
  refine lv_iadd hx hb dJ2_addAll_13 ?_
  refine mput fx tfJ2 h_a hS (Or.inl rfl) 0 (by decide) q111 (fun x h => u_same (hts _ q112) x h) rfl rfl rfl (Nat.le_of_ble_eq_true rfl) dJ2_addAll_14 (fun H locs hat hz hoq hS => ?_)
  replace h_b := h_b.kept (hoq _ (Ne.symm hab))
  replace hn_2 := hn_2.kept (hoq _ (Ne.symm ne_3))
  replace hEl := hEl.kept (fun q _ h => hoq q h)
  replace h_a : mAt g a (.inr (2, [.int (mo + 1), .ref (g.2.2 1), .int 0])) H := hat
  refine lv_aload_n hx hb dJ2_addAll_17 rfl (lv_at hl 0 rfl) ?_
  refine malen fx (t := 2) (.object "java/lang/Object") rfl hn_2 dJ2_addAll_18 ?_
  refine lv_istore_n (lv' := [(3, .int (nI n)), (2, .ref an_1), (0, .ref a), (1, .ref b)]) hx hb dJ2_addAll_19 rfl hl (by decide) rfl (fun ls hl => ?_)
  refine lv_iload_n hx hb dJ2_addAll_20 rfl (lv_at hl 0 rfl) ?_
  refine lv_if_ne (tgt := 26) hx hb dJ2_addAll_21 (by decide) (fun h9 => absurd hn0 h9) (fun _ => ?_)
  refine lv_iconst (v := 0) hx hb dJ2_addAll_24 (by decide) ?_
  exact rz hx hb hr hlocks rfl hS (⟨rfl, h_a⟩) ⟨(Nat.le_of_ble_eq_true rfl), (by omega)⟩ dJ2_addAll_25

set_option maxHeartbeats 4000000 in
theorem m_addAlln (l : Launch) (g : GT) (a b eb n cap sz : Nat) (mo mb : Int32) (f : Nat → Option Nat) (ha : bA g a) (hab : a ≠ b) (he0 : cap = 0 → eb = g.2.2 1) (hn : n ≤ cap) (hc : cap < 2 ^ 24) (hf : ∀ k, n ≤ k → f k = none) (hn9 : n ≠ 0) : Cn l g yJ2_addAll cJ2_addAll 6 ((some .boolean)) 4 2 (n + max 10 n) [.ref a, .ref b] (fA (fun q => q = a) sz) (fun H => sz = H.size ∧ mAt g a (.inr (2, [.int mo, .ref (g.2.2 1), .int 0])) H ∧ mAt g b (.inr (2, [.int mb, .ref eb, .int (nI n)])) H ∧ (cap ≠ 0 → mAt g eb (.inl (g.2.1 2, cap, rfs f)) H) ∧ mEls g b f H ∧ mEls g a f H) (fun Hp rv Hq => ∃ q, rv = some (.int 1) ∧ sz ≤ q ∧ mAt g a (.inr (2, [.int (mo + 1), .ref q, .int (nI n)])) Hq ∧ mAt g q (.inl (g.2.1 2, max 10 n, rfs f)) Hq) := by
  refine Cn.start (plainFor_of_name (by decide +kernel)) (Nat.le_of_ble_eq_true rfl) ?_
  intro p ev s m below meth c ls H locs hH hx hb hr hts hown hlocks hml hnm hK hP hS hl
  obtain ⟨hsz, h_a, h_b, h_eb, hElb, hEl⟩ := hP
  have hszs : sz = s.heap.size := by rw [hsz, hH]
  have hAs : ∀ q, s.heap.size ≤ q → (fA (fun q => q = a) sz) q := fun q h => Or.inr (by rw [hszs]; exact h)
  have hAb : ∀ q, (fA (fun q => q = a) sz) q → bA g q := fun q h => h.elim (fun h => by rw [h]; exact ha) (fun h => Nat.le_trans hK.2.2.sz (by rw [← hszs]; exact h))
  have hn0 : ¬ nI n = 0 := nI_ne0 (by omega) (by omega)
  have hn1 : ¬ nI n ≤ (0 - 0) := nI_nle (by omega) (by omega)
  have fx : Fx p s m ([.ref a, .ref b] : List Value).toArray c cJ2_addAll RJ2 g (fA (fun q => q = a) sz) 6 := ⟨hx, hb, hts, hown, hK, hAb, hml⟩
  have hl : lv_has ls 6 [(0, .ref a), (1, .ref b)] := hl
  refine lv_aload_n hx hb dJ2_addAll_0 rfl (lv_at hl 1 rfl) ?_
  have hSb := hS
  refine kF fx (m_toArray l g b eb n cap _ mb f he0 hn hc hf) ⟨(Nat.le_of_ble_eq_true rfl), (Nat.le_of_ble_eq_true rfl)⟩ ⟨(Nat.le_of_ble_eq_true rfl), (by show 0 + n ≤ n + max 10 n; omega)⟩ hl.1 hS h_b (Nat.le_of_ble_eq_true rfl) ⟨rfl, h_b, h_eb, hElb⟩ (fun q h => hAs q (Nat.le_trans hS.1 h)) dJ2_addAll_1 (fun rv9 H locs hQ hz9 hk9 hS => ?_)
  obtain ⟨an_1, rfl, hloan_1, hat⟩ := hQ
  replace hEl := hEl.kept (fun q h _ => hk9 q h (Nat.not_le.mpr h))
  have ne_3 : a ≠ an_1 := Nat.ne_of_lt (Nat.lt_of_lt_of_le h_a.lt hloan_1)
  replace h_a := h_a.kept (hk9 _ h_a.lt (Nat.not_le.mpr h_a.lt))
  have ne_4 : b ≠ an_1 := Nat.ne_of_lt (Nat.lt_of_lt_of_le h_b.lt hloan_1)
  replace h_b := h_b.kept (hk9 _ h_b.lt (Nat.not_le.mpr h_b.lt))
  have inan_1 := hAs an_1 (Nat.le_trans hSb.1 hloan_1)
  have hloan_1 := Nat.le_trans hSb.1 hloan_1
  have hn_2 : mAt g an_1 (.inl (g.2.1 2, n, rfs f)) H := hat
  refine W.eq (g2 := F0 m 6 ls [.ref an_1]) rfl ?_
  refine lv_astore_n (lv' := [(2, .ref an_1), (0, .ref a), (1, .ref b)]) hx hb dJ2_addAll_6 rfl hl (by decide) rfl (fun ls hl => ?_)
  refine lv_aload_n hx hb dJ2_addAll_7 rfl (lv_at hl 1 rfl) ?_
  refine lv_dup hx hb dJ2_addAll_8 rfl ?_
  refine mget fx tfJ2 h_a 0 (by decide) q111 (fun x h => u_same (hts _ q112) x h) (v := .int mo) rfl dJ2_addAll_9 ?_
  refine lv_iconst (v := 1) hx hb dJ2_addAll_12 (by decide) ?_
  refine lv_iadd hx hb dJ2_addAll_13 ?_
  refine mput fx tfJ2 h_a hS (Or.inl rfl) 0 (by decide) q111 (fun x h => u_same (hts _ q112) x h) rfl rfl rfl (Nat.le_of_ble_eq_true rfl) dJ2_addAll_14 (fun H locs hat hz hoq hS => ?_)
  replace h_b := h_b.kept (hoq _ (Ne.symm hab))
  replace hn_2 := hn_2.kept (hoq _ (Ne.symm ne_3))
  replace hEl := hEl.kept (fun q _ h => hoq q h)
  replace h_a : mAt g a (.inr (2, [.int (mo + 1), .ref (g.2.2 1), .int 0])) H := hat
  refine lv_aload_n hx hb dJ2_addAll_17 rfl (lv_at hl 0 rfl) ?_
  refine malen fx (t := 2) (.object "java/lang/Object") rfl hn_2 dJ2_addAll_18 ?_
  refine lv_istore_n (lv' := [(3, .int (nI n)), (2, .ref an_1), (0, .ref a), (1, .ref b)]) hx hb dJ2_addAll_19 rfl hl (by decide) rfl (fun ls hl => ?_)
  refine lv_iload_n hx hb dJ2_addAll_20 rfl (lv_at hl 0 rfl) ?_
  refine lv_if_ne (tgt := 26) hx hb dJ2_addAll_21 (by decide) (fun _ => ?_) (fun h9 => absurd h9 hn0)
  refine lv_iload_n hx hb dJ2_addAll_26 rfl (lv_at hl 0 rfl) ?_
  refine lv_aload_n hx hb dJ2_addAll_27 rfl (lv_at hl 2 rfl) ?_
  refine mget fx tfJ2 h_a 1 (by decide) q108 (fun _ h => h) (v := .ref (g.2.2 1)) rfl dJ2_addAll_28 ?_
  refine lv_dup hx hb dJ2_addAll_31 rfl ?_
  refine lv_astore (lv' := [(4, .ref (g.2.2 1)), (3, .int (nI n)), (2, .ref an_1), (0, .ref a), (1, .ref b)]) hx hb dJ2_addAll_32 hl (by decide) rfl (fun ls hl => ?_)
  refine mDElen fx hS dJ2_addAll_34 ?_
  refine lv_aload_n hx hb dJ2_addAll_35 rfl (lv_at hl 3 rfl) ?_
  refine mget fx tfJ2 h_a 2 (by decide) q109 (fun _ h => h) (v := .int 0) rfl dJ2_addAll_36 ?_
  refine lv_dup hx hb dJ2_addAll_39 rfl ?_
  refine lv_istore (lv' := [(5, .int 0), (4, .ref (g.2.2 1)), (3, .int (nI n)), (2, .ref an_1), (0, .ref a), (1, .ref b)]) hx hb dJ2_addAll_40 hl (by decide) rfl (fun ls hl => ?_)
  refine lv_isub hx hb dJ2_addAll_42 ?_
  refine lv_icmp_le (tgt := 56) hx hb dJ2_addAll_43 (by decide) (fun h9 => absurd h9 hn1) (fun _ => ?_)
  refine lv_aload_n hx hb dJ2_addAll_46 rfl (lv_at hl 4 rfl) ?_
  refine lv_iload hx hb dJ2_addAll_47 (lv_at hl 0 rfl) ?_
  refine lv_iload_n hx hb dJ2_addAll_49 rfl (lv_at hl 2 rfl) ?_
  refine lv_iadd hx hb dJ2_addAll_50 ?_
  rw [show 0 + (nI n) = nI n from zadd _]
  have hSb := hS
  refine kV fx (m_grow2B l g a 0 n _ (mo + 1) (fx.2.2.2.2.2.1 _ (Or.inl rfl)) (by omega)) (lw_V q367 q369 qs7 q54 q370) hdJ2_grow_2 ⟨(Nat.le_of_ble_eq_true rfl), (Nat.le_of_ble_eq_true rfl)⟩ ⟨(Nat.le_of_ble_eq_true rfl), (by show 0 + n + max 10 n ≤ n + max 10 n; omega)⟩ hl.1 hS tfJ2.2.1 h_a rfl (Nat.le_of_ble_eq_true rfl) (⟨rfl, h_a⟩) (fun q h => h.elim (fun h => Or.inl h) (fun h => hAs q (Nat.le_trans hS.1 h))) dJ2_addAll_51 (fun rv9 H locs hQ hz9 hk9 hS => ?_)
  obtain ⟨an_5, rfl, hloan_5, hat, hatn⟩ := hQ
  replace hEl := hEl.kept (fun q h hq => hk9 _ h (fun z => z.elim hq (Nat.not_le.mpr h)))
  have ne_7 : b ≠ an_5 := Nat.ne_of_lt (Nat.lt_of_lt_of_le h_b.lt hloan_5)
  replace h_b := h_b.kept (hk9 _ h_b.lt (fun h => h.elim (Ne.symm hab) (Nat.not_le.mpr h_b.lt)))
  have ne_8 : an_1 ≠ an_5 := Nat.ne_of_lt (Nat.lt_of_lt_of_le hn_2.lt hloan_5)
  replace hn_2 := hn_2.kept (hk9 _ hn_2.lt (fun h => h.elim (Ne.symm ne_3) (Nat.not_le.mpr hn_2.lt)))
  have ne_9 : a ≠ an_5 := Nat.ne_of_lt (Nat.lt_of_lt_of_le h_a.lt hloan_5)
  replace h_a : mAt g a (.inr (2, [.int (mo + 1), .ref an_5, .int 0])) H := hat
  have inan_5 := hAs an_5 (Nat.le_trans hSb.1 hloan_5)
  have hloan_5 := Nat.le_trans hSb.1 hloan_5
  have hn_6 : mAt g an_5 (.inl (g.2.1 2, max 10 n, rfs (fun _ => none))) H := hatn
  refine W.eq (g2 := F0 m 54 ls [.ref an_5]) rfl ?_
  refine lv_astore (lv' := [(4, .ref an_5), (5, .int 0), (3, .int (nI n)), (2, .ref an_1), (0, .ref a), (1, .ref b)]) hx hb dJ2_addAll_54 hl (by decide) rfl (fun ls hl => ?_)
  refine lv_aload_n hx hb dJ2_addAll_56 rfl (lv_at hl 3 rfl) ?_
  refine lv_iconst (v := 0) hx hb dJ2_addAll_57 (by decide) ?_
  refine lv_aload hx hb dJ2_addAll_58 (lv_at hl 0 rfl) ?_
  refine lv_iload hx hb dJ2_addAll_60 (lv_at hl 1 rfl) ?_
  refine lv_iload_n hx hb dJ2_addAll_62 rfl (lv_at hl 2 rfl) ?_
  refine mcopyM fx hl.1 q1340 hn_2 hn_6 hS inan_5 0 0 n (by omega) (by omega) (by omega) (by omega) (fun i hi y hy => mAny fx hS (hEl _ y hy).1) rfl rfl rfl (Nat.le_of_ble_eq_true rfl) (Nat.le_of_ble_eq_true rfl) dJ2_addAll_63 (fun H locs hat hz hoq hS => ?_)
  replace h_a := h_a.kept (hoq _ ne_9)
  replace h_b := h_b.kept (hoq _ ne_7)
  replace hn_2 := hn_2.kept (hoq _ ne_8)
  replace hn_6 : mAt g an_5 (.inl (g.2.1 2, max 10 n, rfs (va_cpy f (fun _ => none) 0 0 n))) H := hat
  refine lv_aload_n hx hb dJ2_addAll_66 rfl (lv_at hl 4 rfl) ?_
  refine lv_iload hx hb dJ2_addAll_67 (lv_at hl 1 rfl) ?_
  refine lv_iload_n hx hb dJ2_addAll_69 rfl (lv_at hl 2 rfl) ?_
  refine lv_iadd hx hb dJ2_addAll_70 ?_
  rw [show 0 + (nI n) = nI n from zadd _]
  refine mput fx tfJ2 h_a hS (Or.inl rfl) 2 (by decide) q109 (fun _ h => h) rfl rfl rfl (Nat.le_of_ble_eq_true rfl) dJ2_addAll_71 (fun H locs hat hz hoq hS => ?_)
  replace h_b := h_b.kept (hoq _ (Ne.symm hab))
  replace hn_2 := hn_2.kept (hoq _ (Ne.symm ne_3))
  replace hn_6 := hn_6.kept (hoq _ (Ne.symm ne_9))
  replace h_a : mAt g a (.inr (2, [.int (mo + 1), .ref an_5, .int (nI n)])) H := hat
  refine lv_iconst (v := 1) hx hb dJ2_addAll_74 (by decide) ?_
  exact rz hx hb hr hlocks rfl hS (⟨an_5, rfl, by rw [hszs]; exact hloan_5, h_a, by rw [← cpy_n hf]; exact hn_6⟩) ⟨(Nat.le_of_ble_eq_true rfl), (by omega)⟩ dJ2_addAll_75

/-- addAll to a fresh list -/
theorem m_addAll (l : Launch) (g : GT) (a b eb n cap sz : Nat) (mo mb : Int32) (f : Nat → Option Nat) (ha : bA g a) (hab : a ≠ b) (he0 : cap = 0 → eb = g.2.2 1) (hn : n ≤ cap) (hc : cap < 2 ^ 24) (hf : ∀ k, n ≤ k → f k = none) : ∃ mc ms, mc ≤ 2 ∧ ms ≤ n + max 10 n ∧ Cn l g yJ2_addAll cJ2_addAll 6 (some .boolean) 4 mc ms [.ref a, .ref b] (fA (fun q => q = a) sz)
    (fun H => sz = H.size ∧ mAt g a (.inr (2, [.int mo, .ref (g.2.2 1), .int 0])) H ∧ mAt g b (.inr (2, [.int mb, .ref eb, .int (nI n)])) H ∧ (cap ≠ 0 → mAt g eb (.inl (g.2.1 2, cap, rfs f)) H) ∧ mEls g b f H ∧ mEls g a f H)
    (fun Hp rv Hq => ∃ q r, rv = some (.int r) ∧ (if n = 0 then q = g.2.2 1 else sz ≤ q) ∧ mAt g a (.inr (2, [.int (mo + 1), .ref q, .int (nI n)])) Hq ∧ (n ≠ 0 → mAt g q (.inl (g.2.1 2, max 10 n, rfs f)) Hq)) := by
  by_cases h0 : n = 0
  · refine ⟨1, n, by omega, by omega, (m_addAll0 l g a b eb n cap sz mo mb f ha hab he0 hn hc hf h0).mono (fun q h => h) (fun H h => h) (fun Hp rv Hq _ h => ?_)⟩
    exact ⟨_, _, h.1, by rw [if_pos h0], by rw [h0]; exact h.2, fun z => absurd h0 z⟩
  · refine ⟨2, n + max 10 n, by omega, by omega, (m_addAlln l g a b eb n cap sz mo mb f ha hab he0 hn hc hf h0).mono (fun q h => h) (fun H h => h) (fun Hp rv Hq _ h => ?_)⟩
    obtain ⟨q, e1, e2, e3, e4⟩ := h
    exact ⟨q, _, e1, by rw [if_neg h0]; exact e2, e3, fun _ => e4⟩
