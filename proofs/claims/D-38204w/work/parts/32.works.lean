/-! the walks of Works -/
set_option maxRecDepth 100000
theorem hdJ2_get : yJ2_get.cls ≠ "java/lang/invoke/MethodHandle" ∧ yJ2_get.cls ≠ "java/lang/invoke/VarHandle" ∧ (parseMethodDescriptor yJ2_get.desc).map (fun d => d.parameters.length) = some 1 := by decide +kernel
theorem hdJ2_size : yJ2_size.cls ≠ "java/lang/invoke/MethodHandle" ∧ yJ2_size.cls ≠ "java/lang/invoke/VarHandle" ∧ (parseMethodDescriptor yJ2_size.desc).map (fun d => d.parameters.length) = some 0 := by decide +kernel
theorem hdX2_burn : yX2_burn.cls ≠ "java/lang/invoke/MethodHandle" ∧ yX2_burn.cls ≠ "java/lang/invoke/VarHandle" ∧ (parseMethodDescriptor yX2_burn.desc).map (fun d => d.parameters.length) = some 1 := by decide +kernel
theorem hdX2_crush : yX2_crush.cls ≠ "java/lang/invoke/MethodHandle" ∧ yX2_crush.cls ≠ "java/lang/invoke/VarHandle" ∧ (parseMethodDescriptor yX2_crush.desc).map (fun d => d.parameters.length) = some 0 := by decide +kernel
theorem hdX2_crush_2 : yX2_crush_2.cls ≠ "java/lang/invoke/MethodHandle" ∧ yX2_crush_2.cls ≠ "java/lang/invoke/VarHandle" ∧ (parseMethodDescriptor yX2_crush_2.desc).map (fun d => d.parameters.length) = some 1 := by decide +kernel
theorem hdX2_drive : yX2_drive.cls ≠ "java/lang/invoke/MethodHandle" ∧ yX2_drive.cls ≠ "java/lang/invoke/VarHandle" ∧ (parseMethodDescriptor yX2_drive.desc).map (fun d => d.parameters.length) = some 1 := by decide +kernel
theorem hdX2_endDay : yX2_endDay.cls ≠ "java/lang/invoke/MethodHandle" ∧ yX2_endDay.cls ≠ "java/lang/invoke/VarHandle" ∧ (parseMethodDescriptor yX2_endDay.desc).map (fun d => d.parameters.length) = some 2 := by decide +kernel
theorem hdX2_endFields : yX2_endFields.cls ≠ "java/lang/invoke/MethodHandle" ∧ yX2_endFields.cls ≠ "java/lang/invoke/VarHandle" ∧ (parseMethodDescriptor yX2_endFields.desc).map (fun d => d.parameters.length) = some 2 := by decide +kernel
theorem hdX2_firstAt : yX2_firstAt.cls ≠ "java/lang/invoke/MethodHandle" ∧ yX2_firstAt.cls ≠ "java/lang/invoke/VarHandle" ∧ (parseMethodDescriptor yX2_firstAt.desc).map (fun d => d.parameters.length) = some 1 := by decide +kernel
theorem hdX2_growerOf : yX2_growerOf.cls ≠ "java/lang/invoke/MethodHandle" ∧ yX2_growerOf.cls ≠ "java/lang/invoke/VarHandle" ∧ (parseMethodDescriptor yX2_growerOf.desc).map (fun d => d.parameters.length) = some 1 := by decide +kernel
theorem hdX2_isAhead : yX2_isAhead.cls ≠ "java/lang/invoke/MethodHandle" ∧ yX2_isAhead.cls ≠ "java/lang/invoke/VarHandle" ∧ (parseMethodDescriptor yX2_isAhead.desc).map (fun d => d.parameters.length) = some 2 := by decide +kernel
theorem hdX2_next : yX2_next.cls ≠ "java/lang/invoke/MethodHandle" ∧ yX2_next.cls ≠ "java/lang/invoke/VarHandle" ∧ (parseMethodDescriptor yX2_next.desc).map (fun d => d.parameters.length) = some 0 := by decide +kernel
theorem hdX5_endDay : yX5_endDay.cls ≠ "java/lang/invoke/MethodHandle" ∧ yX5_endDay.cls ≠ "java/lang/invoke/VarHandle" ∧ (parseMethodDescriptor yX5_endDay.desc).map (fun d => d.parameters.length) = some 3 := by decide +kernel
theorem hdX7_stand : yX7_stand.cls ≠ "java/lang/invoke/MethodHandle" ∧ yX7_stand.cls ≠ "java/lang/invoke/VarHandle" ∧ (parseMethodDescriptor yX7_stand.desc).map (fun d => d.parameters.length) = some 0 := by decide +kernel
theorem hdX9_spoil : yX9_spoil.cls ≠ "java/lang/invoke/MethodHandle" ∧ yX9_spoil.cls ≠ "java/lang/invoke/VarHandle" ∧ (parseMethodDescriptor yX9_spoil.desc).map (fun d => d.parameters.length) = some 1 := by decide +kernel
set_option maxHeartbeats 4000000 in
theorem m_W_burn (l : Launch) (g : GT) (sz : Nat) (la : LT) (sc : Nat → Int32) (sw : Int64) (ar fd tr ld : Nat → Nat → Int32) (n : CN) (x : Int32) : Cn l g yX2_burn cX2_burn 3 ((some .int)) 1 0 0 [.ref (la.1 0 0), .int x] (fA (cF la n) sz) (fun H => sz = H.size ∧ cw g (bA g) la (sc, sw, ar, fd, tr, ld, n) H) (fun Hp rv Hq => rv = some (.int (lackC (sc 12) x)) ∧ cw g (fA (cF la n) sz) la (cBurn sc x, sw, ar, fd, tr, ld, n) Hq) := by
  refine Cn.start (plainFor_of_name (by decide +kernel)) (Nat.le_of_ble_eq_true rfl) ?_
  intro p ev s m below meth c ls H locs hH hx hb hr hts hown hlocks hml hnm hK hP hS hl
  obtain ⟨hsz, hw⟩ := hP
  have hszs : sz = s.heap.size := by rw [hsz, hH]
  have hAs : ∀ q, s.heap.size ≤ q → (fA (cF la n) sz) q := fun q h => Or.inr (by rw [hszs]; exact h)
  have hAb : ∀ q, (fA (cF la n) sz) q → bA g q := fun q h => h.elim (hw.1.ft q) (fun h => Nat.le_trans hK.2.2.sz (by rw [← hszs]; exact h))
  replace hw : cw g (fA (cF la n) sz) la (sc, sw, ar, fd, tr, ld, n) H := cw.self hw sz
  have fx : Fx p s m ([.ref (la.1 0 0), .int x] : List Value).toArray c cX2_burn RX2 g (fA (cF la n) sz) 3 := ⟨hx, hb, hts, hown, hK, hAb, hml⟩
  have hl : lv_has ls 3 [(0, .ref (la.1 0 0)), (1, .int x)] := hl
  refine lv_iconst (v := 0) hx hb dX2_burn_0 (by decide) ?_
  refine lv_iload_n hx hb dX2_burn_1 rfl (lv_at hl 1 rfl) ?_
  refine lv_aload_n hx hb dX2_burn_2 rfl (lv_at hl 0 rfl) ?_
  refine mget fx tfX2 (cw.w hw) 18 (by decide) q155 (fun _ h => h) (v := .int (sc 12)) rfl dX2_burn_3 ?_
  refine lv_isub hx hb dX2_burn_6 ?_
  refine kS fx (m_max l g 0 (x - (sc 12))) (lw_S q423 q375 q67 q376) hdJ12_max ⟨(Nat.le_of_ble_eq_true rfl), (Nat.le_of_ble_eq_true rfl)⟩ ⟨(Nat.le_of_ble_eq_true rfl), (Nat.le_of_ble_eq_true rfl)⟩ hl.1 hS rfl (Nat.le_of_ble_eq_true rfl) trivial (fun _ h => h.elim) dX2_burn_7 (fun rv9 H locs hQ hz9 hk9 hS => ?_)
  obtain ⟨rfl, rfl⟩ := hQ
  refine W.eq (g2 := F0 m 10 ls [.int (jmax 0 (x - (sc 12)))]) rfl ?_
  refine lv_istore_n (lv' := [(2, .int (jmax 0 (x - (sc 12)))), (0, .ref (la.1 0 0)), (1, .int x)]) hx hb dX2_burn_10 rfl hl (by decide) rfl (fun ls hl => ?_)
  refine lv_aload_n hx hb dX2_burn_11 rfl (lv_at hl 1 rfl) ?_
  refine lv_iconst (v := 0) hx hb dX2_burn_12 (by decide) ?_
  refine lv_aload_n hx hb dX2_burn_13 rfl (lv_at hl 1 rfl) ?_
  refine mget fx tfX2 (cw.w hw) 18 (by decide) q155 (fun _ h => h) (v := .int (sc 12)) rfl dX2_burn_14 ?_
  refine lv_iload_n hx hb dX2_burn_17 rfl (lv_at hl 2 rfl) ?_
  refine lv_isub hx hb dX2_burn_18 ?_
  refine kS fx (m_max l g 0 ((sc 12) - x)) (lw_S q423 q375 q67 q376) hdJ12_max ⟨(Nat.le_of_ble_eq_true rfl), (Nat.le_of_ble_eq_true rfl)⟩ ⟨(Nat.le_of_ble_eq_true rfl), (Nat.le_of_ble_eq_true rfl)⟩ hl.1 hS rfl (Nat.le_of_ble_eq_true rfl) trivial (fun _ h => h.elim) dX2_burn_19 (fun rv9 H locs hQ hz9 hk9 hS => ?_)
  obtain ⟨rfl, rfl⟩ := hQ
  refine W.eq (g2 := F0 m 22 ls [.int (jmax 0 ((sc 12) - x)), .ref (la.1 0 0)]) rfl ?_
  refine mput fx tfX2 (cw.w hw) hS (cw.inW hw (by decide)) 18 (by decide) q155 (fun _ h => h) rfl rfl rfl (Nat.le_of_ble_eq_true rfl) dX2_burn_22 (fun H locs hat hz hoq hS => ?_)
  replace hw : cw g (fA (cF la n) sz) la (va_up sc 12 (jmax 0 ((sc 12) - x)), sw, ar, fd, tr, ld, n) H := cw.setW hw hat (fun q _ h9 => hoq q h9)
  refine lv_aload_n hx hb dX2_burn_25 rfl (lv_at hl 1 rfl) ?_
  refine lv_dup hx hb dX2_burn_26 rfl ?_
  refine mget fx tfX2 (cw.w hw) 19 (by decide) q157 (fun _ h => h) (v := .int (sc 13)) rfl dX2_burn_27 ?_
  refine lv_iload_n hx hb dX2_burn_30 rfl (lv_at hl 0 rfl) ?_
  refine lv_iadd hx hb dX2_burn_31 ?_
  refine mput fx tfX2 (cw.w hw) hS (cw.inW hw (by decide)) 19 (by decide) q157 (fun _ h => h) rfl rfl rfl (Nat.le_of_ble_eq_true rfl) dX2_burn_32 (fun H locs hat hz hoq hS => ?_)
  replace hw : cw g (fA (cF la n) sz) la (va_up (va_up sc 12 (jmax 0 ((sc 12) - x))) 13 ((sc 13) + (jmax 0 (x - (sc 12)))), sw, ar, fd, tr, ld, n) H := cw.setW hw hat (fun q _ h9 => hoq q h9)
  refine lv_aload_n hx hb dX2_burn_35 rfl (lv_at hl 1 rfl) ?_
  refine lv_dup hx hb dX2_burn_36 rfl ?_
  refine mget fx tfX2 (cw.w hw) 20 (by decide) q159 (fun _ h => h) (v := .int (sc 14)) rfl dX2_burn_37 ?_
  refine lv_iconst (v := 2) hx hb dX2_burn_40 (by decide) ?_
  refine lv_iload_n hx hb dX2_burn_41 rfl (lv_at hl 0 rfl) ?_
  refine lv_imul hx hb dX2_burn_42 ?_
  refine lv_isub hx hb dX2_burn_43 ?_
  refine mput fx tfX2 (cw.w hw) hS (cw.inW hw (by decide)) 20 (by decide) q159 (fun _ h => h) rfl rfl rfl (Nat.le_of_ble_eq_true rfl) dX2_burn_44 (fun H locs hat hz hoq hS => ?_)
  replace hw : cw g (fA (cF la n) sz) la (va_up (va_up (va_up sc 12 (jmax 0 ((sc 12) - x))) 13 ((sc 13) + (jmax 0 (x - (sc 12))))) 14 ((sc 14) - (2 * (jmax 0 (x - (sc 12))))), sw, ar, fd, tr, ld, n) H := cw.setW hw hat (fun q _ h9 => hoq q h9)
  refine lv_iload_n hx hb dX2_burn_47 rfl (lv_at hl 0 rfl) ?_
  exact ri hx hb hr hlocks hS (⟨rfl, hw⟩) ⟨(Nat.le_of_ble_eq_true rfl), (Nat.le_of_ble_eq_true rfl)⟩ dX2_burn_48

set_option maxHeartbeats 4000000 in
theorem m_W_growerOf (l : Launch) (g : GT) (la : LT) (sc : Nat → Int32) (sw : Int64) (ar fd tr ld : Nat → Nat → Int32) (n : CN) (k : Nat) (x : Int32) (hk : k < n 2) (hx9 : ld k 0 = x) (hf : ix x (n 0)) : Cn l g yX2_growerOf cX2_growerOf 2 ((some .int)) 3 0 0 [.ref (la.1 0 0), .ref (la.1 4 k)] (fun _ => False) (fun H => cw g (bA g) la (sc, sw, ar, fd, tr, ld, n) H) (fun Hp rv Hq => Hp = Hq ∧ rv = some (.int (fd (iN x) 0))) := by
  refine Cn.start (plainFor_of_name (by decide +kernel)) (Nat.le_of_ble_eq_true rfl) ?_
  intro p ev s m below meth c ls H locs hH hx hb hr hts hown hlocks hml hnm hK hP hS hl
  have hw := hP
  have fx : Fx p s m ([.ref (la.1 0 0), .ref (la.1 4 k)] : List Value).toArray c cX2_growerOf RX2 g (fun _ => False) 2 := ⟨hx, hb, hts, hown, hK, fun _ h => h.elim, hml⟩
  have hl : lv_has ls 2 [(0, .ref (la.1 0 0)), (1, .ref (la.1 4 k))] := hl
  refine lv_aload_n hx hb dX2_growerOf_0 rfl (lv_at hl 0 rfl) ?_
  refine mget fx tfX2 (cw.w hw) 0 (by decide) q120 (fun _ h => h) (v := .ref (la.1 0 1)) rfl dX2_growerOf_1 ?_
  refine lv_aload_n hx hb dX2_growerOf_4 rfl (lv_at hl 1 rfl) ?_
  refine mgetN fx tfX9 (cw.l hw hk) 0 (by decide) q510 (fun _ h => h) (v := .int (ld k 0)) rfl dX2_growerOf_5 ?_
  refine W.eq (g2 := F0 m 8 ls [.int (nI (iN x)), .ref (la.1 0 1)]) (congrArg (fun z => F0 m 8 ls [.int z, .ref (la.1 0 1)]) (hx9.trans hf.1)) ?_
  refine kV fx (m_AL_get l g (la.1 0 1) (la.1 1 0) (iN x) (n 0) (la.2.1 0) (la.1 2 (iN x)) (la.2.2 0) (elF la.1 n 0) hf.2 (cw.get hw (k := 0) (by decide) hf.2).2.1 (cw.get hw (k := 0) (by decide) hf.2).2.2.1 (cw.get hw (k := 0) (by decide) hf.2).2.2.2) (lw_V q262 q263 q264 q54 q265) hdJ2_get ⟨(Nat.le_of_ble_eq_true rfl), (Nat.le_of_ble_eq_true rfl)⟩ ⟨(Nat.le_of_ble_eq_true rfl), (Nat.le_of_ble_eq_true rfl)⟩ hl.1 hS tfJ2.2.1 (cw.al0 hw) rfl (Nat.le_of_ble_eq_true rfl) (⟨(cw.al0 hw), (cw.get hw (k := 0) (by decide) hf.2).1⟩) (fun _ h => h.elim) dX2_growerOf_8 (fun rv9 H locs hQ hz9 hk9 hS => ?_)
  obtain ⟨rfl, rfl⟩ := hQ
  refine W.eq (g2 := F0 m 11 ls [.ref (la.1 2 (iN x))]) rfl ?_
  refine mcast fx tfX5 (cw.f hw hf.2) q422 dX2_growerOf_11 ?_
  refine mgetN fx tfX5 (cw.f hw hf.2) 0 (by decide) q308 (fun _ h => h) (v := .int (fd (iN x) 0)) rfl dX2_growerOf_14 ?_
  exact ri hx hb hr hlocks hS (⟨hH.symm, rfl⟩) ⟨(Nat.le_of_ble_eq_true rfl), (Nat.le_of_ble_eq_true rfl)⟩ dX2_growerOf_17

theorem no_ext {P : Nat → Prop} {i : Nat} (h : ∀ j, j < i → ¬ P j) (hi : ¬ P i) : ∀ j, j < i + 1 → ¬ P j := fun j hj => by
  by_cases h9 : j < i
  · exact h j h9
  · rw [show j = i by omega]; exact hi
section
variable {p : Program} {l : Launch} {e : Env} {R : Room} {s : State} {m : MethodId} {args : Array Value} {below : List Frame} {meth : Method} {c : Code} {H : Heap} {locs : List Loc} {cells slots : Nat} {Q : State → Prop} {cc : ByteArray} {pc : Nat} {ls : Array Slot} {rest : List Value}
/-- a reference or null is stored -/
theorem lv_astore_nX {ad : Nat → Nat → Nat} {J : Nat} {o : Option Nat} (hexec : p.tables.exec = Jvm.exec) (hb : c.code = cc) {k : Fin 4} {i nL : Nat} {lv lv' : List (Nat × Value)} (hdg : decode cc pc = .ok (.astore_n k, 1)) (hi : (k : Nat) = i) (h : lv_has ls nL lv) (hn : i < nL) (hl2 : (i, ov ad J o) :: lv.filter (fun q => !(q.1 == i) && !(q.1 + 1 == i && q.2.category == 2)) = lv')
    (kk : ∀ ls' : Array Slot, lv_has ls' nL lv' → W p l e R s m args below meth c H locs cells slots Q (F0 m (pc + 1) ls' rest)) : W p l e R s m args below meth c H locs cells slots Q (F0 m pc ls (ov ad J o :: rest)) := by
  cases o with
  | none => exact lv_astore_nN hexec hb hdg hi h hn hl2 kk
  | some j => exact lv_astore_n hexec hb hdg hi h hn hl2 kk
end
set_option maxHeartbeats 4000000 in
theorem m_W_firstAt (l : Launch) (g : GT) (la : LT) (sc : Nat → Int32) (sw : Int64) (ar fd tr ld : Nat → Nat → Int32) (n : CN) (hn : cN n) (x : Int32) : Cn l g yX2_firstAt cX2_firstAt 3 ((some .int)) 3 0 0 [.ref (la.1 0 0), .int x] (fun _ => False) (fun H => cw g (bA g) la (sc, sw, ar, fd, tr, ld, n) H) (fun Hp rv Hq => Hp = Hq ∧ rv = some (.int (oI (cFirst ld (n 2) x)))) := by
  refine Cn.start (plainFor_of_name (by decide +kernel)) (Nat.le_of_ble_eq_true rfl) ?_
  intro p ev s m below meth c ls H locs hH hx hb hr hts hown hlocks hml hnm hK hP hS hl
  have hw := hP
  have fx : Fx p s m ([.ref (la.1 0 0), .int x] : List Value).toArray c cX2_firstAt RX2 g (fun _ => False) 3 := ⟨hx, hb, hts, hown, hK, fun _ h => h.elim, hml⟩
  have hl : lv_has ls 3 [(0, .ref (la.1 0 0)), (1, .int x)] := hl
  refine lv_iconst (v := 0) hx hb dX2_firstAt_0 (by decide) ?_
  refine lv_istore_n (lv' := [(2, .int 0), (0, .ref (la.1 0 0)), (1, .int x)]) hx hb dX2_firstAt_1 rfl hl (by decide) rfl (fun ls hl => ?_)
  have lp_1 : ∀ (d_2 i : Nat) (H : Heap) (locs : List Loc) (ls : Array Slot), i + d_2 = n 2 → va_S (fun _ => False) s.heap H locs → H = s.heap → cw g (bA g) la (sc, sw, ar, fd, tr, ld, n) H → (∀ j, j < i → ¬ (ld j 6 = 0 ∧ ld j 0 = x)) → lv_has ls 3 [(2, .int (nI i)), (0, .ref (la.1 0 0)), (1, .int x)] → W p l ev (mR 3 0 0) s m ([.ref (la.1 0 0), .int x] : List Value).toArray below meth c H locs 0 0 (MQ below (mQ (fun _ => False) (fun Hp rv Hq => Hp = Hq ∧ rv = some (.int (oI (cFirst ld (n 2) x))))) ([.ref (la.1 0 0), .int x] : List Value).toArray s 0 0 (fun _ => False)) (F0 m 2 ls []) := by
    intro d_2
    induction d_2 with
    | zero =>
      intro i H locs ls hid hS hH hw hno hl
      obtain rfl : n 2 = i := by omega
      refine lv_iload_n hx hb dX2_firstAt_2 rfl (lv_at hl 0 rfl) ?_
      refine lv_aload_n hx hb dX2_firstAt_3 rfl (lv_at hl 1 rfl) ?_
      refine mget fx tfX2 (cw.w hw) 2 (by decide) q124 (fun _ h => h) (v := .ref (la.1 0 3)) rfl dX2_firstAt_4 ?_
      refine kV fx (m_AL_size l g (la.1 0 3) (la.1 1 2) (la.2.2 2) (nI (n 2))) (lw_V q261 q254 q255 q54 q256) hdJ2_size ⟨(Nat.le_of_ble_eq_true rfl), (Nat.le_of_ble_eq_true rfl)⟩ ⟨(Nat.le_of_ble_eq_true rfl), (Nat.le_of_ble_eq_true rfl)⟩ hl.1 hS tfJ2.2.1 (cw.al2 hw) rfl (Nat.le_of_ble_eq_true rfl) (cw.al2 hw) (fun _ h => h.elim) dX2_firstAt_7 (fun rv9 H locs hQ hz9 hk9 hS => ?_)
      obtain ⟨rfl, rfl⟩ := hQ
      refine W.eq (g2 := F0 m 10 ls [.int (nI (n 2)), .int (nI (n 2))]) rfl ?_
      refine lv_icmp_ge (tgt := 56) hx hb dX2_firstAt_10 (by decide) (fun _ => ?_) (fun h9 => absurd (nI_le (Nat.le_refl _) hn.h2) h9)
      refine lv_iconst (v := (-1)) hx hb dX2_firstAt_56 (by decide) ?_
      exact ri hx hb hr hlocks hS (⟨hH.symm, by rw [cFirst, fs_none hno]; rfl⟩) ⟨(Nat.le_of_ble_eq_true rfl), (Nat.le_of_ble_eq_true rfl)⟩ dX2_firstAt_57
    | succ d_2 ih =>
      intro i H locs ls hid hS hH hw hno hl
      have hi_i : i < n 2 := by omega
      refine lv_iload_n hx hb dX2_firstAt_2 rfl (lv_at hl 0 rfl) ?_
      refine lv_aload_n hx hb dX2_firstAt_3 rfl (lv_at hl 1 rfl) ?_
      refine mget fx tfX2 (cw.w hw) 2 (by decide) q124 (fun _ h => h) (v := .ref (la.1 0 3)) rfl dX2_firstAt_4 ?_
      refine kV fx (m_AL_size l g (la.1 0 3) (la.1 1 2) (la.2.2 2) (nI (n 2))) (lw_V q261 q254 q255 q54 q256) hdJ2_size ⟨(Nat.le_of_ble_eq_true rfl), (Nat.le_of_ble_eq_true rfl)⟩ ⟨(Nat.le_of_ble_eq_true rfl), (Nat.le_of_ble_eq_true rfl)⟩ hl.1 hS tfJ2.2.1 (cw.al2 hw) rfl (Nat.le_of_ble_eq_true rfl) (cw.al2 hw) (fun _ h => h.elim) dX2_firstAt_7 (fun rv9 H locs hQ hz9 hk9 hS => ?_)
      obtain ⟨rfl, rfl⟩ := hQ
      refine W.eq (g2 := F0 m 10 ls [.int (nI (n 2)), .int (nI i)]) rfl ?_
      refine lv_icmp_ge (tgt := 56) hx hb dX2_firstAt_10 (by decide) (fun h9 => absurd h9 (nI_ge hi_i hn.h2)) (fun _ => ?_)
      refine lv_aload_n hx hb dX2_firstAt_13 rfl (lv_at hl 1 rfl) ?_
      refine mget fx tfX2 (cw.w hw) 2 (by decide) q124 (fun _ h => h) (v := .ref (la.1 0 3)) rfl dX2_firstAt_14 ?_
      refine lv_iload_n hx hb dX2_firstAt_17 rfl (lv_at hl 0 rfl) ?_
      refine kV fx (m_AL_get l g (la.1 0 3) (la.1 1 2) i (n 2) (la.2.1 2) (la.1 4 i) (la.2.2 2) (elF la.1 n 2) hi_i (cw.get hw (k := 2) (by decide) hi_i).2.1 (cw.get hw (k := 2) (by decide) hi_i).2.2.1 (cw.get hw (k := 2) (by decide) hi_i).2.2.2) (lw_V q262 q263 q264 q54 q265) hdJ2_get ⟨(Nat.le_of_ble_eq_true rfl), (Nat.le_of_ble_eq_true rfl)⟩ ⟨(Nat.le_of_ble_eq_true rfl), (Nat.le_of_ble_eq_true rfl)⟩ hl.1 hS tfJ2.2.1 (cw.al2 hw) rfl (Nat.le_of_ble_eq_true rfl) (⟨(cw.al2 hw), (cw.get hw (k := 2) (by decide) hi_i).1⟩) (fun _ h => h.elim) dX2_firstAt_18 (fun rv9 H locs hQ hz9 hk9 hS => ?_)
      obtain ⟨rfl, rfl⟩ := hQ
      refine W.eq (g2 := F0 m 21 ls [.ref (la.1 4 i)]) rfl ?_
      refine mcast fx tfX9 (cw.l hw hi_i) q276 dX2_firstAt_21 ?_
      refine mgetN fx tfX9 (cw.l hw hi_i) 6 (by decide) q525 (fun _ h => h) (v := .int (ld i 6)) rfl dX2_firstAt_24 ?_
      refine lv_if_ne (tgt := 50) hx hb dX2_firstAt_27 (by decide) (fun c_3 => ?_) (fun c_3 => ?_)
      · skip
        refine lv_iinc (v := nI (i + 1)) (lv' := [(2, .int (nI (i + 1))), (0, .ref (la.1 0 0)), (1, .int x)]) hx hb dX2_firstAt_50 hl (k := 0) rfl (nI_1 _) (by decide) rfl (fun ls hl => ?_)
        refine lv_goto (tgt := 2) hx hb dX2_firstAt_53 (by decide) ?_
        exact ih (i + 1) H locs ls (by omega) hS hH hw (no_ext hno (fun h => c_3 h.1)) (lv_sub hl [0, 1, 2] rfl)
      · skip
        refine lv_aload_n hx hb dX2_firstAt_30 rfl (lv_at hl 1 rfl) ?_
        refine mget fx tfX2 (cw.w hw) 2 (by decide) q124 (fun _ h => h) (v := .ref (la.1 0 3)) rfl dX2_firstAt_31 ?_
        refine lv_iload_n hx hb dX2_firstAt_34 rfl (lv_at hl 0 rfl) ?_
        refine kV fx (m_AL_get l g (la.1 0 3) (la.1 1 2) i (n 2) (la.2.1 2) (la.1 4 i) (la.2.2 2) (elF la.1 n 2) hi_i (cw.get hw (k := 2) (by decide) hi_i).2.1 (cw.get hw (k := 2) (by decide) hi_i).2.2.1 (cw.get hw (k := 2) (by decide) hi_i).2.2.2) (lw_V q262 q263 q264 q54 q265) hdJ2_get ⟨(Nat.le_of_ble_eq_true rfl), (Nat.le_of_ble_eq_true rfl)⟩ ⟨(Nat.le_of_ble_eq_true rfl), (Nat.le_of_ble_eq_true rfl)⟩ hl.1 hS tfJ2.2.1 (cw.al2 hw) rfl (Nat.le_of_ble_eq_true rfl) (⟨(cw.al2 hw), (cw.get hw (k := 2) (by decide) hi_i).1⟩) (fun _ h => h.elim) dX2_firstAt_35 (fun rv9 H locs hQ hz9 hk9 hS => ?_)
        obtain ⟨rfl, rfl⟩ := hQ
        refine W.eq (g2 := F0 m 38 ls [.ref (la.1 4 i)]) rfl ?_
        refine mcast fx tfX9 (cw.l hw hi_i) q276 dX2_firstAt_38 ?_
        refine mgetN fx tfX9 (cw.l hw hi_i) 0 (by decide) q510 (fun _ h => h) (v := .int (ld i 0)) rfl dX2_firstAt_41 ?_
        refine lv_iload_n hx hb dX2_firstAt_44 rfl (lv_at hl 2 rfl) ?_
        refine lv_icmp_ne (tgt := 50) hx hb dX2_firstAt_45 (by decide) (fun c_4 => ?_) (fun c_4 => ?_)
        · skip
          refine lv_iinc (v := nI (i + 1)) (lv' := [(2, .int (nI (i + 1))), (0, .ref (la.1 0 0)), (1, .int x)]) hx hb dX2_firstAt_50 hl (k := 0) rfl (nI_1 _) (by decide) rfl (fun ls hl => ?_)
          refine lv_goto (tgt := 2) hx hb dX2_firstAt_53 (by decide) ?_
          exact ih (i + 1) H locs ls (by omega) hS hH hw (no_ext hno (fun h => c_4 h.2)) (lv_sub hl [0, 1, 2] rfl)
        · skip
          refine lv_iload_n hx hb dX2_firstAt_48 rfl (lv_at hl 0 rfl) ?_
          exact ri hx hb hr hlocks hS (⟨hH.symm, by rw [cFirst, fs_some (P := fun k => ld k 6 = 0 ∧ ld k 0 = x) hi_i ⟨c_3, c_4⟩ hno]; rfl⟩) ⟨(Nat.le_of_ble_eq_true rfl), (Nat.le_of_ble_eq_true rfl)⟩ dX2_firstAt_49
  exact lp_1 (n 2 - 0) 0 H locs ls (by omega) hS hH hw (fun j hj => absurd hj (Nat.not_lt_zero _)) (lv_sub hl [0, 1, 2] rfl)

set_option maxHeartbeats 4000000 in
theorem m_W_inYard (l : Launch) (g : GT) (la : LT) (sc : Nat → Int32) (sw : Int64) (ar fd tr ld : Nat → Nat → Int32) (n : CN) (hn : cN n) : Cn l g yX2_inYard cX2_inYard 3 ((some .int)) 3 0 0 [.ref (la.1 0 0)] (fun _ => False) (fun H => cw g (bA g) la (sc, sw, ar, fd, tr, ld, n) H) (fun Hp rv Hq => Hp = Hq ∧ rv = some (.int (cInYard ld (n 2)))) := by
  refine Cn.start (plainFor_of_name (by decide +kernel)) (Nat.le_of_ble_eq_true rfl) ?_
  intro p ev s m below meth c ls H locs hH hx hb hr hts hown hlocks hml hnm hK hP hS hl
  have hw := hP
  have fx : Fx p s m ([.ref (la.1 0 0)] : List Value).toArray c cX2_inYard RX2 g (fun _ => False) 3 := ⟨hx, hb, hts, hown, hK, fun _ h => h.elim, hml⟩
  have hl : lv_has ls 3 [(0, .ref (la.1 0 0))] := hl
  refine lv_iconst (v := 0) hx hb dX2_inYard_0 (by decide) ?_
  refine lv_istore_n (lv' := [(1, .int 0), (0, .ref (la.1 0 0))]) hx hb dX2_inYard_1 rfl hl (by decide) rfl (fun ls hl => ?_)
  refine lv_iconst (v := 0) hx hb dX2_inYard_2 (by decide) ?_
  refine lv_istore_n (lv' := [(2, .int 0), (1, .int 0), (0, .ref (la.1 0 0))]) hx hb dX2_inYard_3 rfl hl (by decide) rfl (fun ls hl => ?_)
  have lp_1 : ∀ (d_2 i : Nat) (H : Heap) (locs : List Loc) (ls : Array Slot), i + d_2 = n 2 → va_S (fun _ => False) s.heap H locs → H = s.heap → cw g (bA g) la (sc, sw, ar, fd, tr, ld, n) H → lv_has ls 3 [(2, .int (nI i)), (1, .int (sumI (fun k => if ld k 6 = 2 then 1 else 0) i)), (0, .ref (la.1 0 0))] → W p l ev (mR 3 0 0) s m ([.ref (la.1 0 0)] : List Value).toArray below meth c H locs 0 0 (MQ below (mQ (fun _ => False) (fun Hp rv Hq => Hp = Hq ∧ rv = some (.int (cInYard ld (n 2))))) ([.ref (la.1 0 0)] : List Value).toArray s 0 0 (fun _ => False)) (F0 m 4 ls []) := by
    intro d_2
    induction d_2 with
    | zero =>
      intro i H locs ls hid hS hH hw hl
      obtain rfl : n 2 = i := by omega
      refine lv_iload_n hx hb dX2_inYard_4 rfl (lv_at hl 0 rfl) ?_
      refine lv_aload_n hx hb dX2_inYard_5 rfl (lv_at hl 2 rfl) ?_
      refine mget fx tfX2 (cw.w hw) 2 (by decide) q124 (fun _ h => h) (v := .ref (la.1 0 3)) rfl dX2_inYard_6 ?_
      refine kV fx (m_AL_size l g (la.1 0 3) (la.1 1 2) (la.2.2 2) (nI (n 2))) (lw_V q261 q254 q255 q54 q256) hdJ2_size ⟨(Nat.le_of_ble_eq_true rfl), (Nat.le_of_ble_eq_true rfl)⟩ ⟨(Nat.le_of_ble_eq_true rfl), (Nat.le_of_ble_eq_true rfl)⟩ hl.1 hS tfJ2.2.1 (cw.al2 hw) rfl (Nat.le_of_ble_eq_true rfl) (cw.al2 hw) (fun _ h => h.elim) dX2_inYard_9 (fun rv9 H locs hQ hz9 hk9 hS => ?_)
      obtain ⟨rfl, rfl⟩ := hQ
      refine W.eq (g2 := F0 m 12 ls [.int (nI (n 2)), .int (nI (n 2))]) rfl ?_
      refine lv_icmp_ge (tgt := 47) hx hb dX2_inYard_12 (by decide) (fun _ => ?_) (fun h9 => absurd (nI_le (Nat.le_refl _) hn.h2) h9)
      refine lv_iload_n hx hb dX2_inYard_47 rfl (lv_at hl 1 rfl) ?_
      exact ri hx hb hr hlocks hS (⟨hH.symm, rfl⟩) ⟨(Nat.le_of_ble_eq_true rfl), (Nat.le_of_ble_eq_true rfl)⟩ dX2_inYard_48
    | succ d_2 ih =>
      intro i H locs ls hid hS hH hw hl
      have hi_i : i < n 2 := by omega
      refine lv_iload_n hx hb dX2_inYard_4 rfl (lv_at hl 0 rfl) ?_
      refine lv_aload_n hx hb dX2_inYard_5 rfl (lv_at hl 2 rfl) ?_
      refine mget fx tfX2 (cw.w hw) 2 (by decide) q124 (fun _ h => h) (v := .ref (la.1 0 3)) rfl dX2_inYard_6 ?_
      refine kV fx (m_AL_size l g (la.1 0 3) (la.1 1 2) (la.2.2 2) (nI (n 2))) (lw_V q261 q254 q255 q54 q256) hdJ2_size ⟨(Nat.le_of_ble_eq_true rfl), (Nat.le_of_ble_eq_true rfl)⟩ ⟨(Nat.le_of_ble_eq_true rfl), (Nat.le_of_ble_eq_true rfl)⟩ hl.1 hS tfJ2.2.1 (cw.al2 hw) rfl (Nat.le_of_ble_eq_true rfl) (cw.al2 hw) (fun _ h => h.elim) dX2_inYard_9 (fun rv9 H locs hQ hz9 hk9 hS => ?_)
      obtain ⟨rfl, rfl⟩ := hQ
      refine W.eq (g2 := F0 m 12 ls [.int (nI (n 2)), .int (nI i)]) rfl ?_
      refine lv_icmp_ge (tgt := 47) hx hb dX2_inYard_12 (by decide) (fun h9 => absurd h9 (nI_ge hi_i hn.h2)) (fun _ => ?_)
      refine lv_iload_n hx hb dX2_inYard_15 rfl (lv_at hl 1 rfl) ?_
      refine lv_aload_n hx hb dX2_inYard_16 rfl (lv_at hl 2 rfl) ?_
      refine mget fx tfX2 (cw.w hw) 2 (by decide) q124 (fun _ h => h) (v := .ref (la.1 0 3)) rfl dX2_inYard_17 ?_
      refine lv_iload_n hx hb dX2_inYard_20 rfl (lv_at hl 0 rfl) ?_
      refine kV fx (m_AL_get l g (la.1 0 3) (la.1 1 2) i (n 2) (la.2.1 2) (la.1 4 i) (la.2.2 2) (elF la.1 n 2) hi_i (cw.get hw (k := 2) (by decide) hi_i).2.1 (cw.get hw (k := 2) (by decide) hi_i).2.2.1 (cw.get hw (k := 2) (by decide) hi_i).2.2.2) (lw_V q262 q263 q264 q54 q265) hdJ2_get ⟨(Nat.le_of_ble_eq_true rfl), (Nat.le_of_ble_eq_true rfl)⟩ ⟨(Nat.le_of_ble_eq_true rfl), (Nat.le_of_ble_eq_true rfl)⟩ hl.1 hS tfJ2.2.1 (cw.al2 hw) rfl (Nat.le_of_ble_eq_true rfl) (⟨(cw.al2 hw), (cw.get hw (k := 2) (by decide) hi_i).1⟩) (fun _ h => h.elim) dX2_inYard_21 (fun rv9 H locs hQ hz9 hk9 hS => ?_)
      obtain ⟨rfl, rfl⟩ := hQ
      refine W.eq (g2 := F0 m 24 ls [.ref (la.1 4 i), .int (sumI (fun k => if ld k 6 = 2 then 1 else 0) i)]) rfl ?_
      refine mcast fx tfX9 (cw.l hw hi_i) q276 dX2_inYard_24 ?_
      refine mgetN fx tfX9 (cw.l hw hi_i) 6 (by decide) q525 (fun _ h => h) (v := .int (ld i 6)) rfl dX2_inYard_27 ?_
      refine lv_iconst (v := 2) hx hb dX2_inYard_30 (by decide) ?_
      have K_5 : ∀ (locs : List Loc) (ls : Array Slot) (v_4 : Int32), v_4 = (if (ld i 6) = 2 then 1 else 0) → va_S (fun _ => False) s.heap H locs → lv_has ls 3 [(2, .int (nI i)), (1, .int (sumI (fun k => if ld k 6 = 2 then 1 else 0) i)), (0, .ref (la.1 0 0))] → W p l ev (mR 3 0 0) s m ([.ref (la.1 0 0)] : List Value).toArray below meth c H locs 0 0 (MQ below (mQ (fun _ => False) (fun Hp rv Hq => Hp = Hq ∧ rv = some (.int (cInYard ld (n 2))))) ([.ref (la.1 0 0)] : List Value).toArray s 0 0 (fun _ => False)) (F0 m 39 ls [.int v_4, .int (sumI (fun k => if ld k 6 = 2 then 1 else 0) i)]) := by
        intro locs ls v_4 hv_4 hS hl
        have bzv_4 : bz v_4 := by rw [hv_4]; (repeat' split) <;> first | exact Or.inl rfl | exact Or.inr rfl
        refine lv_iadd hx hb dX2_inYard_39 ?_
        refine lv_istore_n (lv' := [(1, .int ((sumI (fun k => if ld k 6 = 2 then 1 else 0) i) + v_4)), (2, .int (nI i)), (0, .ref (la.1 0 0))]) hx hb dX2_inYard_40 rfl hl (by decide) rfl (fun ls hl => ?_)
        refine lv_iinc (v := nI (i + 1)) (lv' := [(2, .int (nI (i + 1))), (1, .int ((sumI (fun k => if ld k 6 = 2 then 1 else 0) i) + v_4)), (0, .ref (la.1 0 0))]) hx hb dX2_inYard_41 hl (k := 1) rfl (nI_1 _) (by decide) rfl (fun ls hl => ?_)
        refine lv_goto (tgt := 4) hx hb dX2_inYard_44 (by decide) ?_
        have e_6 : (.int ((sumI (fun k => if ld k 6 = 2 then 1 else 0) i) + v_4) : Value) = .int (sumI (fun k => if ld k 6 = 2 then 1 else 0) (i + 1)) := (by rw [hv_4]; rfl)
        rw [e_6] at hl
        exact ih (i + 1) H locs ls (by omega) hS hH hw (lv_sub hl [0, 1, 2] rfl)
      refine lv_icmp_ne (tgt := 38) hx hb dX2_inYard_31 (by decide) (fun c_3 => ?_) (fun c_3 => ?_)
      · skip
        refine lv_iconst (v := 0) hx hb dX2_inYard_38 (by decide) ?_
        exact K_5 _ _ 0 (by rw [if_neg c_3]) hS (lv_sub hl [0, 1, 2] rfl)
      · skip
        refine lv_iconst (v := 1) hx hb dX2_inYard_34 (by decide) ?_
        refine lv_goto (tgt := 39) hx hb dX2_inYard_35 (by decide) ?_
        exact K_5 _ _ 1 (by rw [if_pos c_3]) hS (lv_sub hl [0, 1, 2] rfl)
  exact lp_1 (n 2 - 0) 0 H locs ls (by omega) hS hH hw (lv_sub hl [0, 1, 2] rfl)

set_option maxHeartbeats 4000000 in
theorem m_W_isAhead (l : Launch) (g : GT) (la : LT) (sc : Nat → Int32) (sw : Int64) (ar fd tr ld : Nat → Nat → Int32) (n : CN) (hv : cV n fd tr ld) (i1 i2 : Nat) (hi1 : i1 < n 2) (hi2 : i2 < n 2) : Cn l g yX2_isAhead cX2_isAhead 4 ((some .boolean)) 4 0 0 [.ref (la.1 0 0), .ref (la.1 4 i1), .ref (la.1 4 i2)] (fun _ => False) (fun H => cw g (bA g) la (sc, sw, ar, fd, tr, ld, n) H) (fun Hp rv Hq => Hp = Hq ∧ rv = some (.int (cAhead (sc 9) ar fd ld i1 i2))) := by
  refine Cn.start (plainFor_of_name (by decide +kernel)) (Nat.le_of_ble_eq_true rfl) ?_
  intro p ev s m below meth c ls H locs hH hx hb hr hts hown hlocks hml hnm hK hP hS hl
  have hw := hP
  have fx : Fx p s m ([.ref (la.1 0 0), .ref (la.1 4 i1), .ref (la.1 4 i2)] : List Value).toArray c cX2_isAhead RX2 g (fun _ => False) 4 := ⟨hx, hb, hts, hown, hK, fun _ h => h.elim, hml⟩
  have hl : lv_has ls 4 [(0, .ref (la.1 0 0)), (1, .ref (la.1 4 i1)), (2, .ref (la.1 4 i2))] := hl
  refine lv_aload_n hx hb dX2_isAhead_0 rfl (lv_at hl 0 rfl) ?_
  refine mget fx tfX2 (cw.w hw) 15 (by decide) q149 (fun _ h => h) (v := .int (sc 9)) rfl dX2_isAhead_1 ?_
  refine lv_iconst (v := 1) hx hb dX2_isAhead_4 (by decide) ?_
  have K_3 : ∀ (locs : List Loc) (ls : Array Slot) (v_2 : Int32), v_2 = (if (sc 9) = 1 then (((ar 0) (iN (cGr fd ld i1))) - ((ar 0) (iN (cGr fd ld i2)))) else (if (sc 9) = 2 then ((ld i2 5) - (ld i1 5)) else 0)) → va_S (fun _ => False) s.heap H locs → lv_has ls 4 [(0, .ref (la.1 0 0)), (1, .ref (la.1 4 i1)), (2, .ref (la.1 4 i2))] → W p l ev (mR 4 0 0) s m ([.ref (la.1 0 0), .ref (la.1 4 i1), .ref (la.1 4 i2)] : List Value).toArray below meth c H locs 0 0 (MQ below (mQ (fun _ => False) (fun Hp rv Hq => Hp = Hq ∧ rv = some (.int (cAhead (sc 9) ar fd ld i1 i2)))) ([.ref (la.1 0 0), .ref (la.1 4 i1), .ref (la.1 4 i2)] : List Value).toArray s 0 0 (fun _ => False)) (F0 m 53 ls [.int v_2]) := by
    intro locs ls v_2 hv_2 hS hl
    refine lv_istore_n (lv' := [(3, .int v_2), (0, .ref (la.1 0 0)), (1, .ref (la.1 4 i1)), (2, .ref (la.1 4 i2))]) hx hb dX2_isAhead_53 rfl hl (by decide) rfl (fun ls hl => ?_)
    refine lv_iload_n hx hb dX2_isAhead_54 rfl (lv_at hl 0 rfl) ?_
    have K_6 : ∀ (locs : List Loc) (ls : Array Slot) (v_5 : Int32), v_5 = (if v_2 = 0 then (if (ld i2 7) ≤ (ld i1 7) then 0 else 1) else (if 0 ≤ v_2 then 0 else 1)) → va_S (fun _ => False) s.heap H locs → lv_has ls 4 [(3, .int v_2), (0, .ref (la.1 0 0)), (1, .ref (la.1 4 i1)), (2, .ref (la.1 4 i2))] → W p l ev (mR 4 0 0) s m ([.ref (la.1 0 0), .ref (la.1 4 i1), .ref (la.1 4 i2)] : List Value).toArray below meth c H locs 0 0 (MQ below (mQ (fun _ => False) (fun Hp rv Hq => Hp = Hq ∧ rv = some (.int (cAhead (sc 9) ar fd ld i1 i2)))) ([.ref (la.1 0 0), .ref (la.1 4 i1), .ref (la.1 4 i2)] : List Value).toArray s 0 0 (fun _ => False)) (F0 m 86 ls [.int v_5]) := by
      intro locs ls v_5 hv_5 hS hl
      have bzv_5 : bz v_5 := by rw [hv_5]; (repeat' split) <;> first | exact Or.inl rfl | exact Or.inr rfl
      exact rz hx hb hr hlocks (nar_z bzv_5) hS (⟨hH.symm, by subst hv_2; subst hv_5; rfl⟩) ⟨(Nat.le_of_ble_eq_true rfl), (Nat.le_of_ble_eq_true rfl)⟩ dX2_isAhead_86
    refine lv_if_eq (tgt := 70) hx hb dX2_isAhead_55 (by decide) (fun c_4 => ?_) (fun c_4 => ?_)
    · skip
      refine lv_aload_n hx hb dX2_isAhead_70 rfl (lv_at hl 2 rfl) ?_
      refine mgetN fx tfX9 (cw.l hw hi1) 7 (by decide) q528 (fun _ h => h) (v := .int (ld i1 7)) rfl dX2_isAhead_71 ?_
      refine lv_aload_n hx hb dX2_isAhead_74 rfl (lv_at hl 3 rfl) ?_
      refine mgetN fx tfX9 (cw.l hw hi2) 7 (by decide) q528 (fun _ h => h) (v := .int (ld i2 7)) rfl dX2_isAhead_75 ?_
      refine lv_icmp_ge (tgt := 85) hx hb dX2_isAhead_78 (by decide) (fun c_7 => ?_) (fun c_7 => ?_)
      · skip
        refine lv_iconst (v := 0) hx hb dX2_isAhead_85 (by decide) ?_
        exact K_6 _ _ 0 (by rw [if_pos c_4, if_pos c_7]) hS (lv_sub hl [0, 1, 2, 3] rfl)
      · skip
        refine lv_iconst (v := 1) hx hb dX2_isAhead_81 (by decide) ?_
        refine lv_goto (tgt := 86) hx hb dX2_isAhead_82 (by decide) ?_
        exact K_6 _ _ 1 (by rw [if_pos c_4, if_neg c_7]) hS (lv_sub hl [0, 1, 2, 3] rfl)
    · skip
      refine lv_iload_n hx hb dX2_isAhead_58 rfl (lv_at hl 0 rfl) ?_
      refine lv_if_ge (tgt := 66) hx hb dX2_isAhead_59 (by decide) (fun c_8 => ?_) (fun c_8 => ?_)
      · skip
        refine lv_iconst (v := 0) hx hb dX2_isAhead_66 (by decide) ?_
        refine lv_goto (tgt := 86) hx hb dX2_isAhead_67 (by decide) ?_
        exact K_6 _ _ 0 (by rw [if_neg c_4, if_pos c_8]) hS (lv_sub hl [0, 1, 2, 3] rfl)
      · skip
        refine lv_iconst (v := 1) hx hb dX2_isAhead_62 (by decide) ?_
        refine lv_goto (tgt := 86) hx hb dX2_isAhead_63 (by decide) ?_
        exact K_6 _ _ 1 (by rw [if_neg c_4, if_neg c_8]) hS (lv_sub hl [0, 1, 2, 3] rfl)
  refine lv_icmp_ne (tgt := 32) hx hb dX2_isAhead_5 (by decide) (fun c_1 => ?_) (fun c_1 => ?_)
  · skip
    refine lv_aload_n hx hb dX2_isAhead_32 rfl (lv_at hl 0 rfl) ?_
    refine mget fx tfX2 (cw.w hw) 15 (by decide) q149 (fun _ h => h) (v := .int (sc 9)) rfl dX2_isAhead_33 ?_
    refine lv_iconst (v := 2) hx hb dX2_isAhead_36 (by decide) ?_
    refine lv_icmp_ne (tgt := 52) hx hb dX2_isAhead_37 (by decide) (fun c_9 => ?_) (fun c_9 => ?_)
    · skip
      refine lv_iconst (v := 0) hx hb dX2_isAhead_52 (by decide) ?_
      exact K_3 _ _ 0 (by rw [if_neg c_1, if_neg c_9]) hS (lv_sub hl [0, 1, 2] rfl)
    · skip
      refine lv_aload_n hx hb dX2_isAhead_40 rfl (lv_at hl 2 rfl) ?_
      refine mgetN fx tfX9 (cw.l hw hi2) 5 (by decide) q522 (fun _ h => h) (v := .int (ld i2 5)) rfl dX2_isAhead_41 ?_
      refine lv_aload_n hx hb dX2_isAhead_44 rfl (lv_at hl 1 rfl) ?_
      refine mgetN fx tfX9 (cw.l hw hi1) 5 (by decide) q522 (fun _ h => h) (v := .int (ld i1 5)) rfl dX2_isAhead_45 ?_
      refine lv_isub hx hb dX2_isAhead_48 ?_
      refine lv_goto (tgt := 53) hx hb dX2_isAhead_49 (by decide) ?_
      exact K_3 _ _ ((ld i2 5) - (ld i1 5)) (by rw [if_neg c_1, if_pos c_9]) hS (lv_sub hl [0, 1, 2] rfl)
  · skip
    refine lv_aload_n hx hb dX2_isAhead_8 rfl (lv_at hl 0 rfl) ?_
    refine mget fx tfX2 (cw.w hw) 3 (by decide) q126 (fun _ h => h) (v := .ref (la.1 0 4)) rfl dX2_isAhead_9 ?_
    refine lv_aload_n hx hb dX2_isAhead_12 rfl (lv_at hl 0 rfl) ?_
    refine lv_aload_n hx hb dX2_isAhead_13 rfl (lv_at hl 1 rfl) ?_
    refine kV fx (m_W_growerOf l g la sc sw ar fd tr ld n i1 (ld i1 0) hi1 rfl (cV.lo hv hi1)) (lw_V q585 q587 qs18 q51 q588) hdX2_growerOf ⟨(Nat.le_of_ble_eq_true rfl), (Nat.le_of_ble_eq_true rfl)⟩ ⟨(Nat.le_of_ble_eq_true rfl), (Nat.le_of_ble_eq_true rfl)⟩ hl.1 hS tfX2.2.1 (cw.w hw) rfl (Nat.le_of_ble_eq_true rfl) hw (fun _ h => h.elim) dX2_isAhead_14 (fun rv9 H locs hQ hz9 hk9 hS => ?_)
    obtain ⟨rfl, rfl⟩ := hQ
    refine W.eq (g2 := F0 m 17 ls [.int (cGr fd ld i1), .ref (la.1 0 4)]) rfl ?_
    refine miald fx (cw.ar0 hw) (iN (cGr fd ld i1)) ((cV.gr hv hi1).1) ((cV.gr hv hi1).2) (by decide) dX2_isAhead_17 ?_
    refine lv_aload_n hx hb dX2_isAhead_18 rfl (lv_at hl 0 rfl) ?_
    refine mget fx tfX2 (cw.w hw) 3 (by decide) q126 (fun _ h => h) (v := .ref (la.1 0 4)) rfl dX2_isAhead_19 ?_
    refine lv_aload_n hx hb dX2_isAhead_22 rfl (lv_at hl 0 rfl) ?_
    refine lv_aload_n hx hb dX2_isAhead_23 rfl (lv_at hl 2 rfl) ?_
    refine kV fx (m_W_growerOf l g la sc sw ar fd tr ld n i2 (ld i2 0) hi2 rfl (cV.lo hv hi2)) (lw_V q585 q587 qs18 q51 q588) hdX2_growerOf ⟨(Nat.le_of_ble_eq_true rfl), (Nat.le_of_ble_eq_true rfl)⟩ ⟨(Nat.le_of_ble_eq_true rfl), (Nat.le_of_ble_eq_true rfl)⟩ hl.1 hS tfX2.2.1 (cw.w hw) rfl (Nat.le_of_ble_eq_true rfl) hw (fun _ h => h.elim) dX2_isAhead_24 (fun rv9 H locs hQ hz9 hk9 hS => ?_)
    obtain ⟨rfl, rfl⟩ := hQ
    refine W.eq (g2 := F0 m 27 ls [.int (cGr fd ld i2), .ref (la.1 0 4), .int ((ar 0) (iN (cGr fd ld i1)))]) rfl ?_
    refine miald fx (cw.ar0 hw) (iN (cGr fd ld i2)) ((cV.gr hv hi2).1) ((cV.gr hv hi2).2) (by decide) dX2_isAhead_27 ?_
    refine lv_isub hx hb dX2_isAhead_28 ?_
    refine lv_goto (tgt := 53) hx hb dX2_isAhead_29 (by decide) ?_
    exact K_3 _ _ (((ar 0) (iN (cGr fd ld i1))) - ((ar 0) (iN (cGr fd ld i2)))) (by rw [if_pos c_1]) hS (lv_sub hl [0, 1, 2] rfl)

theorem bz_cAhead (ord : Int32) (ar fd ld : Nat → Nat → Int32) (a b : Nat) : bz (cAhead ord ar fd ld a b) := by
  unfold cAhead
  (repeat' split) <;> first | exact Or.inl rfl | exact Or.inr rfl
set_option maxHeartbeats 4000000 in
theorem m_W_next (l : Launch) (g : GT) (la : LT) (sc : Nat → Int32) (sw : Int64) (ar fd tr ld : Nat → Nat → Int32) (n : CN) (hn : cN n) (hv : cV n fd tr ld) : Cn l g yX2_next cX2_next 4 ((some (.object "Canecrush$Load"))) 5 0 0 [.ref (la.1 0 0)] (fun _ => False) (fun H => cw g (bA g) la (sc, sw, ar, fd, tr, ld, n) H) (fun Hp rv Hq => Hp = Hq ∧ rv = some (ov la.1 4 (cNext (sc 9) ar fd ld (n 2)))) := by
  refine Cn.start (plainFor_of_name (by decide +kernel)) (Nat.le_of_ble_eq_true rfl) ?_
  intro p ev s m below meth c ls H locs hH hx hb hr hts hown hlocks hml hnm hK hP hS hl
  have hw := hP
  have fx : Fx p s m ([.ref (la.1 0 0)] : List Value).toArray c cX2_next RX2 g (fun _ => False) 4 := ⟨hx, hb, hts, hown, hK, fun _ h => h.elim, hml⟩
  have hl : lv_has ls 4 [(0, .ref (la.1 0 0))] := hl
  refine lv_null hx hb dX2_next_0 ?_
  refine lv_astore_nN (lv' := [(1, .null), (0, .ref (la.1 0 0))]) hx hb dX2_next_1 rfl hl (by decide) rfl (fun ls hl => ?_)
  refine lv_iconst (v := 0) hx hb dX2_next_2 (by decide) ?_
  refine lv_istore_n (lv' := [(2, .int 0), (1, .null), (0, .ref (la.1 0 0))]) hx hb dX2_next_3 rfl hl (by decide) rfl (fun ls hl => ?_)
  have lp_1 : ∀ (d_2 i : Nat) (H : Heap) (locs : List Loc) (ls : Array Slot), i + d_2 = n 2 → va_S (fun _ => False) s.heap H locs → H = s.heap → cw g (bA g) la (sc, sw, ar, fd, tr, ld, n) H → lv_has ls 4 [(2, .int (nI i)), (1, ov la.1 4 (cNext (sc 9) ar fd ld i)), (0, .ref (la.1 0 0))] → W p l ev (mR 5 0 0) s m ([.ref (la.1 0 0)] : List Value).toArray below meth c H locs 0 0 (MQ below (mQ (fun _ => False) (fun Hp rv Hq => Hp = Hq ∧ rv = some (ov la.1 4 (cNext (sc 9) ar fd ld (n 2))))) ([.ref (la.1 0 0)] : List Value).toArray s 0 0 (fun _ => False)) (F0 m 4 ls []) := by
    intro d_2
    induction d_2 with
    | zero =>
      intro i H locs ls hid hS hH hw hl
      obtain rfl : n 2 = i := by omega
      rcases opt_cases (cNext (sc 9) ar fd ld (n 2)) with hob | ⟨jb, hob⟩
      · skip
        have hov : (ov la.1 4 (cNext (sc 9) ar fd ld (n 2)) : Value) = .null := by rw [hob]; rfl
        rw [hov] at hl
        refine lv_iload_n hx hb dX2_next_4 rfl (lv_at hl 0 rfl) ?_
        refine lv_aload_n hx hb dX2_next_5 rfl (lv_at hl 2 rfl) ?_
        refine mget fx tfX2 (cw.w hw) 2 (by decide) q124 (fun _ h => h) (v := .ref (la.1 0 3)) rfl dX2_next_6 ?_
        refine kV fx (m_AL_size l g (la.1 0 3) (la.1 1 2) (la.2.2 2) (nI (n 2))) (lw_V q261 q254 q255 q54 q256) hdJ2_size ⟨(Nat.le_of_ble_eq_true rfl), (Nat.le_of_ble_eq_true rfl)⟩ ⟨(Nat.le_of_ble_eq_true rfl), (Nat.le_of_ble_eq_true rfl)⟩ hl.1 hS tfJ2.2.1 (cw.al2 hw) rfl (Nat.le_of_ble_eq_true rfl) (cw.al2 hw) (fun _ h => h.elim) dX2_next_9 (fun rv9 H locs hQ hz9 hk9 hS => ?_)
        obtain ⟨rfl, rfl⟩ := hQ
        refine W.eq (g2 := F0 m 12 ls [.int (nI (n 2)), .int (nI (n 2))]) rfl ?_
        refine lv_icmp_ge (tgt := 56) hx hb dX2_next_12 (by decide) (fun _ => ?_) (fun h9 => absurd (nI_le (Nat.le_refl _) hn.h2) h9)
        refine lv_aload_nN hx hb dX2_next_56 rfl (lv_at hl 1 rfl) ?_
        exact rn hx hb hr (Or.inl ⟨_, rfl⟩) hlocks hS (⟨hH.symm, by rw [hob]; rfl⟩) ⟨(Nat.le_of_ble_eq_true rfl), (Nat.le_of_ble_eq_true rfl)⟩ dX2_next_57
      · skip
        have hov : (ov la.1 4 (cNext (sc 9) ar fd ld (n 2)) : Value) = .ref (la.1 4 jb) := by rw [hob]; rfl
        rw [hov] at hl
        have hjb : jb < n 2 := by have := (cNext_lt hob).1; omega
        refine lv_iload_n hx hb dX2_next_4 rfl (lv_at hl 0 rfl) ?_
        refine lv_aload_n hx hb dX2_next_5 rfl (lv_at hl 2 rfl) ?_
        refine mget fx tfX2 (cw.w hw) 2 (by decide) q124 (fun _ h => h) (v := .ref (la.1 0 3)) rfl dX2_next_6 ?_
        refine kV fx (m_AL_size l g (la.1 0 3) (la.1 1 2) (la.2.2 2) (nI (n 2))) (lw_V q261 q254 q255 q54 q256) hdJ2_size ⟨(Nat.le_of_ble_eq_true rfl), (Nat.le_of_ble_eq_true rfl)⟩ ⟨(Nat.le_of_ble_eq_true rfl), (Nat.le_of_ble_eq_true rfl)⟩ hl.1 hS tfJ2.2.1 (cw.al2 hw) rfl (Nat.le_of_ble_eq_true rfl) (cw.al2 hw) (fun _ h => h.elim) dX2_next_9 (fun rv9 H locs hQ hz9 hk9 hS => ?_)
        obtain ⟨rfl, rfl⟩ := hQ
        refine W.eq (g2 := F0 m 12 ls [.int (nI (n 2)), .int (nI (n 2))]) rfl ?_
        refine lv_icmp_ge (tgt := 56) hx hb dX2_next_12 (by decide) (fun _ => ?_) (fun h9 => absurd (nI_le (Nat.le_refl _) hn.h2) h9)
        refine lv_aload_n hx hb dX2_next_56 rfl (lv_at hl 1 rfl) ?_
        exact ra hx hb hr (Or.inl ⟨_, rfl⟩) hlocks hS (⟨hH.symm, by rw [hob]; rfl⟩) ⟨(Nat.le_of_ble_eq_true rfl), (Nat.le_of_ble_eq_true rfl)⟩ dX2_next_57
    | succ d_2 ih =>
      intro i H locs ls hid hS hH hw hl
      have hi_i : i < n 2 := by omega
      rcases opt_cases (cNext (sc 9) ar fd ld i) with hob | ⟨jb, hob⟩
      · skip
        have hov : (ov la.1 4 (cNext (sc 9) ar fd ld i) : Value) = .null := by rw [hob]; rfl
        rw [hov] at hl
        refine lv_iload_n hx hb dX2_next_4 rfl (lv_at hl 0 rfl) ?_
        refine lv_aload_n hx hb dX2_next_5 rfl (lv_at hl 2 rfl) ?_
        refine mget fx tfX2 (cw.w hw) 2 (by decide) q124 (fun _ h => h) (v := .ref (la.1 0 3)) rfl dX2_next_6 ?_
        refine kV fx (m_AL_size l g (la.1 0 3) (la.1 1 2) (la.2.2 2) (nI (n 2))) (lw_V q261 q254 q255 q54 q256) hdJ2_size ⟨(Nat.le_of_ble_eq_true rfl), (Nat.le_of_ble_eq_true rfl)⟩ ⟨(Nat.le_of_ble_eq_true rfl), (Nat.le_of_ble_eq_true rfl)⟩ hl.1 hS tfJ2.2.1 (cw.al2 hw) rfl (Nat.le_of_ble_eq_true rfl) (cw.al2 hw) (fun _ h => h.elim) dX2_next_9 (fun rv9 H locs hQ hz9 hk9 hS => ?_)
        obtain ⟨rfl, rfl⟩ := hQ
        refine W.eq (g2 := F0 m 12 ls [.int (nI (n 2)), .int (nI i)]) rfl ?_
        refine lv_icmp_ge (tgt := 56) hx hb dX2_next_12 (by decide) (fun h9 => absurd h9 (nI_ge hi_i hn.h2)) (fun _ => ?_)
        refine lv_aload_n hx hb dX2_next_15 rfl (lv_at hl 2 rfl) ?_
        refine mget fx tfX2 (cw.w hw) 2 (by decide) q124 (fun _ h => h) (v := .ref (la.1 0 3)) rfl dX2_next_16 ?_
        refine lv_iload_n hx hb dX2_next_19 rfl (lv_at hl 0 rfl) ?_
        refine kV fx (m_AL_get l g (la.1 0 3) (la.1 1 2) i (n 2) (la.2.1 2) (la.1 4 i) (la.2.2 2) (elF la.1 n 2) hi_i (cw.get hw (k := 2) (by decide) hi_i).2.1 (cw.get hw (k := 2) (by decide) hi_i).2.2.1 (cw.get hw (k := 2) (by decide) hi_i).2.2.2) (lw_V q262 q263 q264 q54 q265) hdJ2_get ⟨(Nat.le_of_ble_eq_true rfl), (Nat.le_of_ble_eq_true rfl)⟩ ⟨(Nat.le_of_ble_eq_true rfl), (Nat.le_of_ble_eq_true rfl)⟩ hl.1 hS tfJ2.2.1 (cw.al2 hw) rfl (Nat.le_of_ble_eq_true rfl) (⟨(cw.al2 hw), (cw.get hw (k := 2) (by decide) hi_i).1⟩) (fun _ h => h.elim) dX2_next_20 (fun rv9 H locs hQ hz9 hk9 hS => ?_)
        obtain ⟨rfl, rfl⟩ := hQ
        refine W.eq (g2 := F0 m 23 ls [.ref (la.1 4 i)]) rfl ?_
        refine mcast fx tfX9 (cw.l hw hi_i) q276 dX2_next_23 ?_
        refine lv_astore_n (lv' := [(3, .ref (la.1 4 i)), (2, .int (nI i)), (1, .null), (0, .ref (la.1 0 0))]) hx hb dX2_next_26 rfl hl (by decide) rfl (fun ls hl => ?_)
        refine lv_aload_n hx hb dX2_next_27 rfl (lv_at hl 0 rfl) ?_
        refine mgetN fx tfX9 (cw.l hw hi_i) 6 (by decide) q525 (fun _ h => h) (v := .int (ld i 6)) rfl dX2_next_28 ?_
        refine lv_iconst (v := 2) hx hb dX2_next_31 (by decide) ?_
        refine lv_icmp_ne (tgt := 50) hx hb dX2_next_32 (by decide) (fun c_3 => ?_) (fun c_3 => ?_)
        · skip
          refine lv_iinc (v := nI (i + 1)) (lv' := [(2, .int (nI (i + 1))), (3, .ref (la.1 4 i)), (1, .null), (0, .ref (la.1 0 0))]) hx hb dX2_next_50 hl (k := 1) rfl (nI_1 _) (by decide) rfl (fun ls hl => ?_)
          refine lv_goto (tgt := 4) hx hb dX2_next_53 (by decide) ?_
          have e_4 : (.null : Value) = ov la.1 4 (cNext (sc 9) ar fd ld (i + 1)) := (by simp only [cNext_succ, hob, if_neg c_3, ov])
          rw [e_4] at hl
          exact ih (i + 1) H locs ls (by omega) hS hH hw (lv_sub hl [0, 2, 3] rfl)
        · skip
          refine lv_aload_nN hx hb dX2_next_35 rfl (lv_at hl 2 rfl) ?_
          refine lv_ifnullN (tgt := 48) hx hb dX2_next_36 (by decide) ?_
          refine lv_aload_n hx hb dX2_next_48 rfl (lv_at hl 0 rfl) ?_
          refine lv_astore_n (lv' := [(1, .ref (la.1 4 i)), (3, .ref (la.1 4 i)), (2, .int (nI i)), (0, .ref (la.1 0 0))]) hx hb dX2_next_49 rfl hl (by decide) rfl (fun ls hl => ?_)
          refine lv_iinc (v := nI (i + 1)) (lv' := [(2, .int (nI (i + 1))), (1, .ref (la.1 4 i)), (3, .ref (la.1 4 i)), (0, .ref (la.1 0 0))]) hx hb dX2_next_50 hl (k := 2) rfl (nI_1 _) (by decide) rfl (fun ls hl => ?_)
          refine lv_goto (tgt := 4) hx hb dX2_next_53 (by decide) ?_
          have e_5 : (.ref (la.1 4 i) : Value) = ov la.1 4 (cNext (sc 9) ar fd ld (i + 1)) := (by simp only [cNext_succ, hob, if_pos c_3, ov])
          rw [e_5] at hl
          exact ih (i + 1) H locs ls (by omega) hS hH hw (lv_sub hl [0, 1, 3] rfl)
      · skip
        have hov : (ov la.1 4 (cNext (sc 9) ar fd ld i) : Value) = .ref (la.1 4 jb) := by rw [hob]; rfl
        rw [hov] at hl
        have hjb : jb < n 2 := by have := (cNext_lt hob).1; omega
        refine lv_iload_n hx hb dX2_next_4 rfl (lv_at hl 0 rfl) ?_
        refine lv_aload_n hx hb dX2_next_5 rfl (lv_at hl 2 rfl) ?_
        refine mget fx tfX2 (cw.w hw) 2 (by decide) q124 (fun _ h => h) (v := .ref (la.1 0 3)) rfl dX2_next_6 ?_
        refine kV fx (m_AL_size l g (la.1 0 3) (la.1 1 2) (la.2.2 2) (nI (n 2))) (lw_V q261 q254 q255 q54 q256) hdJ2_size ⟨(Nat.le_of_ble_eq_true rfl), (Nat.le_of_ble_eq_true rfl)⟩ ⟨(Nat.le_of_ble_eq_true rfl), (Nat.le_of_ble_eq_true rfl)⟩ hl.1 hS tfJ2.2.1 (cw.al2 hw) rfl (Nat.le_of_ble_eq_true rfl) (cw.al2 hw) (fun _ h => h.elim) dX2_next_9 (fun rv9 H locs hQ hz9 hk9 hS => ?_)
        obtain ⟨rfl, rfl⟩ := hQ
        refine W.eq (g2 := F0 m 12 ls [.int (nI (n 2)), .int (nI i)]) rfl ?_
        refine lv_icmp_ge (tgt := 56) hx hb dX2_next_12 (by decide) (fun h9 => absurd h9 (nI_ge hi_i hn.h2)) (fun _ => ?_)
        refine lv_aload_n hx hb dX2_next_15 rfl (lv_at hl 2 rfl) ?_
        refine mget fx tfX2 (cw.w hw) 2 (by decide) q124 (fun _ h => h) (v := .ref (la.1 0 3)) rfl dX2_next_16 ?_
        refine lv_iload_n hx hb dX2_next_19 rfl (lv_at hl 0 rfl) ?_
        refine kV fx (m_AL_get l g (la.1 0 3) (la.1 1 2) i (n 2) (la.2.1 2) (la.1 4 i) (la.2.2 2) (elF la.1 n 2) hi_i (cw.get hw (k := 2) (by decide) hi_i).2.1 (cw.get hw (k := 2) (by decide) hi_i).2.2.1 (cw.get hw (k := 2) (by decide) hi_i).2.2.2) (lw_V q262 q263 q264 q54 q265) hdJ2_get ⟨(Nat.le_of_ble_eq_true rfl), (Nat.le_of_ble_eq_true rfl)⟩ ⟨(Nat.le_of_ble_eq_true rfl), (Nat.le_of_ble_eq_true rfl)⟩ hl.1 hS tfJ2.2.1 (cw.al2 hw) rfl (Nat.le_of_ble_eq_true rfl) (⟨(cw.al2 hw), (cw.get hw (k := 2) (by decide) hi_i).1⟩) (fun _ h => h.elim) dX2_next_20 (fun rv9 H locs hQ hz9 hk9 hS => ?_)
        obtain ⟨rfl, rfl⟩ := hQ
        refine W.eq (g2 := F0 m 23 ls [.ref (la.1 4 i)]) rfl ?_
        refine mcast fx tfX9 (cw.l hw hi_i) q276 dX2_next_23 ?_
        refine lv_astore_n (lv' := [(3, .ref (la.1 4 i)), (2, .int (nI i)), (1, .ref (la.1 4 jb)), (0, .ref (la.1 0 0))]) hx hb dX2_next_26 rfl hl (by decide) rfl (fun ls hl => ?_)
        refine lv_aload_n hx hb dX2_next_27 rfl (lv_at hl 0 rfl) ?_
        refine mgetN fx tfX9 (cw.l hw hi_i) 6 (by decide) q525 (fun _ h => h) (v := .int (ld i 6)) rfl dX2_next_28 ?_
        refine lv_iconst (v := 2) hx hb dX2_next_31 (by decide) ?_
        refine lv_icmp_ne (tgt := 50) hx hb dX2_next_32 (by decide) (fun c_6 => ?_) (fun c_6 => ?_)
        · skip
          refine lv_iinc (v := nI (i + 1)) (lv' := [(2, .int (nI (i + 1))), (3, .ref (la.1 4 i)), (1, .ref (la.1 4 jb)), (0, .ref (la.1 0 0))]) hx hb dX2_next_50 hl (k := 1) rfl (nI_1 _) (by decide) rfl (fun ls hl => ?_)
          refine lv_goto (tgt := 4) hx hb dX2_next_53 (by decide) ?_
          have e_7 : (.ref (la.1 4 jb) : Value) = ov la.1 4 (cNext (sc 9) ar fd ld (i + 1)) := (by simp only [cNext_succ, hob, if_neg c_6, ov])
          rw [e_7] at hl
          exact ih (i + 1) H locs ls (by omega) hS hH hw (lv_sub hl [0, 2, 3] rfl)
        · skip
          refine lv_aload_n hx hb dX2_next_35 rfl (lv_at hl 2 rfl) ?_
          refine lv_ifnull hx hb dX2_next_36 ?_
          refine lv_aload_n hx hb dX2_next_39 rfl (lv_at hl 3 rfl) ?_
          refine lv_aload_n hx hb dX2_next_40 rfl (lv_at hl 0 rfl) ?_
          refine lv_aload_n hx hb dX2_next_41 rfl (lv_at hl 2 rfl) ?_
          refine kV fx (m_W_isAhead l g la sc sw ar fd tr ld n hv i jb hi_i hjb) (lw_V q581 q583 qs17 q51 q584) hdX2_isAhead ⟨(Nat.le_of_ble_eq_true rfl), (Nat.le_of_ble_eq_true rfl)⟩ ⟨(Nat.le_of_ble_eq_true rfl), (Nat.le_of_ble_eq_true rfl)⟩ hl.1 hS tfX2.2.1 (cw.w hw) rfl (Nat.le_of_ble_eq_true rfl) hw (fun _ h => h.elim) dX2_next_42 (fun rv9 H locs hQ hz9 hk9 hS => ?_)
          obtain ⟨rfl, rfl⟩ := hQ
          refine W.eq (g2 := F0 m 45 ls [.int (cAhead (sc 9) ar fd ld i jb)]) rfl ?_
          refine lv_if_eq (tgt := 50) hx hb dX2_next_45 (by decide) (fun c_8 => ?_) (fun c_8 => ?_)
          · skip
            refine lv_iinc (v := nI (i + 1)) (lv' := [(2, .int (nI (i + 1))), (3, .ref (la.1 4 i)), (1, .ref (la.1 4 jb)), (0, .ref (la.1 0 0))]) hx hb dX2_next_50 hl (k := 1) rfl (nI_1 _) (by decide) rfl (fun ls hl => ?_)
            refine lv_goto (tgt := 4) hx hb dX2_next_53 (by decide) ?_
            have e_9 : (.ref (la.1 4 jb) : Value) = ov la.1 4 (cNext (sc 9) ar fd ld (i + 1)) := (by simp only [cNext_succ, hob, if_pos c_6, if_pos c_8, ov])
            rw [e_9] at hl
            exact ih (i + 1) H locs ls (by omega) hS hH hw (lv_sub hl [0, 2, 3] rfl)
          · skip
            refine lv_aload_n hx hb dX2_next_48 rfl (lv_at hl 0 rfl) ?_
            refine lv_astore_n (lv' := [(1, .ref (la.1 4 i)), (3, .ref (la.1 4 i)), (2, .int (nI i)), (0, .ref (la.1 0 0))]) hx hb dX2_next_49 rfl hl (by decide) rfl (fun ls hl => ?_)
            refine lv_iinc (v := nI (i + 1)) (lv' := [(2, .int (nI (i + 1))), (1, .ref (la.1 4 i)), (3, .ref (la.1 4 i)), (0, .ref (la.1 0 0))]) hx hb dX2_next_50 hl (k := 2) rfl (nI_1 _) (by decide) rfl (fun ls hl => ?_)
            refine lv_goto (tgt := 4) hx hb dX2_next_53 (by decide) ?_
            have e_10 : (.ref (la.1 4 i) : Value) = ov la.1 4 (cNext (sc 9) ar fd ld (i + 1)) := (by simp only [cNext_succ, hob, if_pos c_6, if_neg c_8, ov])
            rw [e_10] at hl
            exact ih (i + 1) H locs ls (by omega) hS hH hw (lv_sub hl [0, 1, 3] rfl)
  exact lp_1 (n 2 - 0) 0 H locs ls (by omega) hS hH hw (lv_sub hl [0, 1, 2] rfl)

/-- the state with its counts -/
def mkC (S : CS) (n : CN) : CT := (S.1, S.2.1, S.2.2.1, S.2.2.2.1, S.2.2.2.2.1, S.2.2.2.2.2, n)
set_option maxHeartbeats 4000000 in
theorem m_W_crush1 (l : Launch) (g : GT) (sz : Nat) (la : LT) (sc : Nat → Int32) (sw : Int64) (ar fd tr ld : Nat → Nat → Int32) (n : CN) (hv : cV n fd tr ld) (k : Nat) (hk : k < n 2) : Cn l g yX2_crush_2 cX2_crush_2 4 (none) 4 0 0 [.ref (la.1 0 0), .ref (la.1 4 k)] (fA (cF la n) sz) (fun H => sz = H.size ∧ cw g (bA g) la (sc, sw, ar, fd, tr, ld, n) H) (fun Hp rv Hq => rv = none ∧ cw g (fA (cF la n) sz) la (mkC (cCrush (sc, sw, ar, fd, tr, ld) k) n) Hq) := by
  refine Cn.start (plainFor_of_name (by decide +kernel)) (Nat.le_of_ble_eq_true rfl) ?_
  intro p ev s m below meth c ls H locs hH hx hb hr hts hown hlocks hml hnm hK hP hS hl
  obtain ⟨hsz, hw⟩ := hP
  have hszs : sz = s.heap.size := by rw [hsz, hH]
  have hAs : ∀ q, s.heap.size ≤ q → (fA (cF la n) sz) q := fun q h => Or.inr (by rw [hszs]; exact h)
  have hAb : ∀ q, (fA (cF la n) sz) q → bA g q := fun q h => h.elim (hw.1.ft q) (fun h => Nat.le_trans hK.2.2.sz (by rw [← hszs]; exact h))
  replace hw : cw g (fA (cF la n) sz) la (sc, sw, ar, fd, tr, ld, n) H := cw.self hw sz
  have fx : Fx p s m ([.ref (la.1 0 0), .ref (la.1 4 k)] : List Value).toArray c cX2_crush_2 RX2 g (fA (cF la n) sz) 4 := ⟨hx, hb, hts, hown, hK, hAb, hml⟩
  have hl : lv_has ls 4 [(0, .ref (la.1 0 0)), (1, .ref (la.1 4 k))] := hl
  refine lv_aload_n hx hb dX2_crush_2_0 rfl (lv_at hl 1 rfl) ?_
  refine lv_iconst (v := 3) hx hb dX2_crush_2_1 (by decide) ?_
  refine mputN fx tfX9 (cw.l hw hk) hS (cw.inL hw hk) 6 (by decide) q525 (fun _ h => h) rfl rfl rfl (Nat.le_of_ble_eq_true rfl) dX2_crush_2_2 (fun H locs hat hz hoq hS => ?_)
  replace hw : cw g (fA (cF la n) sz) la (sc, sw, ar, fd, tr, va_up ld k (ob9 (ld k 0) (ld k 1) (ld k 2) (ld k 3) (ld k 4) (ld k 5) 3 (ld k 7) (ld k 8)), n) H := cw.setLc hw hk hat (fun q _ h9 => hoq q h9)
  refine lv_aload_n hx hb dX2_crush_2_5 rfl (lv_at hl 1 rfl) ?_
  refine lv_aload_n hx hb dX2_crush_2_6 rfl (lv_at hl 0 rfl) ?_
  refine mget fx tfX2 (cw.w hw) 6 (by decide) q132 (fun _ h => h) (v := .int (sc 0)) rfl dX2_crush_2_7 ?_
  refine mputN fx tfX9 (cw.lS hw hk) hS (cw.inL hw hk) 8 (by decide) q530 (fun _ h => h) rfl rfl rfl (Nat.le_of_ble_eq_true rfl) dX2_crush_2_10 (fun H locs hat hz hoq hS => ?_)
  replace hw : cw g (fA (cF la n) sz) la (sc, sw, ar, fd, tr, va_up ld k (ob9 (ld k 0) (ld k 1) (ld k 2) (ld k 3) (ld k 4) (ld k 5) 3 (ld k 7) (sc 0)), n) H := cw.setL2c hw hk hat (fun q _ h9 => hoq q h9)
  refine lv_aload_n hx hb dX2_crush_2_13 rfl (lv_at hl 0 rfl) ?_
  refine mget fx tfX2 (cw.w hw) 3 (by decide) q126 (fun _ h => h) (v := .ref (la.1 0 4)) rfl dX2_crush_2_14 ?_
  refine lv_aload_n hx hb dX2_crush_2_17 rfl (lv_at hl 0 rfl) ?_
  refine lv_aload_n hx hb dX2_crush_2_18 rfl (lv_at hl 1 rfl) ?_
  refine kV fx (m_W_growerOf l g la sc sw ar fd tr (va_up ld k (ob9 (ld k 0) (ld k 1) (ld k 2) (ld k 3) (ld k 4) (ld k 5) 3 (ld k 7) (sc 0))) n k (ld k 0) hk (by rw [va_up_self]; rfl) (cV.lo hv hk)) (lw_V q585 q587 qs18 q51 q588) hdX2_growerOf ⟨(Nat.le_of_ble_eq_true rfl), (Nat.le_of_ble_eq_true rfl)⟩ ⟨(Nat.le_of_ble_eq_true rfl), (Nat.le_of_ble_eq_true rfl)⟩ hl.1 hS tfX2.2.1 (cw.w hw) rfl (Nat.le_of_ble_eq_true rfl) (cw.weaken hw fx.2.2.2.2.2.1) (fun _ h => h.elim) dX2_crush_2_19 (fun rv9 H locs hQ hz9 hk9 hS => ?_)
  obtain ⟨rfl, rfl⟩ := hQ
  refine W.eq (g2 := F0 m 22 ls [.int (cGr fd ld k), .ref (la.1 0 4)]) rfl ?_
  refine lv_dup2_11 hx hb dX2_crush_2_22 rfl rfl ?_
  refine miald fx (cw.ar0 hw) (iN (cGr fd ld k)) ((cV.gr hv hk).1) ((cV.gr hv hk).2) (by decide) dX2_crush_2_23 ?_
  refine lv_aload_n hx hb dX2_crush_2_24 rfl (lv_at hl 1 rfl) ?_
  refine mgetN fx tfX9 (cw.lS hw hk) 1 (by decide) q513 (fun _ h => h) (v := .int (ld k 1)) rfl dX2_crush_2_25 ?_
  refine lv_iadd hx hb dX2_crush_2_28 ?_
  refine miast fx (cw.ar0 hw) hS (cw.inW hw (by decide)) (iN (cGr fd ld k)) ((cV.gr hv hk).1) ((cV.gr hv hk).2) (by decide) dX2_crush_2_29 (fun H locs hat hz hoq hS => ?_)
  replace hw : cw g (fA (cF la n) sz) la (sc, sw, va_up ar 0 (upd (ar 0) (iN (cGr fd ld k)) (((ar 0) (iN (cGr fd ld k))) + (ld k 1))), fd, tr, va_up ld k (ob9 (ld k 0) (ld k 1) (ld k 2) (ld k 3) (ld k 4) (ld k 5) 3 (ld k 7) (sc 0)), n) H := cw.setA 0 (by decide) hw hat (fun q _ h9 => hoq q h9)
  refine lv_aload_n hx hb dX2_crush_2_30 rfl (lv_at hl 0 rfl) ?_
  refine mget fx tfX2 (cw.w hw) 4 (by decide) q128 (fun _ h => h) (v := .ref (la.1 0 5)) rfl dX2_crush_2_31 ?_
  refine lv_aload_n hx hb dX2_crush_2_34 rfl (lv_at hl 0 rfl) ?_
  refine lv_aload_n hx hb dX2_crush_2_35 rfl (lv_at hl 1 rfl) ?_
  refine kV fx (m_W_growerOf l g la sc sw (va_up ar 0 (upd (ar 0) (iN (cGr fd ld k)) (((ar 0) (iN (cGr fd ld k))) + (ld k 1)))) fd tr (va_up ld k (ob9 (ld k 0) (ld k 1) (ld k 2) (ld k 3) (ld k 4) (ld k 5) 3 (ld k 7) (sc 0))) n k (ld k 0) hk (by rw [va_up_self]; rfl) (cV.lo hv hk)) (lw_V q585 q587 qs18 q51 q588) hdX2_growerOf ⟨(Nat.le_of_ble_eq_true rfl), (Nat.le_of_ble_eq_true rfl)⟩ ⟨(Nat.le_of_ble_eq_true rfl), (Nat.le_of_ble_eq_true rfl)⟩ hl.1 hS tfX2.2.1 (cw.w hw) rfl (Nat.le_of_ble_eq_true rfl) (cw.weaken hw fx.2.2.2.2.2.1) (fun _ h => h.elim) dX2_crush_2_36 (fun rv9 H locs hQ hz9 hk9 hS => ?_)
  obtain ⟨rfl, rfl⟩ := hQ
  refine W.eq (g2 := F0 m 39 ls [.int (cGr fd ld k), .ref (la.1 0 5)]) rfl ?_
  refine lv_dup2_11 hx hb dX2_crush_2_39 rfl rfl ?_
  refine miald fx (cw.ar1 hw) (iN (cGr fd ld k)) ((cV.gr hv hk).1) ((cV.gr hv hk).2) (by decide) dX2_crush_2_40 ?_
  refine lv_aload_n hx hb dX2_crush_2_41 rfl (lv_at hl 1 rfl) ?_
  refine mgetN fx tfX9 (cw.lS hw hk) 1 (by decide) q513 (fun _ h => h) (v := .int (ld k 1)) rfl dX2_crush_2_42 ?_
  refine lv_iadd hx hb dX2_crush_2_45 ?_
  refine miast fx (cw.ar1 hw) hS (cw.inW hw (by decide)) (iN (cGr fd ld k)) ((cV.gr hv hk).1) ((cV.gr hv hk).2) (by decide) dX2_crush_2_46 (fun H locs hat hz hoq hS => ?_)
  replace hw : cw g (fA (cF la n) sz) la (sc, sw, va_up (va_up ar 0 (upd (ar 0) (iN (cGr fd ld k)) (((ar 0) (iN (cGr fd ld k))) + (ld k 1)))) 1 (upd (ar 1) (iN (cGr fd ld k)) (((ar 1) (iN (cGr fd ld k))) + (ld k 1))), fd, tr, va_up ld k (ob9 (ld k 0) (ld k 1) (ld k 2) (ld k 3) (ld k 4) (ld k 5) 3 (ld k 7) (sc 0)), n) H := cw.setA 1 (by decide) hw hat (fun q _ h9 => hoq q h9)
  refine lv_aload_n hx hb dX2_crush_2_47 rfl (lv_at hl 0 rfl) ?_
  refine lv_dup hx hb dX2_crush_2_48 rfl ?_
  refine mget fx tfX2 (cw.w hw) 21 (by decide) q161 (fun _ h => h) (v := .long sw) rfl dX2_crush_2_49 ?_
  refine lv_aload_n hx hb dX2_crush_2_52 rfl (lv_at hl 1 rfl) ?_
  refine mgetN fx tfX9 (cw.lS hw hk) 1 (by decide) q513 (fun _ h => h) (v := .int (ld k 1)) rfl dX2_crush_2_53 ?_
  refine lv_aload_n hx hb dX2_crush_2_56 rfl (lv_at hl 1 rfl) ?_
  refine mgetN fx tfX9 (cw.lS hw hk) 5 (by decide) q522 (fun _ h => h) (v := .int (ld k 5)) rfl dX2_crush_2_57 ?_
  refine lv_imul hx hb dX2_crush_2_60 ?_
  refine lv_i2l (v := ((ld k 1) * (ld k 5)).toInt64) hx hb dX2_crush_2_61 rfl ?_
  refine lv_ladd hx hb dX2_crush_2_62 ?_
  refine mput fx tfX2 (cw.w hw) hS (cw.inW hw (by decide)) 21 (by decide) q161 (fun _ h => h) rfl rfl rfl (Nat.le_of_ble_eq_true rfl) dX2_crush_2_63 (fun H locs hat hz hoq hS => ?_)
  replace hw : cw g (fA (cF la n) sz) la (sc, sw + (((ld k 1) * (ld k 5)).toInt64), va_up (va_up ar 0 (upd (ar 0) (iN (cGr fd ld k)) (((ar 0) (iN (cGr fd ld k))) + (ld k 1)))) 1 (upd (ar 1) (iN (cGr fd ld k)) (((ar 1) (iN (cGr fd ld k))) + (ld k 1))), fd, tr, va_up ld k (ob9 (ld k 0) (ld k 1) (ld k 2) (ld k 3) (ld k 4) (ld k 5) 3 (ld k 7) (sc 0)), n) H := cw.setW hw hat (fun q _ h9 => hoq q h9)
  refine lv_aload_n hx hb dX2_crush_2_66 rfl (lv_at hl 1 rfl) ?_
  refine mgetN fx tfX9 (cw.lS hw hk) 1 (by decide) q513 (fun _ h => h) (v := .int (ld k 1)) rfl dX2_crush_2_67 ?_
  refine lv_aload_n hx hb dX2_crush_2_70 rfl (lv_at hl 1 rfl) ?_
  refine mgetN fx tfX9 (cw.lS hw hk) 5 (by decide) q522 (fun _ h => h) (v := .int (ld k 5)) rfl dX2_crush_2_71 ?_
  refine lv_imul hx hb dX2_crush_2_74 ?_
  refine lv_bipush (v := 10) hx hb dX2_crush_2_75 (by decide) ?_
  refine lv_idiv hx hb dX2_crush_2_77 (by decide) ?_
  refine lv_istore_n (lv' := [(2, .int (((ld k 1) * (ld k 5)) / 10)), (0, .ref (la.1 0 0)), (1, .ref (la.1 4 k))]) hx hb dX2_crush_2_78 rfl hl (by decide) rfl (fun ls hl => ?_)
  refine lv_iload_n hx hb dX2_crush_2_79 rfl (lv_at hl 0 rfl) ?_
  refine lv_bipush (v := 88) hx hb dX2_crush_2_80 (by decide) ?_
  refine lv_aload_n hx hb dX2_crush_2_82 rfl (lv_at hl 1 rfl) ?_
  refine mget fx tfX2 (cw.w hw) 14 (by decide) q147 (fun _ h => h) (v := .int (sc 8)) rfl dX2_crush_2_83 ?_
  refine lv_iadd hx hb dX2_crush_2_86 ?_
  refine lv_aload_n hx hb dX2_crush_2_87 rfl (lv_at hl 2 rfl) ?_
  refine mgetN fx tfX9 (cw.lS hw hk) 2 (by decide) q516 (fun _ h => h) (v := .int (ld k 2)) rfl dX2_crush_2_88 ?_
  refine lv_iconst (v := 2) hx hb dX2_crush_2_91 (by decide) ?_
  refine lv_idiv hx hb dX2_crush_2_92 (by decide) ?_
  refine lv_isub hx hb dX2_crush_2_93 ?_
  refine lv_imul hx hb dX2_crush_2_94 ?_
  refine lv_bipush (v := 100) hx hb dX2_crush_2_95 (by decide) ?_
  refine lv_idiv hx hb dX2_crush_2_97 (by decide) ?_
  refine lv_istore_n (lv' := [(3, .int (((((ld k 1) * (ld k 5)) / 10) * ((88 + (sc 8)) - ((ld k 2) / 2))) / 100)), (2, .int (((ld k 1) * (ld k 5)) / 10)), (0, .ref (la.1 0 0)), (1, .ref (la.1 4 k))]) hx hb dX2_crush_2_98 rfl hl (by decide) rfl (fun ls hl => ?_)
  refine lv_aload_n hx hb dX2_crush_2_99 rfl (lv_at hl 2 rfl) ?_
  refine lv_dup hx hb dX2_crush_2_100 rfl ?_
  refine mget fx tfX2 (cw.w hw) 16 (by decide) q151 (fun _ h => h) (v := .int (sc 10)) rfl dX2_crush_2_101 ?_
  refine lv_iload_n hx hb dX2_crush_2_104 rfl (lv_at hl 0 rfl) ?_
  refine lv_iadd hx hb dX2_crush_2_105 ?_
  refine mput fx tfX2 (cw.w hw) hS (cw.inW hw (by decide)) 16 (by decide) q151 (fun _ h => h) rfl rfl rfl (Nat.le_of_ble_eq_true rfl) dX2_crush_2_106 (fun H locs hat hz hoq hS => ?_)
  replace hw : cw g (fA (cF la n) sz) la (va_up sc 10 ((sc 10) + (((((ld k 1) * (ld k 5)) / 10) * ((88 + (sc 8)) - ((ld k 2) / 2))) / 100)), sw + (((ld k 1) * (ld k 5)).toInt64), va_up (va_up ar 0 (upd (ar 0) (iN (cGr fd ld k)) (((ar 0) (iN (cGr fd ld k))) + (ld k 1)))) 1 (upd (ar 1) (iN (cGr fd ld k)) (((ar 1) (iN (cGr fd ld k))) + (ld k 1))), fd, tr, va_up ld k (ob9 (ld k 0) (ld k 1) (ld k 2) (ld k 3) (ld k 4) (ld k 5) 3 (ld k 7) (sc 0)), n) H := cw.setW hw hat (fun q _ h9 => hoq q h9)
  refine lv_aload_n hx hb dX2_crush_2_109 rfl (lv_at hl 2 rfl) ?_
  refine lv_dup hx hb dX2_crush_2_110 rfl ?_
  refine mget fx tfX2 (cw.w hw) 17 (by decide) q153 (fun _ h => h) (v := .int (sc 11)) rfl dX2_crush_2_111 ?_
  refine lv_iload_n hx hb dX2_crush_2_114 rfl (lv_at hl 1 rfl) ?_
  refine lv_iload_n hx hb dX2_crush_2_115 rfl (lv_at hl 0 rfl) ?_
  refine lv_isub hx hb dX2_crush_2_116 ?_
  refine lv_iadd hx hb dX2_crush_2_117 ?_
  refine mput fx tfX2 (cw.w hw) hS (cw.inW hw (by decide)) 17 (by decide) q153 (fun _ h => h) rfl rfl rfl (Nat.le_of_ble_eq_true rfl) dX2_crush_2_118 (fun H locs hat hz hoq hS => ?_)
  replace hw : cw g (fA (cF la n) sz) la (va_up (va_up sc 10 ((sc 10) + (((((ld k 1) * (ld k 5)) / 10) * ((88 + (sc 8)) - ((ld k 2) / 2))) / 100))) 11 ((sc 11) + ((((ld k 1) * (ld k 5)) / 10) - (((((ld k 1) * (ld k 5)) / 10) * ((88 + (sc 8)) - ((ld k 2) / 2))) / 100))), sw + (((ld k 1) * (ld k 5)).toInt64), va_up (va_up ar 0 (upd (ar 0) (iN (cGr fd ld k)) (((ar 0) (iN (cGr fd ld k))) + (ld k 1)))) 1 (upd (ar 1) (iN (cGr fd ld k)) (((ar 1) (iN (cGr fd ld k))) + (ld k 1))), fd, tr, va_up ld k (ob9 (ld k 0) (ld k 1) (ld k 2) (ld k 3) (ld k 4) (ld k 5) 3 (ld k 7) (sc 0)), n) H := cw.setW hw hat (fun q _ h9 => hoq q h9)
  refine lv_aload_n hx hb dX2_crush_2_121 rfl (lv_at hl 2 rfl) ?_
  refine lv_dup hx hb dX2_crush_2_122 rfl ?_
  refine mget fx tfX2 (cw.w hw) 18 (by decide) q155 (fun _ h => h) (v := .int (sc 12)) rfl dX2_crush_2_123 ?_
  refine lv_iconst (v := 3) hx hb dX2_crush_2_126 (by decide) ?_
  refine lv_aload_n hx hb dX2_crush_2_127 rfl (lv_at hl 3 rfl) ?_
  refine mgetN fx tfX9 (cw.lS hw hk) 1 (by decide) q513 (fun _ h => h) (v := .int (ld k 1)) rfl dX2_crush_2_128 ?_
  refine lv_imul hx hb dX2_crush_2_131 ?_
  refine lv_bipush (v := 10) hx hb dX2_crush_2_132 (by decide) ?_
  refine lv_idiv hx hb dX2_crush_2_134 (by decide) ?_
  refine lv_iadd hx hb dX2_crush_2_135 ?_
  refine mput fx tfX2 (cw.w hw) hS (cw.inW hw (by decide)) 18 (by decide) q155 (fun _ h => h) rfl rfl rfl (Nat.le_of_ble_eq_true rfl) dX2_crush_2_136 (fun H locs hat hz hoq hS => ?_)
  replace hw : cw g (fA (cF la n) sz) la (va_up (va_up (va_up sc 10 ((sc 10) + (((((ld k 1) * (ld k 5)) / 10) * ((88 + (sc 8)) - ((ld k 2) / 2))) / 100))) 11 ((sc 11) + ((((ld k 1) * (ld k 5)) / 10) - (((((ld k 1) * (ld k 5)) / 10) * ((88 + (sc 8)) - ((ld k 2) / 2))) / 100)))) 12 ((sc 12) + ((3 * (ld k 1)) / 10)), sw + (((ld k 1) * (ld k 5)).toInt64), va_up (va_up ar 0 (upd (ar 0) (iN (cGr fd ld k)) (((ar 0) (iN (cGr fd ld k))) + (ld k 1)))) 1 (upd (ar 1) (iN (cGr fd ld k)) (((ar 1) (iN (cGr fd ld k))) + (ld k 1))), fd, tr, va_up ld k (ob9 (ld k 0) (ld k 1) (ld k 2) (ld k 3) (ld k 4) (ld k 5) 3 (ld k 7) (sc 0)), n) H := cw.setW hw hat (fun q _ h9 => hoq q h9)
  refine lv_aload_n hx hb dX2_crush_2_139 rfl (lv_at hl 2 rfl) ?_
  refine lv_aload_n hx hb dX2_crush_2_140 rfl (lv_at hl 3 rfl) ?_
  refine mgetN fx tfX9 (cw.lS hw hk) 1 (by decide) q513 (fun _ h => h) (v := .int (ld k 1)) rfl dX2_crush_2_141 ?_
  refine lv_iconst (v := 2) hx hb dX2_crush_2_144 (by decide) ?_
  refine lv_aload_n hx hb dX2_crush_2_145 rfl (lv_at hl 2 rfl) ?_
  refine mget fx tfX2 (cw.w hw) 14 (by decide) q147 (fun _ h => h) (v := .int (sc 8)) rfl dX2_crush_2_146 ?_
  refine lv_iadd hx hb dX2_crush_2_149 ?_
  refine lv_imul hx hb dX2_crush_2_150 ?_
  refine lv_bipush (v := 20) hx hb dX2_crush_2_151 (by decide) ?_
  refine lv_idiv hx hb dX2_crush_2_153 (by decide) ?_
  have hbk := cw.back hw (fun q h9 => hAs q (Nat.le_trans hS.1 h9))
  refine kV fx (m_W_burn l g _ la (va_up (va_up (va_up sc 10 ((sc 10) + (((((ld k 1) * (ld k 5)) / 10) * ((88 + (sc 8)) - ((ld k 2) / 2))) / 100))) 11 ((sc 11) + ((((ld k 1) * (ld k 5)) / 10) - (((((ld k 1) * (ld k 5)) / 10) * ((88 + (sc 8)) - ((ld k 2) / 2))) / 100)))) 12 ((sc 12) + ((3 * (ld k 1)) / 10))) (sw + (((ld k 1) * (ld k 5)).toInt64)) (va_up (va_up ar 0 (upd (ar 0) (iN (cGr fd ld k)) (((ar 0) (iN (cGr fd ld k))) + (ld k 1)))) 1 (upd (ar 1) (iN (cGr fd ld k)) (((ar 1) (iN (cGr fd ld k))) + (ld k 1)))) fd tr (va_up ld k (ob9 (ld k 0) (ld k 1) (ld k 2) (ld k 3) (ld k 4) (ld k 5) 3 (ld k 7) (sc 0))) n (((ld k 1) * (2 + (sc 8))) / 20)) (lw_V q593 q594 q595 q51 q596) hdX2_burn ⟨(Nat.le_of_ble_eq_true rfl), (Nat.le_of_ble_eq_true rfl)⟩ ⟨(Nat.le_of_ble_eq_true rfl), (Nat.le_of_ble_eq_true rfl)⟩ hl.1 hS tfX2.2.1 (cw.w hw) rfl (Nat.le_of_ble_eq_true rfl) (⟨rfl, cw.weaken hw fx.2.2.2.2.2.1⟩) (fun q h9 => hbk q h9) dX2_crush_2_154 (fun rv9 H locs hQ hz9 hk9 hS => ?_)
  obtain ⟨rfl, hw9⟩ := hQ
  replace hw : cw g (fA (cF la n) sz) la (cBurn (va_up (va_up (va_up sc 10 ((sc 10) + (((((ld k 1) * (ld k 5)) / 10) * ((88 + (sc 8)) - ((ld k 2) / 2))) / 100))) 11 ((sc 11) + ((((ld k 1) * (ld k 5)) / 10) - (((((ld k 1) * (ld k 5)) / 10) * ((88 + (sc 8)) - ((ld k 2) / 2))) / 100)))) 12 ((sc 12) + ((3 * (ld k 1)) / 10))) (((ld k 1) * (2 + (sc 8))) / 20), sw + (((ld k 1) * (ld k 5)).toInt64), va_up (va_up ar 0 (upd (ar 0) (iN (cGr fd ld k)) (((ar 0) (iN (cGr fd ld k))) + (ld k 1)))) 1 (upd (ar 1) (iN (cGr fd ld k)) (((ar 1) (iN (cGr fd ld k))) + (ld k 1))), fd, tr, va_up ld k (ob9 (ld k 0) (ld k 1) (ld k 2) (ld k 3) (ld k 4) (ld k 5) 3 (ld k 7) (sc 0)), n) H := cw.weaken hw9 hbk
  refine W.eq (g2 := F0 m 157 ls [.int (lackC ((sc 12) + ((3 * (ld k 1)) / 10)) (((ld k 1) * (2 + (sc 8))) / 20))]) rfl ?_
  refine lv_pop hx hb dX2_crush_2_157 rfl ?_
  exact rv hx hb hr hlocks hS (⟨rfl, hw⟩) ⟨(Nat.le_of_ble_eq_true rfl), (Nat.le_of_ble_eq_true rfl)⟩ dX2_crush_2_158

set_option maxHeartbeats 4000000 in
theorem m_W_crush (l : Launch) (g : GT) (sz : Nat) (la : LT) (sc : Nat → Int32) (sw : Int64) (ar fd tr ld : Nat → Nat → Int32) (n : CN) (hn : cN n) (hv : cV n fd tr ld) : Cn l g yX2_crush cX2_crush 3 ((some .int)) 6 0 0 [.ref (la.1 0 0)] (fA (cF la n) sz) (fun H => sz = H.size ∧ cw g (bA g) la (sc, sw, ar, fd, tr, ld, n) H) (fun Hp rv Hq => rv = some (.int (cCrushAll (n 2) (sc, sw, ar, fd, tr, ld)).2) ∧ cw g (fA (cF la n) sz) la (mkC (cCrushAll (n 2) (sc, sw, ar, fd, tr, ld)).1 n) Hq) := by
  refine Cn.start (plainFor_of_name (by decide +kernel)) (Nat.le_of_ble_eq_true rfl) ?_
  intro p ev s m below meth c ls H locs hH hx hb hr hts hown hlocks hml hnm hK hP hS hl
  obtain ⟨hsz, hw⟩ := hP
  have hszs : sz = s.heap.size := by rw [hsz, hH]
  have hAs : ∀ q, s.heap.size ≤ q → (fA (cF la n) sz) q := fun q h => Or.inr (by rw [hszs]; exact h)
  have hAb : ∀ q, (fA (cF la n) sz) q → bA g q := fun q h => h.elim (hw.1.ft q) (fun h => Nat.le_trans hK.2.2.sz (by rw [← hszs]; exact h))
  replace hw : cw g (fA (cF la n) sz) la (sc, sw, ar, fd, tr, ld, n) H := cw.self hw sz
  have fx : Fx p s m ([.ref (la.1 0 0)] : List Value).toArray c cX2_crush RX2 g (fA (cF la n) sz) 3 := ⟨hx, hb, hts, hown, hK, hAb, hml⟩
  have hl : lv_has ls 3 [(0, .ref (la.1 0 0))] := hl
  refine lv_iconst (v := 0) hx hb dX2_crush_0 (by decide) ?_
  refine lv_istore_n (lv' := [(1, .int 0), (0, .ref (la.1 0 0))]) hx hb dX2_crush_1 rfl hl (by decide) rfl (fun ls hl => ?_)
  refine lv_aload_n hx hb dX2_crush_2 rfl (lv_at hl 1 rfl) ?_
  refine kV fx (m_W_next l g la sc sw ar fd tr ld n hn hv) (lw_V q577 q579 qs16 q51 q580) hdX2_next ⟨(Nat.le_of_ble_eq_true rfl), (Nat.le_of_ble_eq_true rfl)⟩ ⟨(Nat.le_of_ble_eq_true rfl), (Nat.le_of_ble_eq_true rfl)⟩ hl.1 hS tfX2.2.1 (cw.w hw) rfl (Nat.le_of_ble_eq_true rfl) (cw.weaken hw fx.2.2.2.2.2.1) (fun _ h => h.elim) dX2_crush_3 (fun rv9 H locs hQ hz9 hk9 hS => ?_)
  obtain ⟨rfl, rfl⟩ := hQ
  refine W.eq (g2 := F0 m 6 ls [ov la.1 4 (cNext (sc 9) ar fd ld (n 2))]) rfl ?_
  refine lv_astore_nX (lv' := [(2, ov la.1 4 (cNext (sc 9) ar fd ld (n 2))), (1, .int 0), (0, .ref (la.1 0 0))]) hx hb dX2_crush_6 rfl hl (by decide) rfl (fun ls hl => ?_)
  have lp_1 : ∀ (f : Nat) (H : Heap) (locs : List Loc) (ls : Array Slot) (sc1 : Nat → Int32) (sw1 : Int64) (ar1 : Nat → Nat → Int32) (ld1 : Nat → Nat → Int32) (all1 : Int32), va_S (fA (cF la n) sz) s.heap H locs → (cYard ld1 (n 2) < f) → (cMill (n 2) (n 2 + 1) (sc, sw, ar, fd, tr, ld) 0 = cMill (n 2) f (sc1, sw1, ar1, fd, tr, ld1) all1) → (cV n fd tr ld1) → (cw g (fA (cF la n) sz) la (sc1, sw1, ar1, fd, tr, ld1, n) H) → lv_has ls 3 [(2, ov la.1 4 (cNext (sc1 9) ar1 fd ld1 (n 2))), (1, .int all1), (0, .ref (la.1 0 0))] → W p l ev (mR 6 0 0) s m ([.ref (la.1 0 0)] : List Value).toArray below meth c H locs 0 0 (MQ below (mQ (fA (cF la n) sz) (fun Hp rv Hq => rv = some (.int (cCrushAll (n 2) (sc, sw, ar, fd, tr, ld)).2) ∧ cw g (fA (cF la n) sz) la (mkC (cCrushAll (n 2) (sc, sw, ar, fd, tr, ld)).1 n) Hq)) ([.ref (la.1 0 0)] : List Value).toArray s 0 0 (fA (cF la n) sz)) (F0 m 7 ls []) := by
    intro f
    induction f with
    | zero =>
      intro H locs ls sc1 sw1 ar1 ld1 all1 hS hfu hR hv hw hl
      exact absurd hfu (Nat.not_lt_zero _)
    | succ f ih =>
      intro H locs ls sc1 sw1 ar1 ld1 all1 hS hfu hR hv hw hl
      rcases opt_cases (cNext (sc1 9) ar1 fd ld1 (n 2)) with hob | ⟨jb, hob⟩
      · skip
        have hov : (ov la.1 4 (cNext (sc1 9) ar1 fd ld1 (n 2)) : Value) = .null := by rw [hob]; rfl
        rw [hov] at hl
        refine lv_aload_nN hx hb dX2_crush_7 rfl (lv_at hl 0 rfl) ?_
        refine lv_ifnullN (tgt := 44) hx hb dX2_crush_8 (by decide) ?_
        refine lv_iload_n hx hb dX2_crush_44 rfl (lv_at hl 1 rfl) ?_
        refine lv_if_le (tgt := 55) hx hb dX2_crush_45 (by decide) (fun c_2 => ?_) (fun c_2 => ?_)
        · skip
          refine lv_aload_n hx hb dX2_crush_55 rfl (lv_at hl 2 rfl) ?_
          refine lv_dup hx hb dX2_crush_56 rfl ?_
          refine mget fx tfX2 (cw.w hw) 10 (by decide) q139 (fun _ h => h) (v := .int (sc1 4)) rfl dX2_crush_57 ?_
          refine lv_iconst (v := 1) hx hb dX2_crush_60 (by decide) ?_
          refine lv_iadd hx hb dX2_crush_61 ?_
          refine mput fx tfX2 (cw.w hw) hS (cw.inW hw (by decide)) 10 (by decide) q139 (fun _ h => h) rfl rfl rfl (Nat.le_of_ble_eq_true rfl) dX2_crush_62 (fun H locs hat hz hoq hS => ?_)
          replace hw : cw g (fA (cF la n) sz) la (va_up sc1 4 ((sc1 4) + 1), sw1, ar1, fd, tr, ld1, n) H := cw.setW hw hat (fun q _ h9 => hoq q h9)
          refine lv_aload_n hx hb dX2_crush_65 rfl (lv_at hl 2 rfl) ?_
          refine lv_dup hx hb dX2_crush_66 rfl ?_
          refine mget fx tfX2 (cw.w hw) 11 (by decide) q141 (fun _ h => h) (v := .int (sc1 5)) rfl dX2_crush_67 ?_
          refine lv_iconst (v := 1) hx hb dX2_crush_70 (by decide) ?_
          refine lv_iadd hx hb dX2_crush_71 ?_
          refine mput fx tfX2 (cw.w hw) hS (cw.inW hw (by decide)) 11 (by decide) q141 (fun _ h => h) rfl rfl rfl (Nat.le_of_ble_eq_true rfl) dX2_crush_72 (fun H locs hat hz hoq hS => ?_)
          replace hw : cw g (fA (cF la n) sz) la (va_up (va_up sc1 4 ((sc1 4) + 1)) 5 ((sc1 5) + 1), sw1, ar1, fd, tr, ld1, n) H := cw.setW hw hat (fun q _ h9 => hoq q h9)
          refine lv_aload_n hx hb dX2_crush_75 rfl (lv_at hl 2 rfl) ?_
          refine mget fx tfX2 (cw.w hw) 10 (by decide) q139 (fun _ h => h) (v := .int ((sc1 4) + 1)) rfl dX2_crush_76 ?_
          refine lv_iconst (v := 3) hx hb dX2_crush_79 (by decide) ?_
          refine lv_icmp_ne (tgt := 98) hx hb dX2_crush_80 (by decide) (fun c_3 => ?_) (fun c_3 => ?_)
          · skip
            refine lv_iconst (v := 0) hx hb dX2_crush_98 (by decide) ?_
            exact ri hx hb hr hlocks hS (by rw [cCrushAll_eq (hR.trans (cMill_n hob)), if_pos c_2, cIdle_b c_3]; exact ⟨rfl, hw⟩) ⟨(Nat.le_of_ble_eq_true rfl), (Nat.le_of_ble_eq_true rfl)⟩ dX2_crush_99
          · skip
            refine lv_aload_n hx hb dX2_crush_83 rfl (lv_at hl 2 rfl) ?_
            refine lv_iconst (v := 0) hx hb dX2_crush_84 (by decide) ?_
            refine mput fx tfX2 (cw.w hw) hS (cw.inW hw (by decide)) 8 (by decide) q135 (fun _ h => h) rfl rfl rfl (Nat.le_of_ble_eq_true rfl) dX2_crush_85 (fun H locs hat hz hoq hS => ?_)
            replace hw : cw g (fA (cF la n) sz) la (va_up (va_up (va_up sc1 4 ((sc1 4) + 1)) 5 ((sc1 5) + 1)) 2 0, sw1, ar1, fd, tr, ld1, n) H := cw.setW hw hat (fun q _ h9 => hoq q h9)
            refine lv_aload_n hx hb dX2_crush_88 rfl (lv_at hl 2 rfl) ?_
            refine lv_dup hx hb dX2_crush_89 rfl ?_
            refine mget fx tfX2 (cw.w hw) 12 (by decide) q143 (fun _ h => h) (v := .int (sc1 6)) rfl dX2_crush_90 ?_
            refine lv_iconst (v := 1) hx hb dX2_crush_93 (by decide) ?_
            refine lv_iadd hx hb dX2_crush_94 ?_
            refine mput fx tfX2 (cw.w hw) hS (cw.inW hw (by decide)) 12 (by decide) q143 (fun _ h => h) rfl rfl rfl (Nat.le_of_ble_eq_true rfl) dX2_crush_95 (fun H locs hat hz hoq hS => ?_)
            replace hw : cw g (fA (cF la n) sz) la (va_up (va_up (va_up (va_up sc1 4 ((sc1 4) + 1)) 5 ((sc1 5) + 1)) 2 0) 6 ((sc1 6) + 1), sw1, ar1, fd, tr, ld1, n) H := cw.setW hw hat (fun q _ h9 => hoq q h9)
            refine lv_iconst (v := 0) hx hb dX2_crush_98 (by decide) ?_
            exact ri hx hb hr hlocks hS (by rw [cCrushAll_eq (hR.trans (cMill_n hob)), if_pos c_2, cIdle_a c_3]; exact ⟨rfl, hw⟩) ⟨(Nat.le_of_ble_eq_true rfl), (Nat.le_of_ble_eq_true rfl)⟩ dX2_crush_99
        · skip
          refine lv_aload_n hx hb dX2_crush_48 rfl (lv_at hl 2 rfl) ?_
          refine lv_iconst (v := 0) hx hb dX2_crush_49 (by decide) ?_
          refine mput fx tfX2 (cw.w hw) hS (cw.inW hw (by decide)) 10 (by decide) q139 (fun _ h => h) rfl rfl rfl (Nat.le_of_ble_eq_true rfl) dX2_crush_50 (fun H locs hat hz hoq hS => ?_)
          replace hw : cw g (fA (cF la n) sz) la (va_up sc1 4 0, sw1, ar1, fd, tr, ld1, n) H := cw.setW hw hat (fun q _ h9 => hoq q h9)
          refine lv_iload_n hx hb dX2_crush_53 rfl (lv_at hl 1 rfl) ?_
          exact ri hx hb hr hlocks hS (by rw [cCrushAll_eq (hR.trans (cMill_n hob)), if_neg c_2]; exact ⟨rfl, hw⟩) ⟨(Nat.le_of_ble_eq_true rfl), (Nat.le_of_ble_eq_true rfl)⟩ dX2_crush_54
      · skip
        have hov : (ov la.1 4 (cNext (sc1 9) ar1 fd ld1 (n 2)) : Value) = .ref (la.1 4 jb) := by rw [hob]; rfl
        rw [hov] at hl
        have hjb : jb < n 2 := (cNext_lt hob).1
        refine lv_aload_n hx hb dX2_crush_7 rfl (lv_at hl 0 rfl) ?_
        refine lv_ifnull hx hb dX2_crush_8 ?_
        refine lv_iload_n hx hb dX2_crush_11 rfl (lv_at hl 1 rfl) ?_
        refine lv_aload_n hx hb dX2_crush_12 rfl (lv_at hl 0 rfl) ?_
        refine mgetN fx tfX9 (cw.l hw hjb) 1 (by decide) q513 (fun _ h => h) (v := .int (ld1 jb 1)) rfl dX2_crush_13 ?_
        refine lv_iadd hx hb dX2_crush_16 ?_
        refine lv_aload_n hx hb dX2_crush_17 rfl (lv_at hl 2 rfl) ?_
        refine mget fx tfX2 (cw.w hw) 13 (by decide) q145 (fun _ h => h) (v := .int (sc1 7)) rfl dX2_crush_18 ?_
        refine lv_icmp_gt (tgt := 44) hx hb dX2_crush_21 (by decide) (fun c_4 => ?_) (fun c_4 => ?_)
        · skip
          refine lv_iload_n hx hb dX2_crush_44 rfl (lv_at hl 1 rfl) ?_
          refine lv_if_le (tgt := 55) hx hb dX2_crush_45 (by decide) (fun c_5 => ?_) (fun c_5 => ?_)
          · skip
            refine lv_aload_n hx hb dX2_crush_55 rfl (lv_at hl 2 rfl) ?_
            refine lv_dup hx hb dX2_crush_56 rfl ?_
            refine mget fx tfX2 (cw.w hw) 10 (by decide) q139 (fun _ h => h) (v := .int (sc1 4)) rfl dX2_crush_57 ?_
            refine lv_iconst (v := 1) hx hb dX2_crush_60 (by decide) ?_
            refine lv_iadd hx hb dX2_crush_61 ?_
            refine mput fx tfX2 (cw.w hw) hS (cw.inW hw (by decide)) 10 (by decide) q139 (fun _ h => h) rfl rfl rfl (Nat.le_of_ble_eq_true rfl) dX2_crush_62 (fun H locs hat hz hoq hS => ?_)
            replace hw : cw g (fA (cF la n) sz) la (va_up sc1 4 ((sc1 4) + 1), sw1, ar1, fd, tr, ld1, n) H := cw.setW hw hat (fun q _ h9 => hoq q h9)
            refine lv_aload_n hx hb dX2_crush_65 rfl (lv_at hl 2 rfl) ?_
            refine lv_dup hx hb dX2_crush_66 rfl ?_
            refine mget fx tfX2 (cw.w hw) 11 (by decide) q141 (fun _ h => h) (v := .int (sc1 5)) rfl dX2_crush_67 ?_
            refine lv_iconst (v := 1) hx hb dX2_crush_70 (by decide) ?_
            refine lv_iadd hx hb dX2_crush_71 ?_
            refine mput fx tfX2 (cw.w hw) hS (cw.inW hw (by decide)) 11 (by decide) q141 (fun _ h => h) rfl rfl rfl (Nat.le_of_ble_eq_true rfl) dX2_crush_72 (fun H locs hat hz hoq hS => ?_)
            replace hw : cw g (fA (cF la n) sz) la (va_up (va_up sc1 4 ((sc1 4) + 1)) 5 ((sc1 5) + 1), sw1, ar1, fd, tr, ld1, n) H := cw.setW hw hat (fun q _ h9 => hoq q h9)
            refine lv_aload_n hx hb dX2_crush_75 rfl (lv_at hl 2 rfl) ?_
            refine mget fx tfX2 (cw.w hw) 10 (by decide) q139 (fun _ h => h) (v := .int ((sc1 4) + 1)) rfl dX2_crush_76 ?_
            refine lv_iconst (v := 3) hx hb dX2_crush_79 (by decide) ?_
            refine lv_icmp_ne (tgt := 98) hx hb dX2_crush_80 (by decide) (fun c_6 => ?_) (fun c_6 => ?_)
            · skip
              refine lv_iconst (v := 0) hx hb dX2_crush_98 (by decide) ?_
              exact ri hx hb hr hlocks hS (by rw [cCrushAll_eq (hR.trans (cMill_s hob c_4)), if_pos c_5, cIdle_b c_6]; exact ⟨rfl, hw⟩) ⟨(Nat.le_of_ble_eq_true rfl), (Nat.le_of_ble_eq_true rfl)⟩ dX2_crush_99
            · skip
              refine lv_aload_n hx hb dX2_crush_83 rfl (lv_at hl 2 rfl) ?_
              refine lv_iconst (v := 0) hx hb dX2_crush_84 (by decide) ?_
              refine mput fx tfX2 (cw.w hw) hS (cw.inW hw (by decide)) 8 (by decide) q135 (fun _ h => h) rfl rfl rfl (Nat.le_of_ble_eq_true rfl) dX2_crush_85 (fun H locs hat hz hoq hS => ?_)
              replace hw : cw g (fA (cF la n) sz) la (va_up (va_up (va_up sc1 4 ((sc1 4) + 1)) 5 ((sc1 5) + 1)) 2 0, sw1, ar1, fd, tr, ld1, n) H := cw.setW hw hat (fun q _ h9 => hoq q h9)
              refine lv_aload_n hx hb dX2_crush_88 rfl (lv_at hl 2 rfl) ?_
              refine lv_dup hx hb dX2_crush_89 rfl ?_
              refine mget fx tfX2 (cw.w hw) 12 (by decide) q143 (fun _ h => h) (v := .int (sc1 6)) rfl dX2_crush_90 ?_
              refine lv_iconst (v := 1) hx hb dX2_crush_93 (by decide) ?_
              refine lv_iadd hx hb dX2_crush_94 ?_
              refine mput fx tfX2 (cw.w hw) hS (cw.inW hw (by decide)) 12 (by decide) q143 (fun _ h => h) rfl rfl rfl (Nat.le_of_ble_eq_true rfl) dX2_crush_95 (fun H locs hat hz hoq hS => ?_)
              replace hw : cw g (fA (cF la n) sz) la (va_up (va_up (va_up (va_up sc1 4 ((sc1 4) + 1)) 5 ((sc1 5) + 1)) 2 0) 6 ((sc1 6) + 1), sw1, ar1, fd, tr, ld1, n) H := cw.setW hw hat (fun q _ h9 => hoq q h9)
              refine lv_iconst (v := 0) hx hb dX2_crush_98 (by decide) ?_
              exact ri hx hb hr hlocks hS (by rw [cCrushAll_eq (hR.trans (cMill_s hob c_4)), if_pos c_5, cIdle_a c_6]; exact ⟨rfl, hw⟩) ⟨(Nat.le_of_ble_eq_true rfl), (Nat.le_of_ble_eq_true rfl)⟩ dX2_crush_99
          · skip
            refine lv_aload_n hx hb dX2_crush_48 rfl (lv_at hl 2 rfl) ?_
            refine lv_iconst (v := 0) hx hb dX2_crush_49 (by decide) ?_
            refine mput fx tfX2 (cw.w hw) hS (cw.inW hw (by decide)) 10 (by decide) q139 (fun _ h => h) rfl rfl rfl (Nat.le_of_ble_eq_true rfl) dX2_crush_50 (fun H locs hat hz hoq hS => ?_)
            replace hw : cw g (fA (cF la n) sz) la (va_up sc1 4 0, sw1, ar1, fd, tr, ld1, n) H := cw.setW hw hat (fun q _ h9 => hoq q h9)
            refine lv_iload_n hx hb dX2_crush_53 rfl (lv_at hl 1 rfl) ?_
            exact ri hx hb hr hlocks hS (by rw [cCrushAll_eq (hR.trans (cMill_s hob c_4)), if_neg c_5]; exact ⟨rfl, hw⟩) ⟨(Nat.le_of_ble_eq_true rfl), (Nat.le_of_ble_eq_true rfl)⟩ dX2_crush_54
        · skip
          refine lv_iload_n hx hb dX2_crush_24 rfl (lv_at hl 1 rfl) ?_
          refine lv_aload_n hx hb dX2_crush_25 rfl (lv_at hl 0 rfl) ?_
          refine mgetN fx tfX9 (cw.l hw hjb) 1 (by decide) q513 (fun _ h => h) (v := .int (ld1 jb 1)) rfl dX2_crush_26 ?_
          refine lv_iadd hx hb dX2_crush_29 ?_
          refine lv_istore_n (lv' := [(1, .int (all1 + (ld1 jb 1))), (2, .ref (la.1 4 jb)), (0, .ref (la.1 0 0))]) hx hb dX2_crush_30 rfl hl (by decide) rfl (fun ls hl => ?_)
          refine lv_aload_n hx hb dX2_crush_31 rfl (lv_at hl 2 rfl) ?_
          refine lv_aload_n hx hb dX2_crush_32 rfl (lv_at hl 1 rfl) ?_
          have hbk := cw.back hw (fun q h9 => hAs q (Nat.le_trans hS.1 h9))
          refine kV fx (m_W_crush1 l g _ la sc1 sw1 ar1 fd tr ld1 n hv jb hjb) (lw_V q589 q591 qs19 q51 q592) hdX2_crush_2 ⟨(Nat.le_of_ble_eq_true rfl), (Nat.le_of_ble_eq_true rfl)⟩ ⟨(Nat.le_of_ble_eq_true rfl), (Nat.le_of_ble_eq_true rfl)⟩ hl.1 hS tfX2.2.1 (cw.w hw) rfl (Nat.le_of_ble_eq_true rfl) (⟨rfl, cw.weaken hw fx.2.2.2.2.2.1⟩) (fun q h9 => hbk q h9) dX2_crush_33 (fun rv9 H locs hQ hz9 hk9 hS => ?_)
          obtain ⟨rfl, hw9⟩ := hQ
          replace hw : cw g (fA (cF la n) sz) la ((cCrush (sc1, sw1, ar1, fd, tr, ld1) jb).1, (cCrush (sc1, sw1, ar1, fd, tr, ld1) jb).2.1, (cCrush (sc1, sw1, ar1, fd, tr, ld1) jb).2.2.1, fd, tr, (cCrush (sc1, sw1, ar1, fd, tr, ld1) jb).2.2.2.2.2, n) H := cw.weaken hw9 hbk
          replace hv : cV n fd tr ((cCrush (sc1, sw1, ar1, fd, tr, ld1) jb).2.2.2.2.2) := cV.crush hv rfl rfl rfl rfl
          refine W.eq (g2 := F0 m 36 ls []) rfl ?_
          refine lv_aload_n hx hb dX2_crush_36 rfl (lv_at hl 2 rfl) ?_
          refine kV fx (m_W_next l g la ((cCrush (sc1, sw1, ar1, fd, tr, ld1) jb).1) ((cCrush (sc1, sw1, ar1, fd, tr, ld1) jb).2.1) ((cCrush (sc1, sw1, ar1, fd, tr, ld1) jb).2.2.1) fd tr ((cCrush (sc1, sw1, ar1, fd, tr, ld1) jb).2.2.2.2.2) n hn hv) (lw_V q577 q579 qs16 q51 q580) hdX2_next ⟨(Nat.le_of_ble_eq_true rfl), (Nat.le_of_ble_eq_true rfl)⟩ ⟨(Nat.le_of_ble_eq_true rfl), (Nat.le_of_ble_eq_true rfl)⟩ hl.1 hS tfX2.2.1 (cw.w hw) rfl (Nat.le_of_ble_eq_true rfl) (cw.weaken hw fx.2.2.2.2.2.1) (fun _ h => h.elim) dX2_crush_37 (fun rv9 H locs hQ hz9 hk9 hS => ?_)
          obtain ⟨rfl, rfl⟩ := hQ
          refine W.eq (g2 := F0 m 40 ls [ov la.1 4 (cNext (((cCrush (sc1, sw1, ar1, fd, tr, ld1) jb).1) 9) ((cCrush (sc1, sw1, ar1, fd, tr, ld1) jb).2.2.1) fd ((cCrush (sc1, sw1, ar1, fd, tr, ld1) jb).2.2.2.2.2) (n 2))]) rfl ?_
          refine lv_astore_nX (lv' := [(2, ov la.1 4 (cNext (((cCrush (sc1, sw1, ar1, fd, tr, ld1) jb).1) 9) ((cCrush (sc1, sw1, ar1, fd, tr, ld1) jb).2.2.1) fd ((cCrush (sc1, sw1, ar1, fd, tr, ld1) jb).2.2.2.2.2) (n 2))), (1, .int (all1 + (ld1 jb 1))), (0, .ref (la.1 0 0))]) hx hb dX2_crush_40 rfl hl (by decide) rfl (fun ls hl => ?_)
          refine lv_goto (tgt := 7) hx hb dX2_crush_41 (by decide) ?_
          exact ih H locs ls _ _ _ _ _ hS (Nat.lt_of_succ_lt_succ (Nat.lt_of_le_of_lt (Nat.le_of_eq ((cYard_crush (by decide : (3 : Int32) ≠ 2) (cNext_lt hob).2).1 hjb)) hfu)) (hR.trans (cMill_c hob c_4)) hv hw (lv_sub hl [0, 1, 2] rfl)
  exact lp_1 (n 2 + 1) H locs ls _ _ _ _ _ hS (Nat.lt_succ_of_le (cYard_le _ _)) rfl hv hw (lv_sub hl [0, 1, 2] rfl)

set_option maxHeartbeats 4000000 in
theorem m_W_drive (l : Launch) (g : GT) (sz : Nat) (la : LT) (sc : Nat → Int32) (sw : Int64) (ar fd tr ld : Nat → Nat → Int32) (n : CN) (hn : cN n) (hv : cV n fd tr ld) (k : Nat) (hk : k < n 1) (h0 : ¬ tr k 0 = 0) : Cn l g yX2_drive cX2_drive 3 (none) 4 0 0 [.ref (la.1 0 0), .ref (la.1 3 k)] (fA (cF la n) sz) (fun H => sz = H.size ∧ cw g (bA g) la (sc, sw, ar, fd, tr, ld, n) H) (fun Hp rv Hq => rv = none ∧ cw g (fA (cF la n) sz) la (mkC (cDrive n (sc, sw, ar, fd, tr, ld) k) n) Hq) := by
  refine Cn.start (plainFor_of_name (by decide +kernel)) (Nat.le_of_ble_eq_true rfl) ?_
  intro p ev s m below meth c ls H locs hH hx hb hr hts hown hlocks hml hnm hK hP hS hl
  obtain ⟨hsz, hw⟩ := hP
  have hszs : sz = s.heap.size := by rw [hsz, hH]
  have hAs : ∀ q, s.heap.size ≤ q → (fA (cF la n) sz) q := fun q h => Or.inr (by rw [hszs]; exact h)
  have hAb : ∀ q, (fA (cF la n) sz) q → bA g q := fun q h => h.elim (hw.1.ft q) (fun h => Nat.le_trans hK.2.2.sz (by rw [← hszs]; exact h))
  replace hw : cw g (fA (cF la n) sz) la (sc, sw, ar, fd, tr, ld, n) H := cw.self hw sz
  have hx1 := cV.tr1 hv hk h0
  have fx : Fx p s m ([.ref (la.1 0 0), .ref (la.1 3 k)] : List Value).toArray c cX2_drive RX2 g (fA (cF la n) sz) 3 := ⟨hx, hb, hts, hown, hK, hAb, hml⟩
  have hl : lv_has ls 3 [(0, .ref (la.1 0 0)), (1, .ref (la.1 3 k))] := hl
  refine lv_aload_n hx hb dX2_drive_0 rfl (lv_at hl 1 rfl) ?_
  refine lv_iconst (v := 0) hx hb dX2_drive_1 (by decide) ?_
  refine lv_aload_n hx hb dX2_drive_2 rfl (lv_at hl 1 rfl) ?_
  refine mgetN fx tfX7 (cw.t hw hk) 3 (by decide) q488 (fun _ h => h) (v := .int (tr k 3)) rfl dX2_drive_3 ?_
  refine lv_iconst (v := 1) hx hb dX2_drive_6 (by decide) ?_
  refine lv_isub hx hb dX2_drive_7 ?_
  refine kS fx (m_max l g 0 ((tr k 3) - 1)) (lw_S q423 q375 q67 q376) hdJ12_max ⟨(Nat.le_of_ble_eq_true rfl), (Nat.le_of_ble_eq_true rfl)⟩ ⟨(Nat.le_of_ble_eq_true rfl), (Nat.le_of_ble_eq_true rfl)⟩ hl.1 hS rfl (Nat.le_of_ble_eq_true rfl) trivial (fun _ h => h.elim) dX2_drive_8 (fun rv9 H locs hQ hz9 hk9 hS => ?_)
  obtain ⟨rfl, rfl⟩ := hQ
  refine W.eq (g2 := F0 m 11 ls [.int (jmax 0 ((tr k 3) - 1)), .ref (la.1 3 k)]) rfl ?_
  refine mputN fx tfX7 (cw.t hw hk) hS (cw.inT hw hk) 3 (by decide) q488 (fun _ h => h) rfl rfl rfl (Nat.le_of_ble_eq_true rfl) dX2_drive_11 (fun H locs hat hz hoq hS => ?_)
  replace hw : cw g (fA (cF la n) sz) la (sc, sw, ar, fd, va_up tr k (ob4 (tr k 0) (tr k 1) (tr k 2) (jmax 0 ((tr k 3) - 1))), ld, n) H := cw.setTc hw hk hat (fun q _ h9 => hoq q h9)
  refine lv_aload_n hx hb dX2_drive_14 rfl (lv_at hl 1 rfl) ?_
  refine mgetN fx tfX7 (cw.tS hw hk) 3 (by decide) q488 (fun _ h => h) (v := .int (jmax 0 ((tr k 3) - 1))) rfl dX2_drive_15 ?_
  refine lv_if_le (tgt := 22) hx hb dX2_drive_18 (by decide) (fun c_1 => ?_) (fun c_1 => ?_)
  · skip
    refine lv_aload_n hx hb dX2_drive_22 rfl (lv_at hl 1 rfl) ?_
    refine mgetN fx tfX7 (cw.tS hw hk) 0 (by decide) q479 (fun _ h => h) (v := .int (tr k 0)) rfl dX2_drive_23 ?_
    refine lv_iconst (v := 2) hx hb dX2_drive_26 (by decide) ?_
    refine lv_icmp_ne (tgt := 73) hx hb dX2_drive_27 (by decide) (fun c_2 => ?_) (fun c_2 => ?_)
    · skip
      refine lv_aload_n hx hb dX2_drive_73 rfl (lv_at hl 0 rfl) ?_
      refine lv_aload_n hx hb dX2_drive_74 rfl (lv_at hl 1 rfl) ?_
      refine mgetN fx tfX7 (cw.tS hw hk) 1 (by decide) q482 (fun _ h => h) (v := .int (tr k 1)) rfl dX2_drive_75 ?_
      refine kV fx (m_W_firstAt l g la sc sw ar fd (va_up tr k (ob4 (tr k 0) (tr k 1) (tr k 2) (jmax 0 ((tr k 3) - 1)))) ld n hn (tr k 1)) (lw_V q564 q566 qs14 q51 q567) hdX2_firstAt ⟨(Nat.le_of_ble_eq_true rfl), (Nat.le_of_ble_eq_true rfl)⟩ ⟨(Nat.le_of_ble_eq_true rfl), (Nat.le_of_ble_eq_true rfl)⟩ hl.1 hS tfX2.2.1 (cw.w hw) rfl (Nat.le_of_ble_eq_true rfl) (cw.weaken hw fx.2.2.2.2.2.1) (fun _ h => h.elim) dX2_drive_78 (fun rv9 H locs hQ hz9 hk9 hS => ?_)
      obtain ⟨rfl, rfl⟩ := hQ
      refine W.eq (g2 := F0 m 81 ls [.int (oI (cFirst ld (n 2) (tr k 1)))]) rfl ?_
      rcases opt_cases (cFirst ld (n 2) (tr k 1)) with hob | ⟨jb, hob⟩
      · skip
        refine W.eq (g2 := F0 m 81 ls [.int (-1)]) (congrArg (fun z => F0 m 81 ls [.int (oI z)]) hob) ?_
        refine lv_istore_n (lv' := [(2, .int (-1)), (0, .ref (la.1 0 0)), (1, .ref (la.1 3 k))]) hx hb dX2_drive_81 rfl hl (by decide) rfl (fun ls hl => ?_)
        refine lv_iload_n hx hb dX2_drive_82 rfl (lv_at hl 0 rfl) ?_
        refine lv_iconst (v := (-1)) hx hb dX2_drive_83 (by decide) ?_
        refine lv_icmp_ne (tgt := 88) hx hb dX2_drive_84 (by decide) (fun h9 => absurd rfl h9) (fun _ => ?_)
        exact rv hx hb hr hlocks hS (by rw [cDrive_n c_1 c_2 hob]; exact ⟨rfl, hw⟩) ⟨(Nat.le_of_ble_eq_true rfl), (Nat.le_of_ble_eq_true rfl)⟩ dX2_drive_87
      · skip
        refine W.eq (g2 := F0 m 81 ls [.int (nI jb)]) (congrArg (fun z => F0 m 81 ls [.int (oI z)]) hob) ?_
        have hjb : jb < n 2 := (fs_spec hob).1
        have hjn := nI_nm1 (Nat.lt_trans hjb hn.h2)
        refine lv_istore_n (lv' := [(2, .int (nI jb)), (0, .ref (la.1 0 0)), (1, .ref (la.1 3 k))]) hx hb dX2_drive_81 rfl hl (by decide) rfl (fun ls hl => ?_)
        refine lv_iload_n hx hb dX2_drive_82 rfl (lv_at hl 0 rfl) ?_
        refine lv_iconst (v := (-1)) hx hb dX2_drive_83 (by decide) ?_
        refine lv_icmp_ne (tgt := 88) hx hb dX2_drive_84 (by decide) (fun _ => ?_) (fun h9 => absurd h9 hjn)
        refine lv_aload_n hx hb dX2_drive_88 rfl (lv_at hl 1 rfl) ?_
        refine mget fx tfX2 (cw.w hw) 2 (by decide) q124 (fun _ h => h) (v := .ref (la.1 0 3)) rfl dX2_drive_89 ?_
        refine lv_iload_n hx hb dX2_drive_92 rfl (lv_at hl 0 rfl) ?_
        refine kV fx (m_AL_get l g (la.1 0 3) (la.1 1 2) jb (n 2) (la.2.1 2) (la.1 4 jb) (la.2.2 2) (elF la.1 n 2) hjb (cw.get hw (k := 2) (by decide) hjb).2.1 (cw.get hw (k := 2) (by decide) hjb).2.2.1 (cw.get hw (k := 2) (by decide) hjb).2.2.2) (lw_V q262 q263 q264 q54 q265) hdJ2_get ⟨(Nat.le_of_ble_eq_true rfl), (Nat.le_of_ble_eq_true rfl)⟩ ⟨(Nat.le_of_ble_eq_true rfl), (Nat.le_of_ble_eq_true rfl)⟩ hl.1 hS tfJ2.2.1 (cw.al2 hw) rfl (Nat.le_of_ble_eq_true rfl) (⟨(cw.al2 hw), (cw.get hw (k := 2) (by decide) hjb).1⟩) (fun _ h => h.elim) dX2_drive_93 (fun rv9 H locs hQ hz9 hk9 hS => ?_)
        obtain ⟨rfl, rfl⟩ := hQ
        refine W.eq (g2 := F0 m 96 ls [.ref (la.1 4 jb)]) rfl ?_
        refine mcast fx tfX9 (cw.l hw hjb) q276 dX2_drive_96 ?_
        refine lv_iconst (v := 1) hx hb dX2_drive_99 (by decide) ?_
        refine mputN fx tfX9 (cw.l hw hjb) hS (cw.inL hw hjb) 6 (by decide) q525 (fun _ h => h) rfl rfl rfl (Nat.le_of_ble_eq_true rfl) dX2_drive_100 (fun H locs hat hz hoq hS => ?_)
        replace hw : cw g (fA (cF la n) sz) la (sc, sw, ar, fd, va_up tr k (ob4 (tr k 0) (tr k 1) (tr k 2) (jmax 0 ((tr k 3) - 1))), va_up ld jb (ob9 (ld jb 0) (ld jb 1) (ld jb 2) (ld jb 3) (ld jb 4) (ld jb 5) 1 (ld jb 7) (ld jb 8)), n) H := cw.setLc hw hjb hat (fun q _ h9 => hoq q h9)
        refine lv_aload_n hx hb dX2_drive_103 rfl (lv_at hl 2 rfl) ?_
        refine lv_iconst (v := 2) hx hb dX2_drive_104 (by decide) ?_
        refine mputN fx tfX7 (cw.tS hw hk) hS (cw.inT hw hk) 0 (by decide) q479 (fun _ h => h) rfl rfl rfl (Nat.le_of_ble_eq_true rfl) dX2_drive_105 (fun H locs hat hz hoq hS => ?_)
        replace hw : cw g (fA (cF la n) sz) la (sc, sw, ar, fd, va_up tr k (ob4 2 (tr k 1) (tr k 2) (jmax 0 ((tr k 3) - 1))), va_up ld jb (ob9 (ld jb 0) (ld jb 1) (ld jb 2) (ld jb 3) (ld jb 4) (ld jb 5) 1 (ld jb 7) (ld jb 8)), n) H := cw.setT2c hw hk hat (fun q _ h9 => hoq q h9)
        refine lv_aload_n hx hb dX2_drive_108 rfl (lv_at hl 2 rfl) ?_
        refine lv_iload_n hx hb dX2_drive_109 rfl (lv_at hl 0 rfl) ?_
        refine mputN fx tfX7 (cw.tS hw hk) hS (cw.inT hw hk) 2 (by decide) q485 (fun _ h => h) rfl rfl rfl (Nat.le_of_ble_eq_true rfl) dX2_drive_110 (fun H locs hat hz hoq hS => ?_)
        replace hw : cw g (fA (cF la n) sz) la (sc, sw, ar, fd, va_up tr k (ob4 2 (tr k 1) (nI jb) (jmax 0 ((tr k 3) - 1))), va_up ld jb (ob9 (ld jb 0) (ld jb 1) (ld jb 2) (ld jb 3) (ld jb 4) (ld jb 5) 1 (ld jb 7) (ld jb 8)), n) H := cw.setT2c hw hk hat (fun q _ h9 => hoq q h9)
        refine lv_aload_n hx hb dX2_drive_113 rfl (lv_at hl 2 rfl) ?_
        refine lv_aload_n hx hb dX2_drive_114 rfl (lv_at hl 1 rfl) ?_
        refine mget fx tfX2 (cw.w hw) 0 (by decide) q120 (fun _ h => h) (v := .ref (la.1 0 1)) rfl dX2_drive_115 ?_
        refine lv_aload_n hx hb dX2_drive_118 rfl (lv_at hl 2 rfl) ?_
        refine mgetN fx tfX7 (cw.tS hw hk) 1 (by decide) q482 (fun _ h => h) (v := .int (tr k 1)) rfl dX2_drive_119 ?_
        refine W.eq (g2 := F0 m 122 ls [.int (nI (iN (tr k 1))), .ref (la.1 0 1), .ref (la.1 3 k)]) (congrArg (fun z => F0 m 122 ls [.int z, .ref (la.1 0 1), .ref (la.1 3 k)]) hx1.1) ?_
        refine kV fx (m_AL_get l g (la.1 0 1) (la.1 1 0) (iN (tr k 1)) (n 0) (la.2.1 0) (la.1 2 (iN (tr k 1))) (la.2.2 0) (elF la.1 n 0) hx1.2 (cw.get hw (k := 0) (by decide) hx1.2).2.1 (cw.get hw (k := 0) (by decide) hx1.2).2.2.1 (cw.get hw (k := 0) (by decide) hx1.2).2.2.2) (lw_V q262 q263 q264 q54 q265) hdJ2_get ⟨(Nat.le_of_ble_eq_true rfl), (Nat.le_of_ble_eq_true rfl)⟩ ⟨(Nat.le_of_ble_eq_true rfl), (Nat.le_of_ble_eq_true rfl)⟩ hl.1 hS tfJ2.2.1 (cw.al0 hw) rfl (Nat.le_of_ble_eq_true rfl) (⟨(cw.al0 hw), (cw.get hw (k := 0) (by decide) hx1.2).1⟩) (fun _ h => h.elim) dX2_drive_122 (fun rv9 H locs hQ hz9 hk9 hS => ?_)
        obtain ⟨rfl, rfl⟩ := hQ
        refine W.eq (g2 := F0 m 125 ls [.ref (la.1 2 (iN (tr k 1))), .ref (la.1 3 k)]) rfl ?_
        refine mcast fx tfX5 (cw.f hw hx1.2) q422 dX2_drive_125 ?_
        refine mgetN fx tfX5 (cw.f hw hx1.2) 2 (by decide) q313 (fun _ h => h) (v := .int (fd (iN (tr k 1)) 2)) rfl dX2_drive_128 ?_
        refine mputN fx tfX7 (cw.tS hw hk) hS (cw.inT hw hk) 3 (by decide) q488 (fun _ h => h) rfl rfl rfl (Nat.le_of_ble_eq_true rfl) dX2_drive_131 (fun H locs hat hz hoq hS => ?_)
        replace hw : cw g (fA (cF la n) sz) la (sc, sw, ar, fd, va_up tr k (ob4 2 (tr k 1) (nI jb) (fd (iN (tr k 1)) 2)), va_up ld jb (ob9 (ld jb 0) (ld jb 1) (ld jb 2) (ld jb 3) (ld jb 4) (ld jb 5) 1 (ld jb 7) (ld jb 8)), n) H := cw.setT2c hw hk hat (fun q _ h9 => hoq q h9)
        exact rv hx hb hr hlocks hS (by rw [cDrive_1 c_1 c_2 hob]; exact ⟨rfl, hw⟩) ⟨(Nat.le_of_ble_eq_true rfl), (Nat.le_of_ble_eq_true rfl)⟩ dX2_drive_134
    have hx2 := (cV.tr2 hv hk c_2).2
    · skip
      refine lv_aload_n hx hb dX2_drive_30 rfl (lv_at hl 0 rfl) ?_
      refine mget fx tfX2 (cw.w hw) 2 (by decide) q124 (fun _ h => h) (v := .ref (la.1 0 3)) rfl dX2_drive_31 ?_
      refine lv_aload_n hx hb dX2_drive_34 rfl (lv_at hl 1 rfl) ?_
      refine mgetN fx tfX7 (cw.tS hw hk) 2 (by decide) q485 (fun _ h => h) (v := .int (tr k 2)) rfl dX2_drive_35 ?_
      refine W.eq (g2 := F0 m 38 ls [.int (nI (iN (tr k 2))), .ref (la.1 0 3)]) (congrArg (fun z => F0 m 38 ls [.int z, .ref (la.1 0 3)]) hx2.1) ?_
      refine kV fx (m_AL_get l g (la.1 0 3) (la.1 1 2) (iN (tr k 2)) (n 2) (la.2.1 2) (la.1 4 (iN (tr k 2))) (la.2.2 2) (elF la.1 n 2) hx2.2 (cw.get hw (k := 2) (by decide) hx2.2).2.1 (cw.get hw (k := 2) (by decide) hx2.2).2.2.1 (cw.get hw (k := 2) (by decide) hx2.2).2.2.2) (lw_V q262 q263 q264 q54 q265) hdJ2_get ⟨(Nat.le_of_ble_eq_true rfl), (Nat.le_of_ble_eq_true rfl)⟩ ⟨(Nat.le_of_ble_eq_true rfl), (Nat.le_of_ble_eq_true rfl)⟩ hl.1 hS tfJ2.2.1 (cw.al2 hw) rfl (Nat.le_of_ble_eq_true rfl) (⟨(cw.al2 hw), (cw.get hw (k := 2) (by decide) hx2.2).1⟩) (fun _ h => h.elim) dX2_drive_38 (fun rv9 H locs hQ hz9 hk9 hS => ?_)
      obtain ⟨rfl, rfl⟩ := hQ
      refine W.eq (g2 := F0 m 41 ls [.ref (la.1 4 (iN (tr k 2)))]) rfl ?_
      refine mcast fx tfX9 (cw.l hw hx2.2) q276 dX2_drive_41 ?_
      refine lv_astore_n (lv' := [(2, .ref (la.1 4 (iN (tr k 2)))), (0, .ref (la.1 0 0)), (1, .ref (la.1 3 k))]) hx hb dX2_drive_44 rfl hl (by decide) rfl (fun ls hl => ?_)
      refine lv_aload_n hx hb dX2_drive_45 rfl (lv_at hl 0 rfl) ?_
      refine lv_iconst (v := 2) hx hb dX2_drive_46 (by decide) ?_
      refine mputN fx tfX9 (cw.l hw hx2.2) hS (cw.inL hw hx2.2) 6 (by decide) q525 (fun _ h => h) rfl rfl rfl (Nat.le_of_ble_eq_true rfl) dX2_drive_47 (fun H locs hat hz hoq hS => ?_)
      replace hw : cw g (fA (cF la n) sz) la (sc, sw, ar, fd, va_up tr k (ob4 (tr k 0) (tr k 1) (tr k 2) (jmax 0 ((tr k 3) - 1))), va_up ld (iN (tr k 2)) (ob9 (ld (iN (tr k 2)) 0) (ld (iN (tr k 2)) 1) (ld (iN (tr k 2)) 2) (ld (iN (tr k 2)) 3) (ld (iN (tr k 2)) 4) (ld (iN (tr k 2)) 5) 2 (ld (iN (tr k 2)) 7) (ld (iN (tr k 2)) 8)), n) H := cw.setLc hw hx2.2 hat (fun q _ h9 => hoq q h9)
      refine lv_aload_n hx hb dX2_drive_50 rfl (lv_at hl 0 rfl) ?_
      refine lv_aload_n hx hb dX2_drive_51 rfl (lv_at hl 1 rfl) ?_
      refine mget fx tfX2 (cw.w hw) 7 (by decide) q134 (fun _ h => h) (v := .int (sc 1)) rfl dX2_drive_52 ?_
      refine mputN fx tfX9 (cw.lS hw hx2.2) hS (cw.inL hw hx2.2) 7 (by decide) q528 (fun _ h => h) rfl rfl rfl (Nat.le_of_ble_eq_true rfl) dX2_drive_55 (fun H locs hat hz hoq hS => ?_)
      replace hw : cw g (fA (cF la n) sz) la (sc, sw, ar, fd, va_up tr k (ob4 (tr k 0) (tr k 1) (tr k 2) (jmax 0 ((tr k 3) - 1))), va_up ld (iN (tr k 2)) (ob9 (ld (iN (tr k 2)) 0) (ld (iN (tr k 2)) 1) (ld (iN (tr k 2)) 2) (ld (iN (tr k 2)) 3) (ld (iN (tr k 2)) 4) (ld (iN (tr k 2)) 5) 2 (sc 1) (ld (iN (tr k 2)) 8)), n) H := cw.setL2c hw hx2.2 hat (fun q _ h9 => hoq q h9)
      refine lv_aload_n hx hb dX2_drive_58 rfl (lv_at hl 1 rfl) ?_
      refine lv_dup hx hb dX2_drive_59 rfl ?_
      refine mget fx tfX2 (cw.w hw) 7 (by decide) q134 (fun _ h => h) (v := .int (sc 1)) rfl dX2_drive_60 ?_
      refine lv_iconst (v := 1) hx hb dX2_drive_63 (by decide) ?_
      refine lv_iadd hx hb dX2_drive_64 ?_
      refine mput fx tfX2 (cw.w hw) hS (cw.inW hw (by decide)) 7 (by decide) q134 (fun _ h => h) rfl rfl rfl (Nat.le_of_ble_eq_true rfl) dX2_drive_65 (fun H locs hat hz hoq hS => ?_)
      replace hw : cw g (fA (cF la n) sz) la (va_up sc 1 ((sc 1) + 1), sw, ar, fd, va_up tr k (ob4 (tr k 0) (tr k 1) (tr k 2) (jmax 0 ((tr k 3) - 1))), va_up ld (iN (tr k 2)) (ob9 (ld (iN (tr k 2)) 0) (ld (iN (tr k 2)) 1) (ld (iN (tr k 2)) 2) (ld (iN (tr k 2)) 3) (ld (iN (tr k 2)) 4) (ld (iN (tr k 2)) 5) 2 (sc 1) (ld (iN (tr k 2)) 8)), n) H := cw.setW hw hat (fun q _ h9 => hoq q h9)
      refine lv_aload_n hx hb dX2_drive_68 rfl (lv_at hl 2 rfl) ?_
      refine kV fx (m_T_stand l g (la.1 3 k) (tr k 0) (tr k 1) (tr k 2) (jmax 0 ((tr k 3) - 1))  (fx.2.2.2.2.2.1 _ (cw.inT hw hk)) ) (lw_V q560 q561 q562 q71 q563) hdX7_stand ⟨(Nat.le_of_ble_eq_true rfl), (Nat.le_of_ble_eq_true rfl)⟩ ⟨(Nat.le_of_ble_eq_true rfl), (Nat.le_of_ble_eq_true rfl)⟩ hl.1 hS tfX7.2.1 (cw.tS hw hk) rfl (Nat.le_of_ble_eq_true rfl) (cw.tS hw hk) (fun q h => by cases h; exact (cw.inT hw hk)) dX2_drive_69 (fun rv9 H locs hQ hz9 hk9 hS => ?_)
      obtain ⟨rfl, hat⟩ := hQ
      replace hw : cw g (fA (cF la n) sz) la (va_up sc 1 ((sc 1) + 1), sw, ar, fd, va_up tr k (ob4 0 (-1) (-1) 0), va_up ld (iN (tr k 2)) (ob9 (ld (iN (tr k 2)) 0) (ld (iN (tr k 2)) 1) (ld (iN (tr k 2)) 2) (ld (iN (tr k 2)) 3) (ld (iN (tr k 2)) 4) (ld (iN (tr k 2)) 5) 2 (sc 1) (ld (iN (tr k 2)) 8)), n) H := cw.setT2c hw hk hat (fun q h9 h8 => hk9 q h9 h8)
      refine W.eq (g2 := F0 m 72 ls []) rfl ?_
      exact rv hx hb hr hlocks hS (by rw [cDrive_2 c_1 c_2]; exact ⟨rfl, hw⟩) ⟨(Nat.le_of_ble_eq_true rfl), (Nat.le_of_ble_eq_true rfl)⟩ dX2_drive_72
  · skip
    exact rv hx hb hr hlocks hS (by rw [cDrive_0 c_1]; exact ⟨rfl, hw⟩) ⟨(Nat.le_of_ble_eq_true rfl), (Nat.le_of_ble_eq_true rfl)⟩ dX2_drive_21

set_option maxHeartbeats 4000000 in
theorem m_W_endFields (l : Launch) (g : GT) (sz : Nat) (la : LT) (sc : Nat → Int32) (sw : Int64) (ar fd tr ld : Nat → Nat → Int32) (n : CN) (hn : cN n) (hv : cV n fd tr ld) (x y : Int32) : Cn l g yX2_endFields cX2_endFields 5 (none) 3 1 12 [.ref (la.1 0 0), .int x, .int y] (fA (cF la n) sz) (fun H => sz = H.size ∧ cw g (bA g) la (sc, sw, ar, fd, tr, ld, n) H) (fun Hp rv Hq => rv = none ∧ cw g (fA (cF la n) sz) la (sc, sw, ar, cFields (n 0) fd x y, tr, ld, n) Hq) := by
  refine Cn.start (plainFor_of_name (by decide +kernel)) (Nat.le_of_ble_eq_true rfl) ?_
  intro p ev s m below meth c ls H locs hH hx hb hr hts hown hlocks hml hnm hK hP hS hl
  obtain ⟨hsz, hw⟩ := hP
  have hszs : sz = s.heap.size := by rw [hsz, hH]
  have hAs : ∀ q, s.heap.size ≤ q → (fA (cF la n) sz) q := fun q h => Or.inr (by rw [hszs]; exact h)
  have hAb : ∀ q, (fA (cF la n) sz) q → bA g q := fun q h => h.elim (hw.1.ft q) (fun h => Nat.le_trans hK.2.2.sz (by rw [← hszs]; exact h))
  replace hw : cw g (fA (cF la n) sz) la (sc, sw, ar, fd, tr, ld, n) H := cw.self hw sz
  have hn9 : n 0 ≤ 10 := hn.1
  have fx : Fx p s m ([.ref (la.1 0 0), .int x, .int y] : List Value).toArray c cX2_endFields RX2 g (fA (cF la n) sz) 5 := ⟨hx, hb, hts, hown, hK, hAb, hml⟩
  have hl : lv_has ls 5 [(0, .ref (la.1 0 0)), (1, .int x), (2, .int y)] := hl
  refine lv_bipush (v := 12) hx hb dX2_endFields_0 (by decide) ?_
  refine mnewa fx q208 hS 12 rfl (by decide) ⟨(Nat.le_of_ble_eq_true rfl), (Nat.le_of_ble_eq_true rfl)⟩ dX2_endFields_2 (fun an_2 H ean_2 hloan_2 hat hz hoq hS => ?_)
  have nin_3 : ∀ q, cF la n q → q ≠ an_2 := fun q h9 => Nat.ne_of_lt (by rw [ean_2]; exact hw.1.ftlt q h9)
  replace hw : cw g (fA (cF la n) sz) la (sc, sw, ar, fd, tr, ld, n) H := cw.kept hw (fun q h9 _ => hoq q (by rw [ean_2]; exact h9))
  have inan_2 := hAs an_2 hloan_2
  have hn_1 : mAt g an_2 (.inl (g.2.1 0, 12, .inl (fun _ => 0))) H := hat
  refine lv_astore_n (lv' := [(3, .ref an_2), (0, .ref (la.1 0 0)), (1, .int x), (2, .int y)]) hx hb dX2_endFields_4 rfl hl (by decide) rfl (fun ls hl => ?_)
  refine lv_iconst (v := 0) hx hb dX2_endFields_5 (by decide) ?_
  refine lv_istore (lv' := [(4, .int 0), (3, .ref an_2), (0, .ref (la.1 0 0)), (1, .int x), (2, .int y)]) hx hb dX2_endFields_6 hl (by decide) rfl (fun ls hl => ?_)
  have lp_4 : ∀ (d_5 i : Nat) (H : Heap) (locs : List Loc) (ls : Array Slot), i + d_5 = n 0 → va_S (fA (cF la n) sz) s.heap H locs → mAt g an_2 (.inl (g.2.1 0, 12, .inl (cHad fd i))) H → cw g (fA (cF la n) sz) la (sc, sw, ar, fd, tr, ld, n) H → lv_has ls 5 [(4, .int (nI i)), (3, .ref an_2), (0, .ref (la.1 0 0)), (1, .int x), (2, .int y)] → W p l ev (mR 3 1 12) s m ([.ref (la.1 0 0), .int x, .int y] : List Value).toArray below meth c H locs 1 12 (MQ below (mQ (fA (cF la n) sz) (fun Hp rv Hq => rv = none ∧ cw g (fA (cF la n) sz) la (sc, sw, ar, cFields (n 0) fd x y, tr, ld, n) Hq)) ([.ref (la.1 0 0), .int x, .int y] : List Value).toArray s 1 12 (fA (cF la n) sz)) (F0 m 8 ls []) := by
    intro d_5
    induction d_5 with
    | zero =>
      intro i H locs ls hid hS hn_1 hw hl
      obtain rfl : n 0 = i := by omega
      refine lv_iload hx hb dX2_endFields_8 (lv_at hl 0 rfl) ?_
      refine lv_aload_n hx hb dX2_endFields_10 rfl (lv_at hl 2 rfl) ?_
      refine mget fx tfX2 (cw.w hw) 0 (by decide) q120 (fun _ h => h) (v := .ref (la.1 0 1)) rfl dX2_endFields_11 ?_
      refine kV fx (m_AL_size l g (la.1 0 1) (la.1 1 0) (la.2.2 0) (nI (n 0))) (lw_V q261 q254 q255 q54 q256) hdJ2_size ⟨(Nat.le_of_ble_eq_true rfl), (Nat.le_of_ble_eq_true rfl)⟩ ⟨(Nat.le_of_ble_eq_true rfl), (Nat.le_of_ble_eq_true rfl)⟩ hl.1 hS tfJ2.2.1 (cw.al0 hw) rfl (Nat.le_of_ble_eq_true rfl) (cw.al0 hw) (fun _ h => h.elim) dX2_endFields_14 (fun rv9 H locs hQ hz9 hk9 hS => ?_)
      obtain ⟨rfl, rfl⟩ := hQ
      refine W.eq (g2 := F0 m 17 ls [.int (nI (n 0)), .int (nI (n 0))]) rfl ?_
      refine lv_icmp_ge (tgt := 47) hx hb dX2_endFields_17 (by decide) (fun _ => ?_) (fun h9 => absurd (nI_le (Nat.le_refl _) hn.h0) h9)
      refine lv_iconst (v := 0) hx hb dX2_endFields_47 (by decide) ?_
      refine lv_istore (lv' := [(4, .int 0), (3, .ref an_2), (0, .ref (la.1 0 0)), (1, .int x), (2, .int y)]) hx hb dX2_endFields_48 hl (by decide) rfl (fun ls hl => ?_)
      have lp_6 : ∀ (d_7 i : Nat) (H : Heap) (locs : List Loc) (ls : Array Slot), i + d_7 = n 0 → va_S (fA (cF la n) sz) s.heap H locs → mAt g an_2 (.inl (g.2.1 0, 12, .inl (cHad fd (n 0)))) H → cw g (fA (cF la n) sz) la (sc, sw, ar, cEndF fd (cHad fd (n 0)) x y i, tr, ld, n) H → lv_has ls 5 [(4, .int (nI i)), (3, .ref an_2), (0, .ref (la.1 0 0)), (1, .int x), (2, .int y)] → W p l ev (mR 3 1 12) s m ([.ref (la.1 0 0), .int x, .int y] : List Value).toArray below meth c H locs 1 12 (MQ below (mQ (fA (cF la n) sz) (fun Hp rv Hq => rv = none ∧ cw g (fA (cF la n) sz) la (sc, sw, ar, cFields (n 0) fd x y, tr, ld, n) Hq)) ([.ref (la.1 0 0), .int x, .int y] : List Value).toArray s 1 12 (fA (cF la n) sz)) (F0 m 50 ls []) := by
        intro d_7
        induction d_7 with
        | zero =>
          intro i H locs ls hid hS hn_1 hw hl
          obtain rfl : n 0 = i := by omega
          refine lv_iload hx hb dX2_endFields_50 (lv_at hl 0 rfl) ?_
          refine lv_aload_n hx hb dX2_endFields_52 rfl (lv_at hl 2 rfl) ?_
          refine mget fx tfX2 (cw.w hw) 0 (by decide) q120 (fun _ h => h) (v := .ref (la.1 0 1)) rfl dX2_endFields_53 ?_
          refine kV fx (m_AL_size l g (la.1 0 1) (la.1 1 0) (la.2.2 0) (nI (n 0))) (lw_V q261 q254 q255 q54 q256) hdJ2_size ⟨(Nat.le_of_ble_eq_true rfl), (Nat.le_of_ble_eq_true rfl)⟩ ⟨(Nat.le_of_ble_eq_true rfl), (Nat.le_of_ble_eq_true rfl)⟩ hl.1 hS tfJ2.2.1 (cw.al0 hw) rfl (Nat.le_of_ble_eq_true rfl) (cw.al0 hw) (fun _ h => h.elim) dX2_endFields_56 (fun rv9 H locs hQ hz9 hk9 hS => ?_)
          obtain ⟨rfl, rfl⟩ := hQ
          refine W.eq (g2 := F0 m 59 ls [.int (nI (n 0)), .int (nI (n 0))]) rfl ?_
          refine lv_icmp_ge (tgt := 98) hx hb dX2_endFields_59 (by decide) (fun _ => ?_) (fun h9 => absurd (nI_le (Nat.le_refl _) hn.h0) h9)
          exact rv hx hb hr hlocks hS (⟨rfl, hw⟩) ⟨(Nat.le_of_ble_eq_true rfl), (Nat.le_of_ble_eq_true rfl)⟩ dX2_endFields_98
        | succ d_7 ih =>
          intro i H locs ls hid hS hn_1 hw hl
          have hi_i : i < n 0 := by omega
          have hvi := (cV.endF (had := cHad fd (n 0)) (w := x) (r := y) hv i (Nat.le_of_lt hi_i)).1 i hi_i
          refine lv_iload hx hb dX2_endFields_50 (lv_at hl 0 rfl) ?_
          refine lv_aload_n hx hb dX2_endFields_52 rfl (lv_at hl 2 rfl) ?_
          refine mget fx tfX2 (cw.w hw) 0 (by decide) q120 (fun _ h => h) (v := .ref (la.1 0 1)) rfl dX2_endFields_53 ?_
          refine kV fx (m_AL_size l g (la.1 0 1) (la.1 1 0) (la.2.2 0) (nI (n 0))) (lw_V q261 q254 q255 q54 q256) hdJ2_size ⟨(Nat.le_of_ble_eq_true rfl), (Nat.le_of_ble_eq_true rfl)⟩ ⟨(Nat.le_of_ble_eq_true rfl), (Nat.le_of_ble_eq_true rfl)⟩ hl.1 hS tfJ2.2.1 (cw.al0 hw) rfl (Nat.le_of_ble_eq_true rfl) (cw.al0 hw) (fun _ h => h.elim) dX2_endFields_56 (fun rv9 H locs hQ hz9 hk9 hS => ?_)
          obtain ⟨rfl, rfl⟩ := hQ
          refine W.eq (g2 := F0 m 59 ls [.int (nI (n 0)), .int (nI i)]) rfl ?_
          refine lv_icmp_ge (tgt := 98) hx hb dX2_endFields_59 (by decide) (fun h9 => absurd h9 (nI_ge hi_i hn.h0)) (fun _ => ?_)
          refine lv_aload_n hx hb dX2_endFields_62 rfl (lv_at hl 2 rfl) ?_
          refine mget fx tfX2 (cw.w hw) 0 (by decide) q120 (fun _ h => h) (v := .ref (la.1 0 1)) rfl dX2_endFields_63 ?_
          refine lv_iload hx hb dX2_endFields_66 (lv_at hl 0 rfl) ?_
          refine kV fx (m_AL_get l g (la.1 0 1) (la.1 1 0) i (n 0) (la.2.1 0) (la.1 2 i) (la.2.2 0) (elF la.1 n 0) hi_i (cw.get hw (k := 0) (by decide) hi_i).2.1 (cw.get hw (k := 0) (by decide) hi_i).2.2.1 (cw.get hw (k := 0) (by decide) hi_i).2.2.2) (lw_V q262 q263 q264 q54 q265) hdJ2_get ⟨(Nat.le_of_ble_eq_true rfl), (Nat.le_of_ble_eq_true rfl)⟩ ⟨(Nat.le_of_ble_eq_true rfl), (Nat.le_of_ble_eq_true rfl)⟩ hl.1 hS tfJ2.2.1 (cw.al0 hw) rfl (Nat.le_of_ble_eq_true rfl) (⟨(cw.al0 hw), (cw.get hw (k := 0) (by decide) hi_i).1⟩) (fun _ h => h.elim) dX2_endFields_68 (fun rv9 H locs hQ hz9 hk9 hS => ?_)
          obtain ⟨rfl, rfl⟩ := hQ
          refine W.eq (g2 := F0 m 71 ls [.ref (la.1 2 i)]) rfl ?_
          refine mcast fx tfX5 (cw.f hw hi_i) q422 dX2_endFields_71 ?_
          refine lv_iload_n hx hb dX2_endFields_74 rfl (lv_at hl 3 rfl) ?_
          refine lv_iload_n hx hb dX2_endFields_75 rfl (lv_at hl 4 rfl) ?_
          refine lv_aload_n hx hb dX2_endFields_76 rfl (lv_at hl 1 rfl) ?_
          refine lv_iload hx hb dX2_endFields_77 (lv_at hl 0 rfl) ?_
          refine miald fx hn_1 i rfl (by omega) (by decide) dX2_endFields_79 ?_
          refine lv_aload_n hx hb dX2_endFields_80 rfl (lv_at hl 1 rfl) ?_
          refine lv_iload hx hb dX2_endFields_81 (lv_at hl 0 rfl) ?_
          refine lv_iconst (v := 2) hx hb dX2_endFields_83 (by decide) ?_
          refine lv_iadd hx hb dX2_endFields_84 ?_
          rw [show (nI i) + 2 = nI (i + 2) from nI_add _ _]
          refine miald fx hn_1 (i + 2) rfl (by omega) (by decide) dX2_endFields_85 ?_
          refine kS fx (m_max l g ((cHad fd (n 0)) i) ((cHad fd (n 0)) (i + 2))) (lw_S q423 q375 q67 q376) hdJ12_max ⟨(Nat.le_of_ble_eq_true rfl), (Nat.le_of_ble_eq_true rfl)⟩ ⟨(Nat.le_of_ble_eq_true rfl), (Nat.le_of_ble_eq_true rfl)⟩ hl.1 hS rfl (Nat.le_of_ble_eq_true rfl) trivial (fun _ h => h.elim) dX2_endFields_86 (fun rv9 H locs hQ hz9 hk9 hS => ?_)
          obtain ⟨rfl, rfl⟩ := hQ
          refine W.eq (g2 := F0 m 89 ls [.int (jmax ((cHad fd (n 0)) i) ((cHad fd (n 0)) (i + 2))), .int y, .int x, .ref (la.1 2 i)]) rfl ?_
          refine kV fx (m_F_endDay l g (la.1 2 i) ((cEndF fd (cHad fd (n 0)) x y i) i 0) ((cEndF fd (cHad fd (n 0)) x y i) i 1) ((cEndF fd (cHad fd (n 0)) x y i) i 2) ((cEndF fd (cHad fd (n 0)) x y i) i 3) ((cEndF fd (cHad fd (n 0)) x y i) i 4) ((cEndF fd (cHad fd (n 0)) x y i) i 5) ((cEndF fd (cHad fd (n 0)) x y i) i 6) ((cEndF fd (cHad fd (n 0)) x y i) i 7) ((cEndF fd (cHad fd (n 0)) x y i) i 8) ((cEndF fd (cHad fd (n 0)) x y i) i 9) ((cEndF fd (cHad fd (n 0)) x y i) i 10) x y (jmax ((cHad fd (n 0)) i) ((cHad fd (n 0)) (i + 2))) (fx.2.2.2.2.2.1 _ (cw.inF hw hi_i)) hvi.2.1 hvi.2.2.1) (lw_V q424 q425 q426 q65 q427) hdX5_endDay ⟨(Nat.le_of_ble_eq_true rfl), (Nat.le_of_ble_eq_true rfl)⟩ ⟨(Nat.le_of_ble_eq_true rfl), (Nat.le_of_ble_eq_true rfl)⟩ hl.1 hS tfX5.2.1 (cw.f hw hi_i) rfl (Nat.le_of_ble_eq_true rfl) (cw.f hw hi_i) (fun q h => by cases h; exact (cw.inF hw hi_i)) dX2_endFields_89 (fun rv9 H locs hQ hz9 hk9 hS => ?_)
          obtain ⟨rfl, hat⟩ := hQ
          replace hn_1 := hn_1.kept (hk9 _ hn_1.lt (Ne.symm (nin_3 _ ⟨2, i, hi_i, rfl⟩)))
          replace hw : cw g (fA (cF la n) sz) la (sc, sw, ar, va_up (cEndF fd (cHad fd (n 0)) x y i) i (ob11 ((cEndF fd (cHad fd (n 0)) x y i) i 0) ((cEndF fd (cHad fd (n 0)) x y i) i 1) ((cEndF fd (cHad fd (n 0)) x y i) i 2) (f_F_endDay_3 ((cEndF fd (cHad fd (n 0)) x y i) i 1) ((cEndF fd (cHad fd (n 0)) x y i) i 3) ((cEndF fd (cHad fd (n 0)) x y i) i 7) ((cEndF fd (cHad fd (n 0)) x y i) i 8) ((cEndF fd (cHad fd (n 0)) x y i) i 10) x y) (f_F_endDay_4 ((cEndF fd (cHad fd (n 0)) x y i) i 4) ((cEndF fd (cHad fd (n 0)) x y i) i 5) ((cEndF fd (cHad fd (n 0)) x y i) i 9) ((cEndF fd (cHad fd (n 0)) x y i) i 10) x y) (f_F_endDay_5 ((cEndF fd (cHad fd (n 0)) x y i) i 5) ((cEndF fd (cHad fd (n 0)) x y i) i 10)) ((cEndF fd (cHad fd (n 0)) x y i) i 6) (f_F_endDay_7 ((cEndF fd (cHad fd (n 0)) x y i) i 7) x (jmax ((cHad fd (n 0)) i) ((cHad fd (n 0)) (i + 2)))) (f_F_endDay_8 ((cEndF fd (cHad fd (n 0)) x y i) i 1) ((cEndF fd (cHad fd (n 0)) x y i) i 3) ((cEndF fd (cHad fd (n 0)) x y i) i 7) ((cEndF fd (cHad fd (n 0)) x y i) i 8) ((cEndF fd (cHad fd (n 0)) x y i) i 10) x y) (f_F_endDay_9 ((cEndF fd (cHad fd (n 0)) x y i) i 9) x) ((cEndF fd (cHad fd (n 0)) x y i) i 10)), tr, ld, n) H := cw.setFc hw hi_i hat (fun q h9 h8 => hk9 q h9 h8)
          refine W.eq (g2 := F0 m 92 ls []) rfl ?_
          refine lv_iinc (v := nI (i + 1)) (lv' := [(4, .int (nI (i + 1))), (3, .ref an_2), (0, .ref (la.1 0 0)), (1, .int x), (2, .int y)]) hx hb dX2_endFields_92 hl (k := 0) rfl (nI_1 _) (by decide) rfl (fun ls hl => ?_)
          refine lv_goto (tgt := 50) hx hb dX2_endFields_95 (by decide) ?_
          exact ih (i + 1) H locs ls (by omega) hS hn_1 (by rw [cEndF_succ]; exact hw) (lv_sub hl [0, 1, 2, 3, 4] rfl)
      exact lp_6 (n 0 - 0) 0 H locs ls (by omega) hS hn_1 hw (lv_sub hl [0, 1, 2, 3, 4] rfl)
    | succ d_5 ih =>
      intro i H locs ls hid hS hn_1 hw hl
      have hi_i : i < n 0 := by omega
      refine lv_iload hx hb dX2_endFields_8 (lv_at hl 0 rfl) ?_
      refine lv_aload_n hx hb dX2_endFields_10 rfl (lv_at hl 2 rfl) ?_
      refine mget fx tfX2 (cw.w hw) 0 (by decide) q120 (fun _ h => h) (v := .ref (la.1 0 1)) rfl dX2_endFields_11 ?_
      refine kV fx (m_AL_size l g (la.1 0 1) (la.1 1 0) (la.2.2 0) (nI (n 0))) (lw_V q261 q254 q255 q54 q256) hdJ2_size ⟨(Nat.le_of_ble_eq_true rfl), (Nat.le_of_ble_eq_true rfl)⟩ ⟨(Nat.le_of_ble_eq_true rfl), (Nat.le_of_ble_eq_true rfl)⟩ hl.1 hS tfJ2.2.1 (cw.al0 hw) rfl (Nat.le_of_ble_eq_true rfl) (cw.al0 hw) (fun _ h => h.elim) dX2_endFields_14 (fun rv9 H locs hQ hz9 hk9 hS => ?_)
      obtain ⟨rfl, rfl⟩ := hQ
      refine W.eq (g2 := F0 m 17 ls [.int (nI (n 0)), .int (nI i)]) rfl ?_
      refine lv_icmp_ge (tgt := 47) hx hb dX2_endFields_17 (by decide) (fun h9 => absurd h9 (nI_ge hi_i hn.h0)) (fun _ => ?_)
      refine lv_aload_n hx hb dX2_endFields_20 rfl (lv_at hl 1 rfl) ?_
      refine lv_iload hx hb dX2_endFields_21 (lv_at hl 0 rfl) ?_
      refine lv_iconst (v := 1) hx hb dX2_endFields_23 (by decide) ?_
      refine lv_iadd hx hb dX2_endFields_24 ?_
      rw [show (nI i) + 1 = nI (i + 1) from nI_add _ _]
      refine lv_aload_n hx hb dX2_endFields_25 rfl (lv_at hl 2 rfl) ?_
      refine mget fx tfX2 (cw.w hw) 0 (by decide) q120 (fun _ h => h) (v := .ref (la.1 0 1)) rfl dX2_endFields_26 ?_
      refine lv_iload hx hb dX2_endFields_29 (lv_at hl 0 rfl) ?_
      refine kV fx (m_AL_get l g (la.1 0 1) (la.1 1 0) i (n 0) (la.2.1 0) (la.1 2 i) (la.2.2 0) (elF la.1 n 0) hi_i (cw.get hw (k := 0) (by decide) hi_i).2.1 (cw.get hw (k := 0) (by decide) hi_i).2.2.1 (cw.get hw (k := 0) (by decide) hi_i).2.2.2) (lw_V q262 q263 q264 q54 q265) hdJ2_get ⟨(Nat.le_of_ble_eq_true rfl), (Nat.le_of_ble_eq_true rfl)⟩ ⟨(Nat.le_of_ble_eq_true rfl), (Nat.le_of_ble_eq_true rfl)⟩ hl.1 hS tfJ2.2.1 (cw.al0 hw) rfl (Nat.le_of_ble_eq_true rfl) (⟨(cw.al0 hw), (cw.get hw (k := 0) (by decide) hi_i).1⟩) (fun _ h => h.elim) dX2_endFields_31 (fun rv9 H locs hQ hz9 hk9 hS => ?_)
      obtain ⟨rfl, rfl⟩ := hQ
      refine W.eq (g2 := F0 m 34 ls [.ref (la.1 2 i), .int (nI (i + 1)), .ref an_2]) rfl ?_
      refine mcast fx tfX5 (cw.f hw hi_i) q422 dX2_endFields_34 ?_
      refine mgetN fx tfX5 (cw.f hw hi_i) 7 (by decide) q325 (fun _ h => h) (v := .int (fd i 7)) rfl dX2_endFields_37 ?_
      refine miast fx hn_1 hS inan_2 (i + 1) rfl (by omega) (by decide) dX2_endFields_40 (fun H locs hat hz hoq hS => ?_)
      replace hn_1 : mAt g an_2 (.inl (g.2.1 0, 12, .inl (upd (cHad fd i) (i + 1) (fd i 7)))) H := hat
      replace hw : cw g (fA (cF la n) sz) la (sc, sw, ar, fd, tr, ld, n) H := cw.kept hw (fun q h9 hf9 => hoq _ (nin_3 q hf9))
      refine lv_iinc (v := nI (i + 1)) (lv' := [(4, .int (nI (i + 1))), (3, .ref an_2), (0, .ref (la.1 0 0)), (1, .int x), (2, .int y)]) hx hb dX2_endFields_41 hl (k := 0) rfl (nI_1 _) (by decide) rfl (fun ls hl => ?_)
      refine lv_goto (tgt := 8) hx hb dX2_endFields_44 (by decide) ?_
      exact ih (i + 1) H locs ls (by omega) hS hn_1 hw (lv_sub hl [0, 1, 2, 3, 4] rfl)
  exact lp_4 (n 0 - 0) 0 H locs ls (by omega) hS hn_1 hw (lv_sub hl [0, 1, 2, 3, 4] rfl)

set_option maxHeartbeats 4000000 in
theorem m_W_endDay (l : Launch) (g : GT) (sz : Nat) (la : LT) (sc : Nat → Int32) (sw : Int64) (ar fd tr ld : Nat → Nat → Int32) (n : CN) (hn : cN n) (hv : cV n fd tr ld) (x y : Int32) : Cn l g yX2_endDay cX2_endDay 7 (none) 4 1 12 [.ref (la.1 0 0), .int x, .int y] (fA (cF la n) sz) (fun H => sz = H.size ∧ cw g (bA g) la (sc, sw, ar, fd, tr, ld, n) H) (fun Hp rv Hq => rv = none ∧ cw g (fA (cF la n) sz) la (mkC (cEndDay n (sc, sw, ar, fd, tr, ld) x y) n) Hq) := by
  refine Cn.start (plainFor_of_name (by decide +kernel)) (Nat.le_of_ble_eq_true rfl) ?_
  intro p ev s m below meth c ls H locs hH hx hb hr hts hown hlocks hml hnm hK hP hS hl
  obtain ⟨hsz, hw⟩ := hP
  have hszs : sz = s.heap.size := by rw [hsz, hH]
  have hAs : ∀ q, s.heap.size ≤ q → (fA (cF la n) sz) q := fun q h => Or.inr (by rw [hszs]; exact h)
  have hAb : ∀ q, (fA (cF la n) sz) q → bA g q := fun q h => h.elim (hw.1.ft q) (fun h => Nat.le_trans hK.2.2.sz (by rw [← hszs]; exact h))
  replace hw : cw g (fA (cF la n) sz) la (sc, sw, ar, fd, tr, ld, n) H := cw.self hw sz
  have fx : Fx p s m ([.ref (la.1 0 0), .int x, .int y] : List Value).toArray c cX2_endDay RX2 g (fA (cF la n) sz) 7 := ⟨hx, hb, hts, hown, hK, hAb, hml⟩
  have hl : lv_has ls 7 [(0, .ref (la.1 0 0)), (1, .int x), (2, .int y)] := hl
  refine lv_aload_n hx hb dX2_endDay_0 rfl (lv_at hl 0 rfl) ?_
  refine lv_iload_n hx hb dX2_endDay_1 rfl (lv_at hl 1 rfl) ?_
  refine lv_iload_n hx hb dX2_endDay_2 rfl (lv_at hl 2 rfl) ?_
  have hbk := cw.back hw (fun q h9 => hAs q (Nat.le_trans hS.1 h9))
  have hSb := hS
  refine kV fx (m_W_endFields l g _ la sc sw ar fd tr ld n hn hv x y) (lw_V q601 q419 q420 q51 q421) hdX2_endFields ⟨(Nat.le_of_ble_eq_true rfl), (Nat.le_of_ble_eq_true rfl)⟩ ⟨(Nat.le_of_ble_eq_true rfl), (Nat.le_of_ble_eq_true rfl)⟩ hl.1 hS tfX2.2.1 (cw.w hw) rfl (Nat.le_of_ble_eq_true rfl) (⟨rfl, cw.weaken hw fx.2.2.2.2.2.1⟩) (fun q h9 => hbk q h9) dX2_endDay_3 (fun rv9 H locs hQ hz9 hk9 hS => ?_)
  obtain ⟨rfl, hw9⟩ := hQ
  replace hw : cw g (fA (cF la n) sz) la (sc, sw, ar, cFields (n 0) fd x y, tr, ld, n) H := cw.weaken hw9 hbk
  have hv0 := hv
  replace hv : cV n (cFields (n 0) fd x y) tr ld := cV.fields hv0
  refine W.eq (g2 := F0 m 6 ls []) rfl ?_
  refine lv_iconst (v := 0) hx hb dX2_endDay_6 (by decide) ?_
  refine lv_istore_n (lv' := [(3, .int 0), (0, .ref (la.1 0 0)), (1, .int x), (2, .int y)]) hx hb dX2_endDay_7 rfl hl (by decide) rfl (fun ls hl => ?_)
  refine lv_iconst (v := 0) hx hb dX2_endDay_8 (by decide) ?_
  refine lv_istore (lv' := [(4, .int 0), (3, .int 0), (0, .ref (la.1 0 0)), (1, .int x), (2, .int y)]) hx hb dX2_endDay_9 hl (by decide) rfl (fun ls hl => ?_)
  refine lv_iconst (v := 0) hx hb dX2_endDay_11 (by decide) ?_
  refine lv_istore (lv' := [(5, .int 0), (4, .int 0), (3, .int 0), (0, .ref (la.1 0 0)), (1, .int x), (2, .int y)]) hx hb dX2_endDay_12 hl (by decide) rfl (fun ls hl => ?_)
  have lp_1 : ∀ (d_2 i : Nat) (H : Heap) (locs : List Loc) (ls : Array Slot), i + d_2 = n 2 → va_S (fA (cF la n) sz) s.heap H locs → cw g (fA (cF la n) sz) la (sc, sw, ar, cFields (n 0) fd x y, tr, ld, n) H → lv_has ls 7 [(5, .int (nI i)), (4, .int (cDay (sc 0) ld (fun k => ld k 1 * ld k 5) i)), (3, .int (cDay (sc 0) ld (fun k => ld k 1) i)), (0, .ref (la.1 0 0)), (1, .int x), (2, .int y)] → W p l ev (mR 4 1 12) s m ([.ref (la.1 0 0), .int x, .int y] : List Value).toArray below meth c H locs 1 12 (MQ below (mQ (fA (cF la n) sz) (fun Hp rv Hq => rv = none ∧ cw g (fA (cF la n) sz) la (mkC (cEndDay n (sc, sw, ar, fd, tr, ld) x y) n) Hq)) ([.ref (la.1 0 0), .int x, .int y] : List Value).toArray s 1 12 (fA (cF la n) sz)) (F0 m 14 ls []) := by
    intro d_2
    induction d_2 with
    | zero =>
      intro i H locs ls hid hS hw hl
      obtain rfl : n 2 = i := by omega
      refine lv_iload hx hb dX2_endDay_14 (lv_at hl 0 rfl) ?_
      refine lv_aload_n hx hb dX2_endDay_16 rfl (lv_at hl 3 rfl) ?_
      refine mget fx tfX2 (cw.w hw) 2 (by decide) q124 (fun _ h => h) (v := .ref (la.1 0 3)) rfl dX2_endDay_17 ?_
      refine kV fx (m_AL_size l g (la.1 0 3) (la.1 1 2) (la.2.2 2) (nI (n 2))) (lw_V q261 q254 q255 q54 q256) hdJ2_size ⟨(Nat.le_of_ble_eq_true rfl), (Nat.le_of_ble_eq_true rfl)⟩ ⟨(Nat.le_of_ble_eq_true rfl), (Nat.le_of_ble_eq_true rfl)⟩ hl.1 hS tfJ2.2.1 (cw.al2 hw) rfl (Nat.le_of_ble_eq_true rfl) (cw.al2 hw) (fun _ h => h.elim) dX2_endDay_20 (fun rv9 H locs hQ hz9 hk9 hS => ?_)
      obtain ⟨rfl, rfl⟩ := hQ
      refine W.eq (g2 := F0 m 23 ls [.int (nI (n 2)), .int (nI (n 2))]) rfl ?_
      refine lv_icmp_ge (tgt := 97) hx hb dX2_endDay_23 (by decide) (fun _ => ?_) (fun h9 => absurd (nI_le (Nat.le_refl _) hn.h2) h9)
      refine lv_iconst (v := 0) hx hb dX2_endDay_97 (by decide) ?_
      refine lv_istore (lv' := [(5, .int 0), (4, .int (cDay (sc 0) ld (fun k => ld k 1 * ld k 5) (n 2))), (3, .int (cDay (sc 0) ld (fun k => ld k 1) (n 2))), (0, .ref (la.1 0 0)), (1, .int x), (2, .int y)]) hx hb dX2_endDay_98 hl (by decide) rfl (fun ls hl => ?_)
      have lp_3 : ∀ (d_4 i : Nat) (H : Heap) (locs : List Loc) (ls : Array Slot), i + d_4 = n 2 → va_S (fA (cF la n) sz) s.heap H locs → cw g (fA (cF la n) sz) la (sc, sw, va_up ar 2 (cPts (sc 0) (cFields (n 0) fd x y) ld (cDay (sc 0) ld (fun k => ld k 1) (n 2)) (cDay (sc 0) ld (fun k => ld k 1 * ld k 5) (n 2)) (ar 2) i), cFields (n 0) fd x y, tr, ld, n) H → lv_has ls 7 [(5, .int (nI i)), (4, .int (cDay (sc 0) ld (fun k => ld k 1 * ld k 5) (n 2))), (3, .int (cDay (sc 0) ld (fun k => ld k 1) (n 2))), (0, .ref (la.1 0 0)), (1, .int x), (2, .int y)] → W p l ev (mR 4 1 12) s m ([.ref (la.1 0 0), .int x, .int y] : List Value).toArray below meth c H locs 1 12 (MQ below (mQ (fA (cF la n) sz) (fun Hp rv Hq => rv = none ∧ cw g (fA (cF la n) sz) la (mkC (cEndDay n (sc, sw, ar, fd, tr, ld) x y) n) Hq)) ([.ref (la.1 0 0), .int x, .int y] : List Value).toArray s 1 12 (fA (cF la n) sz)) (F0 m 100 ls []) := by
        intro d_4
        induction d_4 with
        | zero =>
          intro i H locs ls hid hS hw hl
          obtain rfl : n 2 = i := by omega
          refine lv_iload hx hb dX2_endDay_100 (lv_at hl 0 rfl) ?_
          refine lv_aload_n hx hb dX2_endDay_102 rfl (lv_at hl 3 rfl) ?_
          refine mget fx tfX2 (cw.w hw) 2 (by decide) q124 (fun _ h => h) (v := .ref (la.1 0 3)) rfl dX2_endDay_103 ?_
          refine kV fx (m_AL_size l g (la.1 0 3) (la.1 1 2) (la.2.2 2) (nI (n 2))) (lw_V q261 q254 q255 q54 q256) hdJ2_size ⟨(Nat.le_of_ble_eq_true rfl), (Nat.le_of_ble_eq_true rfl)⟩ ⟨(Nat.le_of_ble_eq_true rfl), (Nat.le_of_ble_eq_true rfl)⟩ hl.1 hS tfJ2.2.1 (cw.al2 hw) rfl (Nat.le_of_ble_eq_true rfl) (cw.al2 hw) (fun _ h => h.elim) dX2_endDay_106 (fun rv9 H locs hQ hz9 hk9 hS => ?_)
          obtain ⟨rfl, rfl⟩ := hQ
          refine W.eq (g2 := F0 m 109 ls [.int (nI (n 2)), .int (nI (n 2))]) rfl ?_
          refine lv_icmp_ge (tgt := 196) hx hb dX2_endDay_109 (by decide) (fun _ => ?_) (fun h9 => absurd (nI_le (Nat.le_refl _) hn.h2) h9)
          refine lv_iconst (v := 0) hx hb dX2_endDay_196 (by decide) ?_
          refine lv_istore (lv' := [(5, .int 0), (4, .int (cDay (sc 0) ld (fun k => ld k 1 * ld k 5) (n 2))), (3, .int (cDay (sc 0) ld (fun k => ld k 1) (n 2))), (0, .ref (la.1 0 0)), (1, .int x), (2, .int y)]) hx hb dX2_endDay_197 hl (by decide) rfl (fun ls hl => ?_)
          have lp_5 : ∀ (d_6 i : Nat) (H : Heap) (locs : List Loc) (ls : Array Slot), i + d_6 = 4 → va_S (fA (cF la n) sz) s.heap H locs → cw g (fA (cF la n) sz) la (sc, sw, va_up (va_up ar 2 (cPts (sc 0) (cFields (n 0) fd x y) ld (cDay (sc 0) ld (fun k => ld k 1) (n 2)) (cDay (sc 0) ld (fun k => ld k 1 * ld k 5) (n 2)) (ar 2) (n 2))) 0 (cZero (ar 0) i), cFields (n 0) fd x y, tr, ld, n) H → lv_has ls 7 [(5, .int (nI i)), (0, .ref (la.1 0 0))] → W p l ev (mR 4 1 12) s m ([.ref (la.1 0 0), .int x, .int y] : List Value).toArray below meth c H locs 1 12 (MQ below (mQ (fA (cF la n) sz) (fun Hp rv Hq => rv = none ∧ cw g (fA (cF la n) sz) la (mkC (cEndDay n (sc, sw, ar, fd, tr, ld) x y) n) Hq)) ([.ref (la.1 0 0), .int x, .int y] : List Value).toArray s 1 12 (fA (cF la n) sz)) (F0 m 199 ls []) := by
            intro d_6
            induction d_6 with
            | zero =>
              intro i H locs ls hid hS hw hl
              obtain rfl : 4 = i := by omega
              refine lv_iload hx hb dX2_endDay_199 (lv_at hl 0 rfl) ?_
              refine lv_iconst (v := 4) hx hb dX2_endDay_201 (by decide) ?_
              refine lv_icmp_ge (tgt := 219) hx hb dX2_endDay_202 (by decide) (fun _ => ?_) (fun h9 => absurd (nI_le (Nat.le_refl _) (by decide)) h9)
              exact rv hx hb hr hlocks hS (⟨rfl, hw⟩) ⟨(Nat.le_of_ble_eq_true rfl), (Nat.le_of_ble_eq_true rfl)⟩ dX2_endDay_219
            | succ d_6 ih =>
              intro i H locs ls hid hS hw hl
              have hi_i : i < 4 := by omega
              refine lv_iload hx hb dX2_endDay_199 (lv_at hl 0 rfl) ?_
              refine lv_iconst (v := 4) hx hb dX2_endDay_201 (by decide) ?_
              refine lv_icmp_ge (tgt := 219) hx hb dX2_endDay_202 (by decide) (fun h9 => absurd h9 (nI_ge (b := 4) hi_i (by decide))) (fun _ => ?_)
              refine lv_aload_n hx hb dX2_endDay_205 rfl (lv_at hl 1 rfl) ?_
              refine mget fx tfX2 (cw.w hw) 3 (by decide) q126 (fun _ h => h) (v := .ref (la.1 0 4)) rfl dX2_endDay_206 ?_
              refine lv_iload hx hb dX2_endDay_209 (lv_at hl 0 rfl) ?_
              refine lv_iconst (v := 0) hx hb dX2_endDay_211 (by decide) ?_
              refine miast fx (cw.ar0 hw) hS (cw.inW hw (by decide)) i rfl hi_i (by decide) dX2_endDay_212 (fun H locs hat hz hoq hS => ?_)
              replace hw : cw g (fA (cF la n) sz) la (sc, sw, va_up (va_up ar 2 (cPts (sc 0) (cFields (n 0) fd x y) ld (cDay (sc 0) ld (fun k => ld k 1) (n 2)) (cDay (sc 0) ld (fun k => ld k 1 * ld k 5) (n 2)) (ar 2) (n 2))) 0 (upd (cZero (ar 0) i) i 0), cFields (n 0) fd x y, tr, ld, n) H := cw.setA2 0 (by decide) hw hat (fun q _ h9 => hoq q h9)
              refine lv_iinc (v := nI (i + 1)) (lv' := [(5, .int (nI (i + 1))), (0, .ref (la.1 0 0))]) hx hb dX2_endDay_213 hl (k := 0) rfl (nI_1 _) (by decide) rfl (fun ls hl => ?_)
              refine lv_goto (tgt := 199) hx hb dX2_endDay_216 (by decide) ?_
              exact ih (i + 1) H locs ls (by omega) hS hw (lv_sub hl [0, 1] rfl)
          exact lp_5 (4 - 0) 0 H locs ls (by omega) hS (cw.arS 0 hw) (lv_sub hl [0, 3] rfl)
        | succ d_4 ih =>
          intro i H locs ls hid hS hw hl
          have hi_i : i < n 2 := by omega
          refine lv_iload hx hb dX2_endDay_100 (lv_at hl 0 rfl) ?_
          refine lv_aload_n hx hb dX2_endDay_102 rfl (lv_at hl 3 rfl) ?_
          refine mget fx tfX2 (cw.w hw) 2 (by decide) q124 (fun _ h => h) (v := .ref (la.1 0 3)) rfl dX2_endDay_103 ?_
          refine kV fx (m_AL_size l g (la.1 0 3) (la.1 1 2) (la.2.2 2) (nI (n 2))) (lw_V q261 q254 q255 q54 q256) hdJ2_size ⟨(Nat.le_of_ble_eq_true rfl), (Nat.le_of_ble_eq_true rfl)⟩ ⟨(Nat.le_of_ble_eq_true rfl), (Nat.le_of_ble_eq_true rfl)⟩ hl.1 hS tfJ2.2.1 (cw.al2 hw) rfl (Nat.le_of_ble_eq_true rfl) (cw.al2 hw) (fun _ h => h.elim) dX2_endDay_106 (fun rv9 H locs hQ hz9 hk9 hS => ?_)
          obtain ⟨rfl, rfl⟩ := hQ
          refine W.eq (g2 := F0 m 109 ls [.int (nI (n 2)), .int (nI i)]) rfl ?_
          refine lv_icmp_ge (tgt := 196) hx hb dX2_endDay_109 (by decide) (fun h9 => absurd h9 (nI_ge hi_i hn.h2)) (fun _ => ?_)
          refine lv_aload_n hx hb dX2_endDay_112 rfl (lv_at hl 3 rfl) ?_
          refine mget fx tfX2 (cw.w hw) 2 (by decide) q124 (fun _ h => h) (v := .ref (la.1 0 3)) rfl dX2_endDay_113 ?_
          refine lv_iload hx hb dX2_endDay_116 (lv_at hl 0 rfl) ?_
          refine kV fx (m_AL_get l g (la.1 0 3) (la.1 1 2) i (n 2) (la.2.1 2) (la.1 4 i) (la.2.2 2) (elF la.1 n 2) hi_i (cw.get hw (k := 2) (by decide) hi_i).2.1 (cw.get hw (k := 2) (by decide) hi_i).2.2.1 (cw.get hw (k := 2) (by decide) hi_i).2.2.2) (lw_V q262 q263 q264 q54 q265) hdJ2_get ⟨(Nat.le_of_ble_eq_true rfl), (Nat.le_of_ble_eq_true rfl)⟩ ⟨(Nat.le_of_ble_eq_true rfl), (Nat.le_of_ble_eq_true rfl)⟩ hl.1 hS tfJ2.2.1 (cw.al2 hw) rfl (Nat.le_of_ble_eq_true rfl) (⟨(cw.al2 hw), (cw.get hw (k := 2) (by decide) hi_i).1⟩) (fun _ h => h.elim) dX2_endDay_118 (fun rv9 H locs hQ hz9 hk9 hS => ?_)
          obtain ⟨rfl, rfl⟩ := hQ
          refine W.eq (g2 := F0 m 121 ls [.ref (la.1 4 i)]) rfl ?_
          refine mcast fx tfX9 (cw.l hw hi_i) q276 dX2_endDay_121 ?_
          refine lv_astore (lv' := [(6, .ref (la.1 4 i)), (5, .int (nI i)), (4, .int (cDay (sc 0) ld (fun k => ld k 1 * ld k 5) (n 2))), (3, .int (cDay (sc 0) ld (fun k => ld k 1) (n 2))), (0, .ref (la.1 0 0)), (1, .int x), (2, .int y)]) hx hb dX2_endDay_124 hl (by decide) rfl (fun ls hl => ?_)
          refine lv_aload hx hb dX2_endDay_126 (lv_at hl 0 rfl) ?_
          refine mgetN fx tfX9 (cw.l hw hi_i) 8 (by decide) q530 (fun _ h => h) (v := .int (ld i 8)) rfl dX2_endDay_128 ?_
          refine lv_aload_n hx hb dX2_endDay_131 rfl (lv_at hl 4 rfl) ?_
          refine mget fx tfX2 (cw.w hw) 6 (by decide) q132 (fun _ h => h) (v := .int (sc 0)) rfl dX2_endDay_132 ?_
          refine lv_bipush (v := 24) hx hb dX2_endDay_135 (by decide) ?_
          refine lv_isub hx hb dX2_endDay_137 ?_
          refine lv_icmp_le (tgt := 190) hx hb dX2_endDay_138 (by decide) (fun c_7 => ?_) (fun c_7 => ?_)
          · skip
            refine lv_iinc (v := nI (i + 1)) (lv' := [(5, .int (nI (i + 1))), (6, .ref (la.1 4 i)), (4, .int (cDay (sc 0) ld (fun k => ld k 1 * ld k 5) (n 2))), (3, .int (cDay (sc 0) ld (fun k => ld k 1) (n 2))), (0, .ref (la.1 0 0)), (1, .int x), (2, .int y)]) hx hb dX2_endDay_190 hl (k := 1) rfl (nI_1 _) (by decide) rfl (fun ls hl => ?_)
            refine lv_goto (tgt := 100) hx hb dX2_endDay_193 (by decide) ?_
            exact ih (i + 1) H locs ls (by omega) hS (by rw [cPts_a c_7]; exact hw) (lv_sub hl [0, 2, 3, 4, 5, 6] rfl)
          · skip
            refine lv_aload hx hb dX2_endDay_141 (lv_at hl 0 rfl) ?_
            refine mgetN fx tfX9 (cw.l hw hi_i) 6 (by decide) q525 (fun _ h => h) (v := .int (ld i 6)) rfl dX2_endDay_143 ?_
            refine lv_iconst (v := 3) hx hb dX2_endDay_146 (by decide) ?_
            refine lv_icmp_eq (tgt := 153) hx hb dX2_endDay_147 (by decide) (fun c_8 => ?_) (fun c_8 => ?_)
            · skip
              refine lv_aload_n hx hb dX2_endDay_153 rfl (lv_at hl 4 rfl) ?_
              refine mget fx tfX2 (cw.w hw) 5 (by decide) q130 (fun _ h => h) (v := .ref (la.1 0 6)) rfl dX2_endDay_154 ?_
              refine lv_aload_n hx hb dX2_endDay_157 rfl (lv_at hl 4 rfl) ?_
              refine lv_aload hx hb dX2_endDay_158 (lv_at hl 0 rfl) ?_
              refine kV fx (m_W_growerOf l g la sc sw (va_up ar 2 (cPts (sc 0) (cFields (n 0) fd x y) ld (cDay (sc 0) ld (fun k => ld k 1) (n 2)) (cDay (sc 0) ld (fun k => ld k 1 * ld k 5) (n 2)) (ar 2) i)) (cFields (n 0) fd x y) tr ld n i (ld i 0) hi_i rfl (cV.lo hv hi_i)) (lw_V q585 q587 qs18 q51 q588) hdX2_growerOf ⟨(Nat.le_of_ble_eq_true rfl), (Nat.le_of_ble_eq_true rfl)⟩ ⟨(Nat.le_of_ble_eq_true rfl), (Nat.le_of_ble_eq_true rfl)⟩ hl.1 hS tfX2.2.1 (cw.w hw) rfl (Nat.le_of_ble_eq_true rfl) (cw.weaken hw fx.2.2.2.2.2.1) (fun _ h => h.elim) dX2_endDay_160 (fun rv9 H locs hQ hz9 hk9 hS => ?_)
              obtain ⟨rfl, rfl⟩ := hQ
              refine W.eq (g2 := F0 m 163 ls [.int (cGr (cFields (n 0) fd x y) ld i), .ref (la.1 0 6)]) rfl ?_
              refine lv_dup2_11 hx hb dX2_endDay_163 rfl rfl ?_
              refine miald fx (cw.ar2 hw) (iN (cGr (cFields (n 0) fd x y) ld i)) ((cV.gr hv hi_i).1) ((cV.gr hv hi_i).2) (by decide) dX2_endDay_164 ?_
              refine lv_iconst (v := 0) hx hb dX2_endDay_165 (by decide) ?_
              refine lv_aload hx hb dX2_endDay_166 (lv_at hl 0 rfl) ?_
              refine mgetN fx tfX9 (cw.l hw hi_i) 1 (by decide) q513 (fun _ h => h) (v := .int (ld i 1)) rfl dX2_endDay_168 ?_
              refine lv_bipush (v := 100) hx hb dX2_endDay_171 (by decide) ?_
              refine lv_aload hx hb dX2_endDay_173 (lv_at hl 0 rfl) ?_
              refine mgetN fx tfX9 (cw.l hw hi_i) 5 (by decide) q522 (fun _ h => h) (v := .int (ld i 5)) rfl dX2_endDay_175 ?_
              refine lv_iadd hx hb dX2_endDay_178 ?_
              refine lv_iload hx hb dX2_endDay_179 (lv_at hl 2 rfl) ?_
              refine lv_iload_n hx hb dX2_endDay_181 rfl (lv_at hl 3 rfl) ?_
              refine lv_idiv hx hb dX2_endDay_182 (cDay_nz hn hv hi_i c_7 c_8) ?_
              refine lv_isub hx hb dX2_endDay_183 ?_
              refine lv_imul hx hb dX2_endDay_184 ?_
              refine kS fx (m_max l g 0 ((ld i 1) * ((100 + (ld i 5)) - ((cDay (sc 0) ld (fun k => ld k 1 * ld k 5) (n 2)) / (cDay (sc 0) ld (fun k => ld k 1) (n 2)))))) (lw_S q423 q375 q67 q376) hdJ12_max ⟨(Nat.le_of_ble_eq_true rfl), (Nat.le_of_ble_eq_true rfl)⟩ ⟨(Nat.le_of_ble_eq_true rfl), (Nat.le_of_ble_eq_true rfl)⟩ hl.1 hS rfl (Nat.le_of_ble_eq_true rfl) trivial (fun _ h => h.elim) dX2_endDay_185 (fun rv9 H locs hQ hz9 hk9 hS => ?_)
              obtain ⟨rfl, rfl⟩ := hQ
              refine W.eq (g2 := F0 m 188 ls [.int (jmax 0 ((ld i 1) * ((100 + (ld i 5)) - ((cDay (sc 0) ld (fun k => ld k 1 * ld k 5) (n 2)) / (cDay (sc 0) ld (fun k => ld k 1) (n 2)))))), .int ((cPts (sc 0) (cFields (n 0) fd x y) ld (cDay (sc 0) ld (fun k => ld k 1) (n 2)) (cDay (sc 0) ld (fun k => ld k 1 * ld k 5) (n 2)) (ar 2) i) (iN (cGr (cFields (n 0) fd x y) ld i))), .int (cGr (cFields (n 0) fd x y) ld i), .ref (la.1 0 6)]) rfl ?_
              refine lv_iadd hx hb dX2_endDay_188 ?_
              refine miast fx (cw.ar2 hw) hS (cw.inW hw (by decide)) (iN (cGr (cFields (n 0) fd x y) ld i)) ((cV.gr hv hi_i).1) ((cV.gr hv hi_i).2) (by decide) dX2_endDay_189 (fun H locs hat hz hoq hS => ?_)
              replace hw : cw g (fA (cF la n) sz) la (sc, sw, va_up ar 2 (upd (cPts (sc 0) (cFields (n 0) fd x y) ld (cDay (sc 0) ld (fun k => ld k 1) (n 2)) (cDay (sc 0) ld (fun k => ld k 1 * ld k 5) (n 2)) (ar 2) i) (iN (cGr (cFields (n 0) fd x y) ld i)) (((cPts (sc 0) (cFields (n 0) fd x y) ld (cDay (sc 0) ld (fun k => ld k 1) (n 2)) (cDay (sc 0) ld (fun k => ld k 1 * ld k 5) (n 2)) (ar 2) i) (iN (cGr (cFields (n 0) fd x y) ld i))) + (jmax 0 ((ld i 1) * ((100 + (ld i 5)) - ((cDay (sc 0) ld (fun k => ld k 1 * ld k 5) (n 2)) / (cDay (sc 0) ld (fun k => ld k 1) (n 2)))))))), cFields (n 0) fd x y, tr, ld, n) H := cw.setA2 2 (by decide) hw hat (fun q _ h9 => hoq q h9)
              refine lv_iinc (v := nI (i + 1)) (lv' := [(5, .int (nI (i + 1))), (6, .ref (la.1 4 i)), (4, .int (cDay (sc 0) ld (fun k => ld k 1 * ld k 5) (n 2))), (3, .int (cDay (sc 0) ld (fun k => ld k 1) (n 2))), (0, .ref (la.1 0 0)), (1, .int x), (2, .int y)]) hx hb dX2_endDay_190 hl (k := 1) rfl (nI_1 _) (by decide) rfl (fun ls hl => ?_)
              refine lv_goto (tgt := 100) hx hb dX2_endDay_193 (by decide) ?_
              exact ih (i + 1) H locs ls (by omega) hS (by rw [cPts_b c_7 c_8]; exact hw) (lv_sub hl [0, 2, 3, 4, 5, 6] rfl)
            · skip
              refine lv_goto (tgt := 190) hx hb dX2_endDay_150 (by decide) ?_
              refine lv_iinc (v := nI (i + 1)) (lv' := [(5, .int (nI (i + 1))), (6, .ref (la.1 4 i)), (4, .int (cDay (sc 0) ld (fun k => ld k 1 * ld k 5) (n 2))), (3, .int (cDay (sc 0) ld (fun k => ld k 1) (n 2))), (0, .ref (la.1 0 0)), (1, .int x), (2, .int y)]) hx hb dX2_endDay_190 hl (k := 1) rfl (nI_1 _) (by decide) rfl (fun ls hl => ?_)
              refine lv_goto (tgt := 100) hx hb dX2_endDay_193 (by decide) ?_
              exact ih (i + 1) H locs ls (by omega) hS (by rw [cPts_c c_7 c_8]; exact hw) (lv_sub hl [0, 2, 3, 4, 5, 6] rfl)
      exact lp_3 (n 2 - 0) 0 H locs ls (by omega) hS (cw.arS 2 hw) (lv_sub hl [0, 1, 2, 3, 4, 5] rfl)
    | succ d_2 ih =>
      intro i H locs ls hid hS hw hl
      have hi_i : i < n 2 := by omega
      refine lv_iload hx hb dX2_endDay_14 (lv_at hl 0 rfl) ?_
      refine lv_aload_n hx hb dX2_endDay_16 rfl (lv_at hl 3 rfl) ?_
      refine mget fx tfX2 (cw.w hw) 2 (by decide) q124 (fun _ h => h) (v := .ref (la.1 0 3)) rfl dX2_endDay_17 ?_
      refine kV fx (m_AL_size l g (la.1 0 3) (la.1 1 2) (la.2.2 2) (nI (n 2))) (lw_V q261 q254 q255 q54 q256) hdJ2_size ⟨(Nat.le_of_ble_eq_true rfl), (Nat.le_of_ble_eq_true rfl)⟩ ⟨(Nat.le_of_ble_eq_true rfl), (Nat.le_of_ble_eq_true rfl)⟩ hl.1 hS tfJ2.2.1 (cw.al2 hw) rfl (Nat.le_of_ble_eq_true rfl) (cw.al2 hw) (fun _ h => h.elim) dX2_endDay_20 (fun rv9 H locs hQ hz9 hk9 hS => ?_)
      obtain ⟨rfl, rfl⟩ := hQ
      refine W.eq (g2 := F0 m 23 ls [.int (nI (n 2)), .int (nI i)]) rfl ?_
      refine lv_icmp_ge (tgt := 97) hx hb dX2_endDay_23 (by decide) (fun h9 => absurd h9 (nI_ge hi_i hn.h2)) (fun _ => ?_)
      refine lv_aload_n hx hb dX2_endDay_26 rfl (lv_at hl 3 rfl) ?_
      refine mget fx tfX2 (cw.w hw) 2 (by decide) q124 (fun _ h => h) (v := .ref (la.1 0 3)) rfl dX2_endDay_27 ?_
      refine lv_iload hx hb dX2_endDay_30 (lv_at hl 0 rfl) ?_
      refine kV fx (m_AL_get l g (la.1 0 3) (la.1 1 2) i (n 2) (la.2.1 2) (la.1 4 i) (la.2.2 2) (elF la.1 n 2) hi_i (cw.get hw (k := 2) (by decide) hi_i).2.1 (cw.get hw (k := 2) (by decide) hi_i).2.2.1 (cw.get hw (k := 2) (by decide) hi_i).2.2.2) (lw_V q262 q263 q264 q54 q265) hdJ2_get ⟨(Nat.le_of_ble_eq_true rfl), (Nat.le_of_ble_eq_true rfl)⟩ ⟨(Nat.le_of_ble_eq_true rfl), (Nat.le_of_ble_eq_true rfl)⟩ hl.1 hS tfJ2.2.1 (cw.al2 hw) rfl (Nat.le_of_ble_eq_true rfl) (⟨(cw.al2 hw), (cw.get hw (k := 2) (by decide) hi_i).1⟩) (fun _ h => h.elim) dX2_endDay_32 (fun rv9 H locs hQ hz9 hk9 hS => ?_)
      obtain ⟨rfl, rfl⟩ := hQ
      refine W.eq (g2 := F0 m 35 ls [.ref (la.1 4 i)]) rfl ?_
      refine mcast fx tfX9 (cw.l hw hi_i) q276 dX2_endDay_35 ?_
      refine lv_astore (lv' := [(6, .ref (la.1 4 i)), (5, .int (nI i)), (4, .int (cDay (sc 0) ld (fun k => ld k 1 * ld k 5) i)), (3, .int (cDay (sc 0) ld (fun k => ld k 1) i)), (0, .ref (la.1 0 0)), (1, .int x), (2, .int y)]) hx hb dX2_endDay_38 hl (by decide) rfl (fun ls hl => ?_)
      refine lv_aload hx hb dX2_endDay_40 (lv_at hl 0 rfl) ?_
      refine mgetN fx tfX9 (cw.l hw hi_i) 8 (by decide) q530 (fun _ h => h) (v := .int (ld i 8)) rfl dX2_endDay_42 ?_
      refine lv_aload_n hx hb dX2_endDay_45 rfl (lv_at hl 4 rfl) ?_
      refine mget fx tfX2 (cw.w hw) 6 (by decide) q132 (fun _ h => h) (v := .int (sc 0)) rfl dX2_endDay_46 ?_
      refine lv_bipush (v := 24) hx hb dX2_endDay_49 (by decide) ?_
      refine lv_isub hx hb dX2_endDay_51 ?_
      refine lv_icmp_le (tgt := 91) hx hb dX2_endDay_52 (by decide) (fun c_9 => ?_) (fun c_9 => ?_)
      · skip
        refine lv_iinc (v := nI (i + 1)) (lv' := [(5, .int (nI (i + 1))), (6, .ref (la.1 4 i)), (4, .int (cDay (sc 0) ld (fun k => ld k 1 * ld k 5) i)), (3, .int (cDay (sc 0) ld (fun k => ld k 1) i)), (0, .ref (la.1 0 0)), (1, .int x), (2, .int y)]) hx hb dX2_endDay_91 hl (k := 1) rfl (nI_1 _) (by decide) rfl (fun ls hl => ?_)
        refine lv_goto (tgt := 14) hx hb dX2_endDay_94 (by decide) ?_
        have e_10 : (.int (cDay (sc 0) ld (fun k => ld k 1 * ld k 5) i) : Value) = .int (cDay (sc 0) ld (fun k => ld k 1 * ld k 5) (i + 1)) := (congrArg Value.int (cDay_a c_9).symm)
        rw [e_10] at hl
        have e_11 : (.int (cDay (sc 0) ld (fun k => ld k 1) i) : Value) = .int (cDay (sc 0) ld (fun k => ld k 1) (i + 1)) := (congrArg Value.int (cDay_a c_9).symm)
        rw [e_11] at hl
        exact ih (i + 1) H locs ls (by omega) hS hw (lv_sub hl [0, 2, 3, 4, 5, 6] rfl)
      · skip
        refine lv_aload hx hb dX2_endDay_55 (lv_at hl 0 rfl) ?_
        refine mgetN fx tfX9 (cw.l hw hi_i) 6 (by decide) q525 (fun _ h => h) (v := .int (ld i 6)) rfl dX2_endDay_57 ?_
        refine lv_iconst (v := 3) hx hb dX2_endDay_60 (by decide) ?_
        refine lv_icmp_eq (tgt := 67) hx hb dX2_endDay_61 (by decide) (fun c_12 => ?_) (fun c_12 => ?_)
        · skip
          refine lv_iload_n hx hb dX2_endDay_67 rfl (lv_at hl 3 rfl) ?_
          refine lv_aload hx hb dX2_endDay_68 (lv_at hl 0 rfl) ?_
          refine mgetN fx tfX9 (cw.l hw hi_i) 1 (by decide) q513 (fun _ h => h) (v := .int (ld i 1)) rfl dX2_endDay_70 ?_
          refine lv_iadd hx hb dX2_endDay_73 ?_
          refine lv_istore_n (lv' := [(3, .int ((cDay (sc 0) ld (fun k => ld k 1) i) + (ld i 1))), (6, .ref (la.1 4 i)), (5, .int (nI i)), (4, .int (cDay (sc 0) ld (fun k => ld k 1 * ld k 5) i)), (0, .ref (la.1 0 0)), (1, .int x), (2, .int y)]) hx hb dX2_endDay_74 rfl hl (by decide) rfl (fun ls hl => ?_)
          refine lv_iload hx hb dX2_endDay_75 (lv_at hl 3 rfl) ?_
          refine lv_aload hx hb dX2_endDay_77 (lv_at hl 1 rfl) ?_
          refine mgetN fx tfX9 (cw.l hw hi_i) 1 (by decide) q513 (fun _ h => h) (v := .int (ld i 1)) rfl dX2_endDay_79 ?_
          refine lv_aload hx hb dX2_endDay_82 (lv_at hl 1 rfl) ?_
          refine mgetN fx tfX9 (cw.l hw hi_i) 5 (by decide) q522 (fun _ h => h) (v := .int (ld i 5)) rfl dX2_endDay_84 ?_
          refine lv_imul hx hb dX2_endDay_87 ?_
          refine lv_iadd hx hb dX2_endDay_88 ?_
          refine lv_istore (lv' := [(4, .int ((cDay (sc 0) ld (fun k => ld k 1 * ld k 5) i) + ((ld i 1) * (ld i 5)))), (3, .int ((cDay (sc 0) ld (fun k => ld k 1) i) + (ld i 1))), (6, .ref (la.1 4 i)), (5, .int (nI i)), (0, .ref (la.1 0 0)), (1, .int x), (2, .int y)]) hx hb dX2_endDay_89 hl (by decide) rfl (fun ls hl => ?_)
          refine lv_iinc (v := nI (i + 1)) (lv' := [(5, .int (nI (i + 1))), (4, .int ((cDay (sc 0) ld (fun k => ld k 1 * ld k 5) i) + ((ld i 1) * (ld i 5)))), (3, .int ((cDay (sc 0) ld (fun k => ld k 1) i) + (ld i 1))), (6, .ref (la.1 4 i)), (0, .ref (la.1 0 0)), (1, .int x), (2, .int y)]) hx hb dX2_endDay_91 hl (k := 3) rfl (nI_1 _) (by decide) rfl (fun ls hl => ?_)
          refine lv_goto (tgt := 14) hx hb dX2_endDay_94 (by decide) ?_
          have e_13 : (.int ((cDay (sc 0) ld (fun k => ld k 1 * ld k 5) i) + ((ld i 1) * (ld i 5))) : Value) = .int (cDay (sc 0) ld (fun k => ld k 1 * ld k 5) (i + 1)) := (congrArg Value.int (cDay_b c_9 c_12).symm)
          rw [e_13] at hl
          have e_14 : (.int ((cDay (sc 0) ld (fun k => ld k 1) i) + (ld i 1)) : Value) = .int (cDay (sc 0) ld (fun k => ld k 1) (i + 1)) := (congrArg Value.int (cDay_b c_9 c_12).symm)
          rw [e_14] at hl
          exact ih (i + 1) H locs ls (by omega) hS hw (lv_sub hl [0, 1, 2, 4, 5, 6] rfl)
        · skip
          refine lv_goto (tgt := 91) hx hb dX2_endDay_64 (by decide) ?_
          refine lv_iinc (v := nI (i + 1)) (lv' := [(5, .int (nI (i + 1))), (6, .ref (la.1 4 i)), (4, .int (cDay (sc 0) ld (fun k => ld k 1 * ld k 5) i)), (3, .int (cDay (sc 0) ld (fun k => ld k 1) i)), (0, .ref (la.1 0 0)), (1, .int x), (2, .int y)]) hx hb dX2_endDay_91 hl (k := 1) rfl (nI_1 _) (by decide) rfl (fun ls hl => ?_)
          refine lv_goto (tgt := 14) hx hb dX2_endDay_94 (by decide) ?_
          have e_15 : (.int (cDay (sc 0) ld (fun k => ld k 1 * ld k 5) i) : Value) = .int (cDay (sc 0) ld (fun k => ld k 1 * ld k 5) (i + 1)) := (congrArg Value.int (cDay_c c_9 c_12).symm)
          rw [e_15] at hl
          have e_16 : (.int (cDay (sc 0) ld (fun k => ld k 1) i) : Value) = .int (cDay (sc 0) ld (fun k => ld k 1) (i + 1)) := (congrArg Value.int (cDay_c c_9 c_12).symm)
          rw [e_16] at hl
          exact ih (i + 1) H locs ls (by omega) hS hw (lv_sub hl [0, 2, 3, 4, 5, 6] rfl)
  exact lp_1 (n 2 - 0) 0 H locs ls (by omega) hS hw (lv_sub hl [0, 1, 2, 3, 4, 5] rfl)

set_option maxHeartbeats 4000000 in
theorem m_W_pass (l : Launch) (g : GT) (sz : Nat) (la : LT) (sc : Nat → Int32) (sw : Int64) (ar fd tr ld : Nat → Nat → Int32) (n : CN) (hn : cN n) (hv : cV n fd tr ld) (x y : Int32) : Cn l g yX2_pass cX2_pass 4 ((some .int)) 7 1 12 [.ref (la.1 0 0), .int x, .int y] (fA (cF la n) sz) (fun H => sz = H.size ∧ cw g (bA g) la (sc, sw, ar, fd, tr, ld, n) H) (fun Hp rv Hq => rv = some (.int (cPass n (sc, sw, ar, fd, tr, ld) x y).2) ∧ cw g (fA (cF la n) sz) la (mkC (cPass n (sc, sw, ar, fd, tr, ld) x y).1 n) Hq) := by
  refine Cn.start (plainFor_of_name (by decide +kernel)) (Nat.le_of_ble_eq_true rfl) ?_
  intro p ev s m below meth c ls H locs hH hx hb hr hts hown hlocks hml hnm hK hP hS hl
  obtain ⟨hsz, hw⟩ := hP
  have hszs : sz = s.heap.size := by rw [hsz, hH]
  have hAs : ∀ q, s.heap.size ≤ q → (fA (cF la n) sz) q := fun q h => Or.inr (by rw [hszs]; exact h)
  have hAb : ∀ q, (fA (cF la n) sz) q → bA g q := fun q h => h.elim (hw.1.ft q) (fun h => Nat.le_trans hK.2.2.sz (by rw [← hszs]; exact h))
  replace hw : cw g (fA (cF la n) sz) la (sc, sw, ar, fd, tr, ld, n) H := cw.self hw sz
  have fx : Fx p s m ([.ref (la.1 0 0), .int x, .int y] : List Value).toArray c cX2_pass RX2 g (fA (cF la n) sz) 4 := ⟨hx, hb, hts, hown, hK, hAb, hml⟩
  have hl : lv_has ls 4 [(0, .ref (la.1 0 0)), (1, .int x), (2, .int y)] := hl
  refine lv_aload_n hx hb dX2_pass_0 rfl (lv_at hl 0 rfl) ?_
  refine lv_dup hx hb dX2_pass_1 rfl ?_
  refine mget fx tfX2 (cw.w hw) 6 (by decide) q132 (fun _ h => h) (v := .int (sc 0)) rfl dX2_pass_2 ?_
  refine lv_iconst (v := 1) hx hb dX2_pass_5 (by decide) ?_
  refine lv_iadd hx hb dX2_pass_6 ?_
  refine mput fx tfX2 (cw.w hw) hS (cw.inW hw (by decide)) 6 (by decide) q132 (fun _ h => h) rfl rfl rfl (Nat.le_of_ble_eq_true rfl) dX2_pass_7 (fun H locs hat hz hoq hS => ?_)
  replace hw : cw g (fA (cF la n) sz) la (va_up sc 0 ((sc 0) + 1), sw, ar, fd, tr, ld, n) H := cw.setW hw hat (fun q _ h9 => hoq q h9)
  refine lv_iconst (v := 0) hx hb dX2_pass_10 (by decide) ?_
  refine lv_istore_n (lv' := [(3, .int 0), (0, .ref (la.1 0 0)), (1, .int x), (2, .int y)]) hx hb dX2_pass_11 rfl hl (by decide) rfl (fun ls hl => ?_)
  have lp_1 : ∀ (d_2 i : Nat) (H : Heap) (locs : List Loc) (ls : Array Slot) (sc1 : Nat → Int32) (sw1 : Int64) (ar1 : Nat → Nat → Int32) (fd1 : Nat → Nat → Int32) (tr1 : Nat → Nat → Int32) (ld1 : Nat → Nat → Int32), i + d_2 = n 1 → va_S (fA (cF la n) sz) s.heap H locs → cDrives n (va_up sc 0 (sc 0 + 1), sw, ar, fd, tr, ld) i = (sc1, sw1, ar1, fd1, tr1, ld1) → cV n fd1 tr1 ld1 → cw g (fA (cF la n) sz) la (sc1, sw1, ar1, fd1, tr1, ld1, n) H → lv_has ls 4 [(3, .int (nI i)), (0, .ref (la.1 0 0)), (1, .int x), (2, .int y)] → W p l ev (mR 7 1 12) s m ([.ref (la.1 0 0), .int x, .int y] : List Value).toArray below meth c H locs 0 0 (MQ below (mQ (fA (cF la n) sz) (fun Hp rv Hq => rv = some (.int (cPass n (sc, sw, ar, fd, tr, ld) x y).2) ∧ cw g (fA (cF la n) sz) la (mkC (cPass n (sc, sw, ar, fd, tr, ld) x y).1 n) Hq)) ([.ref (la.1 0 0), .int x, .int y] : List Value).toArray s 1 12 (fA (cF la n) sz)) (F0 m 12 ls []) := by
    intro d_2
    induction d_2 with
    | zero =>
      intro i H locs ls sc1 sw1 ar1 fd1 tr1 ld1 hid hS hD hv hw hl
      obtain rfl : n 1 = i := by omega
      refine lv_iload_n hx hb dX2_pass_12 rfl (lv_at hl 0 rfl) ?_
      refine lv_aload_n hx hb dX2_pass_13 rfl (lv_at hl 1 rfl) ?_
      refine mget fx tfX2 (cw.w hw) 1 (by decide) q122 (fun _ h => h) (v := .ref (la.1 0 2)) rfl dX2_pass_14 ?_
      refine kV fx (m_AL_size l g (la.1 0 2) (la.1 1 1) (la.2.2 1) (nI (n 1))) (lw_V q261 q254 q255 q54 q256) hdJ2_size ⟨(Nat.le_of_ble_eq_true rfl), (Nat.le_of_ble_eq_true rfl)⟩ ⟨(Nat.le_of_ble_eq_true rfl), (Nat.le_of_ble_eq_true rfl)⟩ hl.1 hS tfJ2.2.1 (cw.al1 hw) rfl (Nat.le_of_ble_eq_true rfl) (cw.al1 hw) (fun _ h => h.elim) dX2_pass_17 (fun rv9 H locs hQ hz9 hk9 hS => ?_)
      obtain ⟨rfl, rfl⟩ := hQ
      refine W.eq (g2 := F0 m 20 ls [.int (nI (n 1)), .int (nI (n 1))]) rfl ?_
      refine lv_icmp_ge (tgt := 61) hx hb dX2_pass_20 (by decide) (fun _ => ?_) (fun h9 => absurd (nI_le (Nat.le_refl _) hn.h1) h9)
      refine lv_iconst (v := 0) hx hb dX2_pass_61 (by decide) ?_
      refine lv_istore_n (lv' := [(3, .int 0), (0, .ref (la.1 0 0)), (1, .int x), (2, .int y)]) hx hb dX2_pass_62 rfl hl (by decide) rfl (fun ls hl => ?_)
      have lp_3 : ∀ (d_4 i : Nat) (H : Heap) (locs : List Loc) (ls : Array Slot), i + d_4 = n 2 → va_S (fA (cF la n) sz) s.heap H locs → cw g (fA (cF la n) sz) la (sc1, sw1, ar1, fd1, tr1, cSpoil ld1 x i, n) H → lv_has ls 4 [(3, .int (nI i)), (0, .ref (la.1 0 0)), (1, .int x), (2, .int y)] → W p l ev (mR 7 1 12) s m ([.ref (la.1 0 0), .int x, .int y] : List Value).toArray below meth c H locs 0 0 (MQ below (mQ (fA (cF la n) sz) (fun Hp rv Hq => rv = some (.int (cPass n (sc, sw, ar, fd, tr, ld) x y).2) ∧ cw g (fA (cF la n) sz) la (mkC (cPass n (sc, sw, ar, fd, tr, ld) x y).1 n) Hq)) ([.ref (la.1 0 0), .int x, .int y] : List Value).toArray s 1 12 (fA (cF la n) sz)) (F0 m 63 ls []) := by
        intro d_4
        induction d_4 with
        | zero =>
          intro i H locs ls hid hS hw hl
          obtain rfl : n 2 = i := by omega
          have hv0 := hv
          replace hv : cV n fd1 tr1 (cSpoil ld1 x (n 2)) := cV.spoil hv0 (n 2)
          refine lv_iload_n hx hb dX2_pass_63 rfl (lv_at hl 0 rfl) ?_
          refine lv_aload_n hx hb dX2_pass_64 rfl (lv_at hl 1 rfl) ?_
          refine mget fx tfX2 (cw.w hw) 2 (by decide) q124 (fun _ h => h) (v := .ref (la.1 0 3)) rfl dX2_pass_65 ?_
          refine kV fx (m_AL_size l g (la.1 0 3) (la.1 1 2) (la.2.2 2) (nI (n 2))) (lw_V q261 q254 q255 q54 q256) hdJ2_size ⟨(Nat.le_of_ble_eq_true rfl), (Nat.le_of_ble_eq_true rfl)⟩ ⟨(Nat.le_of_ble_eq_true rfl), (Nat.le_of_ble_eq_true rfl)⟩ hl.1 hS tfJ2.2.1 (cw.al2 hw) rfl (Nat.le_of_ble_eq_true rfl) (cw.al2 hw) (fun _ h => h.elim) dX2_pass_68 (fun rv9 H locs hQ hz9 hk9 hS => ?_)
          obtain ⟨rfl, rfl⟩ := hQ
          refine W.eq (g2 := F0 m 71 ls [.int (nI (n 2)), .int (nI (n 2))]) rfl ?_
          refine lv_icmp_ge (tgt := 95) hx hb dX2_pass_71 (by decide) (fun _ => ?_) (fun h9 => absurd (nI_le (Nat.le_refl _) hn.h2) h9)
          refine lv_iconst (v := 0) hx hb dX2_pass_95 (by decide) ?_
          refine lv_istore_n (lv' := [(3, .int 0), (0, .ref (la.1 0 0)), (1, .int x), (2, .int y)]) hx hb dX2_pass_96 rfl hl (by decide) rfl (fun ls hl => ?_)
          refine lv_aload_n hx hb dX2_pass_97 rfl (lv_at hl 1 rfl) ?_
          refine mget fx tfX2 (cw.w hw) 8 (by decide) q135 (fun _ h => h) (v := .int (sc1 2)) rfl dX2_pass_98 ?_
          refine lv_iconst (v := 1) hx hb dX2_pass_101 (by decide) ?_
          refine lv_icmp_ne (tgt := 130) hx hb dX2_pass_102 (by decide) (fun c_5 => ?_) (fun c_5 => ?_)
          · skip
            refine lv_aload_n hx hb dX2_pass_130 rfl (lv_at hl 1 rfl) ?_
            refine mget fx tfX2 (cw.w hw) 8 (by decide) q135 (fun _ h => h) (v := .int (sc1 2)) rfl dX2_pass_131 ?_
            refine lv_iconst (v := 2) hx hb dX2_pass_134 (by decide) ?_
            refine lv_icmp_ne (tgt := 143) hx hb dX2_pass_135 (by decide) (fun c_6 => ?_) (fun c_6 => ?_)
            · skip
              refine lv_aload_n hx hb dX2_pass_143 rfl (lv_at hl 1 rfl) ?_
              refine mget fx tfX2 (cw.w hw) 6 (by decide) q132 (fun _ h => h) (v := .int (sc1 0)) rfl dX2_pass_144 ?_
              refine lv_bipush (v := 24) hx hb dX2_pass_147 (by decide) ?_
              refine lv_irem hx hb dX2_pass_149 (by decide) ?_
              refine lv_if_ne (tgt := 159) hx hb dX2_pass_150 (by decide) (fun c_7 => ?_) (fun c_7 => ?_)
              · skip
                refine lv_iload_n hx hb dX2_pass_159 rfl (lv_at hl 0 rfl) ?_
                exact ri hx hb hr hlocks hS (by rw [(cPass_eq (S0 := (sc, sw, ar, fd, tr, ld)) hD ((if_neg c_5).trans (if_neg c_6))).trans (if_neg c_7)]; exact ⟨rfl, hw⟩) ⟨(Nat.le_of_ble_eq_true rfl), (Nat.le_of_ble_eq_true rfl)⟩ dX2_pass_160
              · skip
                refine lv_aload_n hx hb dX2_pass_153 rfl (lv_at hl 1 rfl) ?_
                refine lv_iload_n hx hb dX2_pass_154 rfl (lv_at hl 2 rfl) ?_
                refine lv_iload_n hx hb dX2_pass_155 rfl (lv_at hl 3 rfl) ?_
                have hbk := cw.back hw (fun q h9 => hAs q (Nat.le_trans hS.1 h9))
                have hSb := hS
                refine kV fx (m_W_endDay l g _ la sc1 sw1 ar1 fd1 tr1 (cSpoil ld1 x (n 2)) n hn hv x y) (lw_V q597 q598 q599 q51 q600) hdX2_endDay ⟨(Nat.le_of_ble_eq_true rfl), (Nat.le_of_ble_eq_true rfl)⟩ ⟨(Nat.le_of_ble_eq_true rfl), (Nat.le_of_ble_eq_true rfl)⟩ hl.1 hS tfX2.2.1 (cw.w hw) rfl (Nat.le_of_ble_eq_true rfl) (⟨rfl, cw.weaken hw fx.2.2.2.2.2.1⟩) (fun q h9 => hbk q h9) dX2_pass_156 (fun rv9 H locs hQ hz9 hk9 hS => ?_)
                obtain ⟨rfl, hw9⟩ := hQ
                replace hw : cw g (fA (cF la n) sz) la ((cEndDay n (sc1, sw1, ar1, fd1, tr1, cSpoil ld1 x (n 2)) x y).1, (cEndDay n (sc1, sw1, ar1, fd1, tr1, cSpoil ld1 x (n 2)) x y).2.1, (cEndDay n (sc1, sw1, ar1, fd1, tr1, cSpoil ld1 x (n 2)) x y).2.2.1, (cEndDay n (sc1, sw1, ar1, fd1, tr1, cSpoil ld1 x (n 2)) x y).2.2.2.1, (cEndDay n (sc1, sw1, ar1, fd1, tr1, cSpoil ld1 x (n 2)) x y).2.2.2.2.1, (cEndDay n (sc1, sw1, ar1, fd1, tr1, cSpoil ld1 x (n 2)) x y).2.2.2.2.2, n) H := cw.weaken hw9 hbk
                refine W.eq (g2 := F0 m 159 ls []) rfl ?_
                refine lv_iload_n hx hb dX2_pass_159 rfl (lv_at hl 0 rfl) ?_
                exact ri hx hb hr hlocks hS (by rw [(cPass_eq (S0 := (sc, sw, ar, fd, tr, ld)) hD ((if_neg c_5).trans (if_neg c_6))).trans (if_pos c_7)]; exact ⟨rfl, hw⟩) ⟨(Nat.le_of_ble_eq_true rfl), (Nat.le_of_ble_eq_true rfl)⟩ dX2_pass_160
            · skip
              refine lv_aload_n hx hb dX2_pass_138 rfl (lv_at hl 1 rfl) ?_
              have hbk := cw.back hw (fun q h9 => hAs q (Nat.le_trans hS.1 h9))
              refine kV fx (m_W_crush l g _ la sc1 sw1 ar1 fd1 tr1 (cSpoil ld1 x (n 2)) n hn hv) (lw_V q573 q575 qs15 q51 q576) hdX2_crush ⟨(Nat.le_of_ble_eq_true rfl), (Nat.le_of_ble_eq_true rfl)⟩ ⟨(Nat.le_of_ble_eq_true rfl), (Nat.le_of_ble_eq_true rfl)⟩ hl.1 hS tfX2.2.1 (cw.w hw) rfl (Nat.le_of_ble_eq_true rfl) (⟨rfl, cw.weaken hw fx.2.2.2.2.2.1⟩) (fun q h9 => hbk q h9) dX2_pass_139 (fun rv9 H locs hQ hz9 hk9 hS => ?_)
              obtain ⟨rfl, hw9⟩ := hQ
              replace hw : cw g (fA (cF la n) sz) la (((cCrushAll (n 2) (sc1, sw1, ar1, fd1, tr1, cSpoil ld1 x (n 2))).1).1, ((cCrushAll (n 2) (sc1, sw1, ar1, fd1, tr1, cSpoil ld1 x (n 2))).1).2.1, ((cCrushAll (n 2) (sc1, sw1, ar1, fd1, tr1, cSpoil ld1 x (n 2))).1).2.2.1, ((cCrushAll (n 2) (sc1, sw1, ar1, fd1, tr1, cSpoil ld1 x (n 2))).1).2.2.2.1, ((cCrushAll (n 2) (sc1, sw1, ar1, fd1, tr1, cSpoil ld1 x (n 2))).1).2.2.2.2.1, ((cCrushAll (n 2) (sc1, sw1, ar1, fd1, tr1, cSpoil ld1 x (n 2))).1).2.2.2.2.2, n) H := cw.weaken hw9 hbk
              have hv0 := hv
              replace hv : cV n (((cCrushAll (n 2) (sc1, sw1, ar1, fd1, tr1, cSpoil ld1 x (n 2))).1).2.2.2.1) (((cCrushAll (n 2) (sc1, sw1, ar1, fd1, tr1, cSpoil ld1 x (n 2))).1).2.2.2.2.1) (((cCrushAll (n 2) (sc1, sw1, ar1, fd1, tr1, cSpoil ld1 x (n 2))).1).2.2.2.2.2) := cV.crushAll (S := (sc1, sw1, ar1, fd1, tr1, cSpoil ld1 x (n 2))) hv0
              refine W.eq (g2 := F0 m 142 ls [.int ((cCrushAll (n 2) (sc1, sw1, ar1, fd1, tr1, cSpoil ld1 x (n 2))).2)]) rfl ?_
              refine lv_istore_n (lv' := [(3, .int ((cCrushAll (n 2) (sc1, sw1, ar1, fd1, tr1, cSpoil ld1 x (n 2))).2)), (0, .ref (la.1 0 0)), (1, .int x), (2, .int y)]) hx hb dX2_pass_142 rfl hl (by decide) rfl (fun ls hl => ?_)
              refine lv_aload_n hx hb dX2_pass_143 rfl (lv_at hl 1 rfl) ?_
              refine mget fx tfX2 (cw.w hw) 6 (by decide) q132 (fun _ h => h) (v := .int ((((cCrushAll (n 2) (sc1, sw1, ar1, fd1, tr1, cSpoil ld1 x (n 2))).1).1) 0)) rfl dX2_pass_144 ?_
              refine lv_bipush (v := 24) hx hb dX2_pass_147 (by decide) ?_
              refine lv_irem hx hb dX2_pass_149 (by decide) ?_
              refine lv_if_ne (tgt := 159) hx hb dX2_pass_150 (by decide) (fun c_8 => ?_) (fun c_8 => ?_)
              · skip
                refine lv_iload_n hx hb dX2_pass_159 rfl (lv_at hl 0 rfl) ?_
                exact ri hx hb hr hlocks hS (by rw [(cPass_eq (S0 := (sc, sw, ar, fd, tr, ld)) hD ((if_neg c_5).trans (if_pos c_6))).trans (if_neg c_8)]; exact ⟨rfl, hw⟩) ⟨(Nat.le_of_ble_eq_true rfl), (Nat.le_of_ble_eq_true rfl)⟩ dX2_pass_160
              · skip
                refine lv_aload_n hx hb dX2_pass_153 rfl (lv_at hl 1 rfl) ?_
                refine lv_iload_n hx hb dX2_pass_154 rfl (lv_at hl 2 rfl) ?_
                refine lv_iload_n hx hb dX2_pass_155 rfl (lv_at hl 3 rfl) ?_
                have hbk := cw.back hw (fun q h9 => hAs q (Nat.le_trans hS.1 h9))
                have hSb := hS
                refine kV fx (m_W_endDay l g _ la (((cCrushAll (n 2) (sc1, sw1, ar1, fd1, tr1, cSpoil ld1 x (n 2))).1).1) (((cCrushAll (n 2) (sc1, sw1, ar1, fd1, tr1, cSpoil ld1 x (n 2))).1).2.1) (((cCrushAll (n 2) (sc1, sw1, ar1, fd1, tr1, cSpoil ld1 x (n 2))).1).2.2.1) (((cCrushAll (n 2) (sc1, sw1, ar1, fd1, tr1, cSpoil ld1 x (n 2))).1).2.2.2.1) (((cCrushAll (n 2) (sc1, sw1, ar1, fd1, tr1, cSpoil ld1 x (n 2))).1).2.2.2.2.1) (((cCrushAll (n 2) (sc1, sw1, ar1, fd1, tr1, cSpoil ld1 x (n 2))).1).2.2.2.2.2) n hn hv x y) (lw_V q597 q598 q599 q51 q600) hdX2_endDay ⟨(Nat.le_of_ble_eq_true rfl), (Nat.le_of_ble_eq_true rfl)⟩ ⟨(Nat.le_of_ble_eq_true rfl), (Nat.le_of_ble_eq_true rfl)⟩ hl.1 hS tfX2.2.1 (cw.w hw) rfl (Nat.le_of_ble_eq_true rfl) (⟨rfl, cw.weaken hw fx.2.2.2.2.2.1⟩) (fun q h9 => hbk q h9) dX2_pass_156 (fun rv9 H locs hQ hz9 hk9 hS => ?_)
                obtain ⟨rfl, hw9⟩ := hQ
                replace hw : cw g (fA (cF la n) sz) la ((cEndDay n (((cCrushAll (n 2) (sc1, sw1, ar1, fd1, tr1, cSpoil ld1 x (n 2))).1).1, ((cCrushAll (n 2) (sc1, sw1, ar1, fd1, tr1, cSpoil ld1 x (n 2))).1).2.1, ((cCrushAll (n 2) (sc1, sw1, ar1, fd1, tr1, cSpoil ld1 x (n 2))).1).2.2.1, ((cCrushAll (n 2) (sc1, sw1, ar1, fd1, tr1, cSpoil ld1 x (n 2))).1).2.2.2.1, ((cCrushAll (n 2) (sc1, sw1, ar1, fd1, tr1, cSpoil ld1 x (n 2))).1).2.2.2.2.1, ((cCrushAll (n 2) (sc1, sw1, ar1, fd1, tr1, cSpoil ld1 x (n 2))).1).2.2.2.2.2) x y).1, (cEndDay n (((cCrushAll (n 2) (sc1, sw1, ar1, fd1, tr1, cSpoil ld1 x (n 2))).1).1, ((cCrushAll (n 2) (sc1, sw1, ar1, fd1, tr1, cSpoil ld1 x (n 2))).1).2.1, ((cCrushAll (n 2) (sc1, sw1, ar1, fd1, tr1, cSpoil ld1 x (n 2))).1).2.2.1, ((cCrushAll (n 2) (sc1, sw1, ar1, fd1, tr1, cSpoil ld1 x (n 2))).1).2.2.2.1, ((cCrushAll (n 2) (sc1, sw1, ar1, fd1, tr1, cSpoil ld1 x (n 2))).1).2.2.2.2.1, ((cCrushAll (n 2) (sc1, sw1, ar1, fd1, tr1, cSpoil ld1 x (n 2))).1).2.2.2.2.2) x y).2.1, (cEndDay n (((cCrushAll (n 2) (sc1, sw1, ar1, fd1, tr1, cSpoil ld1 x (n 2))).1).1, ((cCrushAll (n 2) (sc1, sw1, ar1, fd1, tr1, cSpoil ld1 x (n 2))).1).2.1, ((cCrushAll (n 2) (sc1, sw1, ar1, fd1, tr1, cSpoil ld1 x (n 2))).1).2.2.1, ((cCrushAll (n 2) (sc1, sw1, ar1, fd1, tr1, cSpoil ld1 x (n 2))).1).2.2.2.1, ((cCrushAll (n 2) (sc1, sw1, ar1, fd1, tr1, cSpoil ld1 x (n 2))).1).2.2.2.2.1, ((cCrushAll (n 2) (sc1, sw1, ar1, fd1, tr1, cSpoil ld1 x (n 2))).1).2.2.2.2.2) x y).2.2.1, (cEndDay n (((cCrushAll (n 2) (sc1, sw1, ar1, fd1, tr1, cSpoil ld1 x (n 2))).1).1, ((cCrushAll (n 2) (sc1, sw1, ar1, fd1, tr1, cSpoil ld1 x (n 2))).1).2.1, ((cCrushAll (n 2) (sc1, sw1, ar1, fd1, tr1, cSpoil ld1 x (n 2))).1).2.2.1, ((cCrushAll (n 2) (sc1, sw1, ar1, fd1, tr1, cSpoil ld1 x (n 2))).1).2.2.2.1, ((cCrushAll (n 2) (sc1, sw1, ar1, fd1, tr1, cSpoil ld1 x (n 2))).1).2.2.2.2.1, ((cCrushAll (n 2) (sc1, sw1, ar1, fd1, tr1, cSpoil ld1 x (n 2))).1).2.2.2.2.2) x y).2.2.2.1, (cEndDay n (((cCrushAll (n 2) (sc1, sw1, ar1, fd1, tr1, cSpoil ld1 x (n 2))).1).1, ((cCrushAll (n 2) (sc1, sw1, ar1, fd1, tr1, cSpoil ld1 x (n 2))).1).2.1, ((cCrushAll (n 2) (sc1, sw1, ar1, fd1, tr1, cSpoil ld1 x (n 2))).1).2.2.1, ((cCrushAll (n 2) (sc1, sw1, ar1, fd1, tr1, cSpoil ld1 x (n 2))).1).2.2.2.1, ((cCrushAll (n 2) (sc1, sw1, ar1, fd1, tr1, cSpoil ld1 x (n 2))).1).2.2.2.2.1, ((cCrushAll (n 2) (sc1, sw1, ar1, fd1, tr1, cSpoil ld1 x (n 2))).1).2.2.2.2.2) x y).2.2.2.2.1, (cEndDay n (((cCrushAll (n 2) (sc1, sw1, ar1, fd1, tr1, cSpoil ld1 x (n 2))).1).1, ((cCrushAll (n 2) (sc1, sw1, ar1, fd1, tr1, cSpoil ld1 x (n 2))).1).2.1, ((cCrushAll (n 2) (sc1, sw1, ar1, fd1, tr1, cSpoil ld1 x (n 2))).1).2.2.1, ((cCrushAll (n 2) (sc1, sw1, ar1, fd1, tr1, cSpoil ld1 x (n 2))).1).2.2.2.1, ((cCrushAll (n 2) (sc1, sw1, ar1, fd1, tr1, cSpoil ld1 x (n 2))).1).2.2.2.2.1, ((cCrushAll (n 2) (sc1, sw1, ar1, fd1, tr1, cSpoil ld1 x (n 2))).1).2.2.2.2.2) x y).2.2.2.2.2, n) H := cw.weaken hw9 hbk
                refine W.eq (g2 := F0 m 159 ls []) rfl ?_
                refine lv_iload_n hx hb dX2_pass_159 rfl (lv_at hl 0 rfl) ?_
                exact ri hx hb hr hlocks hS (by rw [(cPass_eq (S0 := (sc, sw, ar, fd, tr, ld)) hD ((if_neg c_5).trans (if_pos c_6))).trans (if_pos c_8)]; exact ⟨rfl, hw⟩) ⟨(Nat.le_of_ble_eq_true rfl), (Nat.le_of_ble_eq_true rfl)⟩ dX2_pass_160
          · skip
            refine lv_aload_n hx hb dX2_pass_105 rfl (lv_at hl 1 rfl) ?_
            refine lv_dup hx hb dX2_pass_106 rfl ?_
            refine mget fx tfX2 (cw.w hw) 9 (by decide) q137 (fun _ h => h) (v := .int (sc1 3)) rfl dX2_pass_107 ?_
            refine lv_iconst (v := 1) hx hb dX2_pass_110 (by decide) ?_
            refine lv_isub hx hb dX2_pass_111 ?_
            refine mput fx tfX2 (cw.w hw) hS (cw.inW hw (by decide)) 9 (by decide) q137 (fun _ h => h) rfl rfl rfl (Nat.le_of_ble_eq_true rfl) dX2_pass_112 (fun H locs hat hz hoq hS => ?_)
            replace hw : cw g (fA (cF la n) sz) la (va_up sc1 3 ((sc1 3) - 1), sw1, ar1, fd1, tr1, cSpoil ld1 x (n 2), n) H := cw.setW hw hat (fun q _ h9 => hoq q h9)
            refine lv_aload_n hx hb dX2_pass_115 rfl (lv_at hl 1 rfl) ?_
            refine mget fx tfX2 (cw.w hw) 9 (by decide) q137 (fun _ h => h) (v := .int ((sc1 3) - 1)) rfl dX2_pass_116 ?_
            refine lv_if_ne (tgt := 143) hx hb dX2_pass_119 (by decide) (fun c_9 => ?_) (fun c_9 => ?_)
            · skip
              refine lv_aload_n hx hb dX2_pass_143 rfl (lv_at hl 1 rfl) ?_
              refine mget fx tfX2 (cw.w hw) 6 (by decide) q132 (fun _ h => h) (v := .int (sc1 0)) rfl dX2_pass_144 ?_
              refine lv_bipush (v := 24) hx hb dX2_pass_147 (by decide) ?_
              refine lv_irem hx hb dX2_pass_149 (by decide) ?_
              refine lv_if_ne (tgt := 159) hx hb dX2_pass_150 (by decide) (fun c_10 => ?_) (fun c_10 => ?_)
              · skip
                refine lv_iload_n hx hb dX2_pass_159 rfl (lv_at hl 0 rfl) ?_
                exact ri hx hb hr hlocks hS (by rw [(cPass_eq (S0 := (sc, sw, ar, fd, tr, ld)) hD ((if_pos c_5).trans (if_neg c_9))).trans (if_neg c_10)]; exact ⟨rfl, hw⟩) ⟨(Nat.le_of_ble_eq_true rfl), (Nat.le_of_ble_eq_true rfl)⟩ dX2_pass_160
              · skip
                refine lv_aload_n hx hb dX2_pass_153 rfl (lv_at hl 1 rfl) ?_
                refine lv_iload_n hx hb dX2_pass_154 rfl (lv_at hl 2 rfl) ?_
                refine lv_iload_n hx hb dX2_pass_155 rfl (lv_at hl 3 rfl) ?_
                have hbk := cw.back hw (fun q h9 => hAs q (Nat.le_trans hS.1 h9))
                have hSb := hS
                refine kV fx (m_W_endDay l g _ la (va_up sc1 3 ((sc1 3) - 1)) sw1 ar1 fd1 tr1 (cSpoil ld1 x (n 2)) n hn hv x y) (lw_V q597 q598 q599 q51 q600) hdX2_endDay ⟨(Nat.le_of_ble_eq_true rfl), (Nat.le_of_ble_eq_true rfl)⟩ ⟨(Nat.le_of_ble_eq_true rfl), (Nat.le_of_ble_eq_true rfl)⟩ hl.1 hS tfX2.2.1 (cw.w hw) rfl (Nat.le_of_ble_eq_true rfl) (⟨rfl, cw.weaken hw fx.2.2.2.2.2.1⟩) (fun q h9 => hbk q h9) dX2_pass_156 (fun rv9 H locs hQ hz9 hk9 hS => ?_)
                obtain ⟨rfl, hw9⟩ := hQ
                replace hw : cw g (fA (cF la n) sz) la ((cEndDay n (va_up sc1 3 ((sc1 3) - 1), sw1, ar1, fd1, tr1, cSpoil ld1 x (n 2)) x y).1, (cEndDay n (va_up sc1 3 ((sc1 3) - 1), sw1, ar1, fd1, tr1, cSpoil ld1 x (n 2)) x y).2.1, (cEndDay n (va_up sc1 3 ((sc1 3) - 1), sw1, ar1, fd1, tr1, cSpoil ld1 x (n 2)) x y).2.2.1, (cEndDay n (va_up sc1 3 ((sc1 3) - 1), sw1, ar1, fd1, tr1, cSpoil ld1 x (n 2)) x y).2.2.2.1, (cEndDay n (va_up sc1 3 ((sc1 3) - 1), sw1, ar1, fd1, tr1, cSpoil ld1 x (n 2)) x y).2.2.2.2.1, (cEndDay n (va_up sc1 3 ((sc1 3) - 1), sw1, ar1, fd1, tr1, cSpoil ld1 x (n 2)) x y).2.2.2.2.2, n) H := cw.weaken hw9 hbk
                refine W.eq (g2 := F0 m 159 ls []) rfl ?_
                refine lv_iload_n hx hb dX2_pass_159 rfl (lv_at hl 0 rfl) ?_
                exact ri hx hb hr hlocks hS (by rw [(cPass_eq (S0 := (sc, sw, ar, fd, tr, ld)) hD ((if_pos c_5).trans (if_neg c_9))).trans (if_pos c_10)]; exact ⟨rfl, hw⟩) ⟨(Nat.le_of_ble_eq_true rfl), (Nat.le_of_ble_eq_true rfl)⟩ dX2_pass_160
            · skip
              refine lv_aload_n hx hb dX2_pass_122 rfl (lv_at hl 1 rfl) ?_
              refine lv_iconst (v := 2) hx hb dX2_pass_123 (by decide) ?_
              refine mput fx tfX2 (cw.w hw) hS (cw.inW hw (by decide)) 8 (by decide) q135 (fun _ h => h) rfl rfl rfl (Nat.le_of_ble_eq_true rfl) dX2_pass_124 (fun H locs hat hz hoq hS => ?_)
              replace hw : cw g (fA (cF la n) sz) la (va_up (va_up sc1 3 ((sc1 3) - 1)) 2 2, sw1, ar1, fd1, tr1, cSpoil ld1 x (n 2), n) H := cw.setW hw hat (fun q _ h9 => hoq q h9)
              refine lv_goto (tgt := 143) hx hb dX2_pass_127 (by decide) ?_
              refine lv_aload_n hx hb dX2_pass_143 rfl (lv_at hl 1 rfl) ?_
              refine mget fx tfX2 (cw.w hw) 6 (by decide) q132 (fun _ h => h) (v := .int (sc1 0)) rfl dX2_pass_144 ?_
              refine lv_bipush (v := 24) hx hb dX2_pass_147 (by decide) ?_
              refine lv_irem hx hb dX2_pass_149 (by decide) ?_
              refine lv_if_ne (tgt := 159) hx hb dX2_pass_150 (by decide) (fun c_11 => ?_) (fun c_11 => ?_)
              · skip
                refine lv_iload_n hx hb dX2_pass_159 rfl (lv_at hl 0 rfl) ?_
                exact ri hx hb hr hlocks hS (by rw [(cPass_eq (S0 := (sc, sw, ar, fd, tr, ld)) hD ((if_pos c_5).trans (if_pos c_9))).trans (if_neg c_11)]; exact ⟨rfl, hw⟩) ⟨(Nat.le_of_ble_eq_true rfl), (Nat.le_of_ble_eq_true rfl)⟩ dX2_pass_160
              · skip
                refine lv_aload_n hx hb dX2_pass_153 rfl (lv_at hl 1 rfl) ?_
                refine lv_iload_n hx hb dX2_pass_154 rfl (lv_at hl 2 rfl) ?_
                refine lv_iload_n hx hb dX2_pass_155 rfl (lv_at hl 3 rfl) ?_
                have hbk := cw.back hw (fun q h9 => hAs q (Nat.le_trans hS.1 h9))
                have hSb := hS
                refine kV fx (m_W_endDay l g _ la (va_up (va_up sc1 3 ((sc1 3) - 1)) 2 2) sw1 ar1 fd1 tr1 (cSpoil ld1 x (n 2)) n hn hv x y) (lw_V q597 q598 q599 q51 q600) hdX2_endDay ⟨(Nat.le_of_ble_eq_true rfl), (Nat.le_of_ble_eq_true rfl)⟩ ⟨(Nat.le_of_ble_eq_true rfl), (Nat.le_of_ble_eq_true rfl)⟩ hl.1 hS tfX2.2.1 (cw.w hw) rfl (Nat.le_of_ble_eq_true rfl) (⟨rfl, cw.weaken hw fx.2.2.2.2.2.1⟩) (fun q h9 => hbk q h9) dX2_pass_156 (fun rv9 H locs hQ hz9 hk9 hS => ?_)
                obtain ⟨rfl, hw9⟩ := hQ
                replace hw : cw g (fA (cF la n) sz) la ((cEndDay n (va_up (va_up sc1 3 ((sc1 3) - 1)) 2 2, sw1, ar1, fd1, tr1, cSpoil ld1 x (n 2)) x y).1, (cEndDay n (va_up (va_up sc1 3 ((sc1 3) - 1)) 2 2, sw1, ar1, fd1, tr1, cSpoil ld1 x (n 2)) x y).2.1, (cEndDay n (va_up (va_up sc1 3 ((sc1 3) - 1)) 2 2, sw1, ar1, fd1, tr1, cSpoil ld1 x (n 2)) x y).2.2.1, (cEndDay n (va_up (va_up sc1 3 ((sc1 3) - 1)) 2 2, sw1, ar1, fd1, tr1, cSpoil ld1 x (n 2)) x y).2.2.2.1, (cEndDay n (va_up (va_up sc1 3 ((sc1 3) - 1)) 2 2, sw1, ar1, fd1, tr1, cSpoil ld1 x (n 2)) x y).2.2.2.2.1, (cEndDay n (va_up (va_up sc1 3 ((sc1 3) - 1)) 2 2, sw1, ar1, fd1, tr1, cSpoil ld1 x (n 2)) x y).2.2.2.2.2, n) H := cw.weaken hw9 hbk
                refine W.eq (g2 := F0 m 159 ls []) rfl ?_
                refine lv_iload_n hx hb dX2_pass_159 rfl (lv_at hl 0 rfl) ?_
                exact ri hx hb hr hlocks hS (by rw [(cPass_eq (S0 := (sc, sw, ar, fd, tr, ld)) hD ((if_pos c_5).trans (if_pos c_9))).trans (if_pos c_11)]; exact ⟨rfl, hw⟩) ⟨(Nat.le_of_ble_eq_true rfl), (Nat.le_of_ble_eq_true rfl)⟩ dX2_pass_160
        | succ d_4 ih =>
          intro i H locs ls hid hS hw hl
          have hi_i : i < n 2 := by omega
          refine lv_iload_n hx hb dX2_pass_63 rfl (lv_at hl 0 rfl) ?_
          refine lv_aload_n hx hb dX2_pass_64 rfl (lv_at hl 1 rfl) ?_
          refine mget fx tfX2 (cw.w hw) 2 (by decide) q124 (fun _ h => h) (v := .ref (la.1 0 3)) rfl dX2_pass_65 ?_
          refine kV fx (m_AL_size l g (la.1 0 3) (la.1 1 2) (la.2.2 2) (nI (n 2))) (lw_V q261 q254 q255 q54 q256) hdJ2_size ⟨(Nat.le_of_ble_eq_true rfl), (Nat.le_of_ble_eq_true rfl)⟩ ⟨(Nat.le_of_ble_eq_true rfl), (Nat.le_of_ble_eq_true rfl)⟩ hl.1 hS tfJ2.2.1 (cw.al2 hw) rfl (Nat.le_of_ble_eq_true rfl) (cw.al2 hw) (fun _ h => h.elim) dX2_pass_68 (fun rv9 H locs hQ hz9 hk9 hS => ?_)
          obtain ⟨rfl, rfl⟩ := hQ
          refine W.eq (g2 := F0 m 71 ls [.int (nI (n 2)), .int (nI i)]) rfl ?_
          refine lv_icmp_ge (tgt := 95) hx hb dX2_pass_71 (by decide) (fun h9 => absurd h9 (nI_ge hi_i hn.h2)) (fun _ => ?_)
          refine lv_aload_n hx hb dX2_pass_74 rfl (lv_at hl 1 rfl) ?_
          refine mget fx tfX2 (cw.w hw) 2 (by decide) q124 (fun _ h => h) (v := .ref (la.1 0 3)) rfl dX2_pass_75 ?_
          refine lv_iload_n hx hb dX2_pass_78 rfl (lv_at hl 0 rfl) ?_
          refine kV fx (m_AL_get l g (la.1 0 3) (la.1 1 2) i (n 2) (la.2.1 2) (la.1 4 i) (la.2.2 2) (elF la.1 n 2) hi_i (cw.get hw (k := 2) (by decide) hi_i).2.1 (cw.get hw (k := 2) (by decide) hi_i).2.2.1 (cw.get hw (k := 2) (by decide) hi_i).2.2.2) (lw_V q262 q263 q264 q54 q265) hdJ2_get ⟨(Nat.le_of_ble_eq_true rfl), (Nat.le_of_ble_eq_true rfl)⟩ ⟨(Nat.le_of_ble_eq_true rfl), (Nat.le_of_ble_eq_true rfl)⟩ hl.1 hS tfJ2.2.1 (cw.al2 hw) rfl (Nat.le_of_ble_eq_true rfl) (⟨(cw.al2 hw), (cw.get hw (k := 2) (by decide) hi_i).1⟩) (fun _ h => h.elim) dX2_pass_79 (fun rv9 H locs hQ hz9 hk9 hS => ?_)
          obtain ⟨rfl, rfl⟩ := hQ
          refine W.eq (g2 := F0 m 82 ls [.ref (la.1 4 i)]) rfl ?_
          refine mcast fx tfX9 (cw.l hw hi_i) q276 dX2_pass_82 ?_
          refine lv_iload_n hx hb dX2_pass_85 rfl (lv_at hl 2 rfl) ?_
          refine kV fx (m_L_spoil l g (la.1 4 i) ((cSpoil ld1 x i) i 0) ((cSpoil ld1 x i) i 1) ((cSpoil ld1 x i) i 2) ((cSpoil ld1 x i) i 3) ((cSpoil ld1 x i) i 4) ((cSpoil ld1 x i) i 5) ((cSpoil ld1 x i) i 6) ((cSpoil ld1 x i) i 7) ((cSpoil ld1 x i) i 8) x (fx.2.2.2.2.2.1 _ (cw.inL hw hi_i)) ) (lw_V q568 q569 q570 q75 q571) hdX9_spoil ⟨(Nat.le_of_ble_eq_true rfl), (Nat.le_of_ble_eq_true rfl)⟩ ⟨(Nat.le_of_ble_eq_true rfl), (Nat.le_of_ble_eq_true rfl)⟩ hl.1 hS tfX9.2.1 (cw.l hw hi_i) rfl (Nat.le_of_ble_eq_true rfl) (cw.l hw hi_i) (fun q h => by cases h; exact (cw.inL hw hi_i)) dX2_pass_86 (fun rv9 H locs hQ hz9 hk9 hS => ?_)
          obtain ⟨rfl, hat⟩ := hQ
          replace hw : cw g (fA (cF la n) sz) la (sc1, sw1, ar1, fd1, tr1, va_up (cSpoil ld1 x i) i (ob9 ((cSpoil ld1 x i) i 0) ((cSpoil ld1 x i) i 1) ((cSpoil ld1 x i) i 2) ((cSpoil ld1 x i) i 3) ((cSpoil ld1 x i) i 4) (f_L_spoil_5 ((cSpoil ld1 x i) i 3) ((cSpoil ld1 x i) i 5) ((cSpoil ld1 x i) i 6) x) ((cSpoil ld1 x i) i 6) ((cSpoil ld1 x i) i 7) ((cSpoil ld1 x i) i 8)), n) H := cw.setLc hw hi_i hat (fun q h9 h8 => hk9 q h9 h8)
          refine W.eq (g2 := F0 m 89 ls []) rfl ?_
          refine lv_iinc (v := nI (i + 1)) (lv' := [(3, .int (nI (i + 1))), (0, .ref (la.1 0 0)), (1, .int x), (2, .int y)]) hx hb dX2_pass_89 hl (k := 0) rfl (nI_1 _) (by decide) rfl (fun ls hl => ?_)
          refine lv_goto (tgt := 63) hx hb dX2_pass_92 (by decide) ?_
          exact ih (i + 1) H locs ls (by omega) hS (by rw [cSpoil_succ]; exact hw) (lv_sub hl [0, 1, 2, 3] rfl)
      exact lp_3 (n 2 - 0) 0 H locs ls (by omega) hS hw (lv_sub hl [0, 1, 2, 3] rfl)
    | succ d_2 ih =>
      intro i H locs ls sc1 sw1 ar1 fd1 tr1 ld1 hid hS hD hv hw hl
      have hi_i : i < n 1 := by omega
      refine lv_iload_n hx hb dX2_pass_12 rfl (lv_at hl 0 rfl) ?_
      refine lv_aload_n hx hb dX2_pass_13 rfl (lv_at hl 1 rfl) ?_
      refine mget fx tfX2 (cw.w hw) 1 (by decide) q122 (fun _ h => h) (v := .ref (la.1 0 2)) rfl dX2_pass_14 ?_
      refine kV fx (m_AL_size l g (la.1 0 2) (la.1 1 1) (la.2.2 1) (nI (n 1))) (lw_V q261 q254 q255 q54 q256) hdJ2_size ⟨(Nat.le_of_ble_eq_true rfl), (Nat.le_of_ble_eq_true rfl)⟩ ⟨(Nat.le_of_ble_eq_true rfl), (Nat.le_of_ble_eq_true rfl)⟩ hl.1 hS tfJ2.2.1 (cw.al1 hw) rfl (Nat.le_of_ble_eq_true rfl) (cw.al1 hw) (fun _ h => h.elim) dX2_pass_17 (fun rv9 H locs hQ hz9 hk9 hS => ?_)
      obtain ⟨rfl, rfl⟩ := hQ
      refine W.eq (g2 := F0 m 20 ls [.int (nI (n 1)), .int (nI i)]) rfl ?_
      refine lv_icmp_ge (tgt := 61) hx hb dX2_pass_20 (by decide) (fun h9 => absurd h9 (nI_ge hi_i hn.h1)) (fun _ => ?_)
      refine lv_aload_n hx hb dX2_pass_23 rfl (lv_at hl 1 rfl) ?_
      refine mget fx tfX2 (cw.w hw) 1 (by decide) q122 (fun _ h => h) (v := .ref (la.1 0 2)) rfl dX2_pass_24 ?_
      refine lv_iload_n hx hb dX2_pass_27 rfl (lv_at hl 0 rfl) ?_
      refine kV fx (m_AL_get l g (la.1 0 2) (la.1 1 1) i (n 1) (la.2.1 1) (la.1 3 i) (la.2.2 1) (elF la.1 n 1) hi_i (cw.get hw (k := 1) (by decide) hi_i).2.1 (cw.get hw (k := 1) (by decide) hi_i).2.2.1 (cw.get hw (k := 1) (by decide) hi_i).2.2.2) (lw_V q262 q263 q264 q54 q265) hdJ2_get ⟨(Nat.le_of_ble_eq_true rfl), (Nat.le_of_ble_eq_true rfl)⟩ ⟨(Nat.le_of_ble_eq_true rfl), (Nat.le_of_ble_eq_true rfl)⟩ hl.1 hS tfJ2.2.1 (cw.al1 hw) rfl (Nat.le_of_ble_eq_true rfl) (⟨(cw.al1 hw), (cw.get hw (k := 1) (by decide) hi_i).1⟩) (fun _ h => h.elim) dX2_pass_28 (fun rv9 H locs hQ hz9 hk9 hS => ?_)
      obtain ⟨rfl, rfl⟩ := hQ
      refine W.eq (g2 := F0 m 31 ls [.ref (la.1 3 i)]) rfl ?_
      refine mcast fx tfX7 (cw.t hw hi_i) q467 dX2_pass_31 ?_
      refine mgetN fx tfX7 (cw.t hw hi_i) 0 (by decide) q479 (fun _ h => h) (v := .int (tr1 i 0)) rfl dX2_pass_34 ?_
      refine lv_if_eq (tgt := 55) hx hb dX2_pass_37 (by decide) (fun c_12 => ?_) (fun c_12 => ?_)
      · skip
        refine lv_iinc (v := nI (i + 1)) (lv' := [(3, .int (nI (i + 1))), (0, .ref (la.1 0 0)), (1, .int x), (2, .int y)]) hx hb dX2_pass_55 hl (k := 0) rfl (nI_1 _) (by decide) rfl (fun ls hl => ?_)
        refine lv_goto (tgt := 12) hx hb dX2_pass_58 (by decide) ?_
        exact ih (i + 1) H locs ls _ _ _ _ _ _ (by omega) hS (cDrives_0 hD c_12) hv hw (lv_sub hl [0, 1, 2, 3] rfl)
      · skip
        refine lv_aload_n hx hb dX2_pass_40 rfl (lv_at hl 1 rfl) ?_
        refine lv_aload_n hx hb dX2_pass_41 rfl (lv_at hl 1 rfl) ?_
        refine mget fx tfX2 (cw.w hw) 1 (by decide) q122 (fun _ h => h) (v := .ref (la.1 0 2)) rfl dX2_pass_42 ?_
        refine lv_iload_n hx hb dX2_pass_45 rfl (lv_at hl 0 rfl) ?_
        refine kV fx (m_AL_get l g (la.1 0 2) (la.1 1 1) i (n 1) (la.2.1 1) (la.1 3 i) (la.2.2 1) (elF la.1 n 1) hi_i (cw.get hw (k := 1) (by decide) hi_i).2.1 (cw.get hw (k := 1) (by decide) hi_i).2.2.1 (cw.get hw (k := 1) (by decide) hi_i).2.2.2) (lw_V q262 q263 q264 q54 q265) hdJ2_get ⟨(Nat.le_of_ble_eq_true rfl), (Nat.le_of_ble_eq_true rfl)⟩ ⟨(Nat.le_of_ble_eq_true rfl), (Nat.le_of_ble_eq_true rfl)⟩ hl.1 hS tfJ2.2.1 (cw.al1 hw) rfl (Nat.le_of_ble_eq_true rfl) (⟨(cw.al1 hw), (cw.get hw (k := 1) (by decide) hi_i).1⟩) (fun _ h => h.elim) dX2_pass_46 (fun rv9 H locs hQ hz9 hk9 hS => ?_)
        obtain ⟨rfl, rfl⟩ := hQ
        refine W.eq (g2 := F0 m 49 ls [.ref (la.1 3 i), .ref (la.1 0 0)]) rfl ?_
        refine mcast fx tfX7 (cw.t hw hi_i) q467 dX2_pass_49 ?_
        have hbk := cw.back hw (fun q h9 => hAs q (Nat.le_trans hS.1 h9))
        refine kV fx (m_W_drive l g _ la sc1 sw1 ar1 fd1 tr1 ld1 n hn hv i hi_i c_12) (lw_V q556 q558 qs13 q51 q559) hdX2_drive ⟨(Nat.le_of_ble_eq_true rfl), (Nat.le_of_ble_eq_true rfl)⟩ ⟨(Nat.le_of_ble_eq_true rfl), (Nat.le_of_ble_eq_true rfl)⟩ hl.1 hS tfX2.2.1 (cw.w hw) rfl (Nat.le_of_ble_eq_true rfl) (⟨rfl, cw.weaken hw fx.2.2.2.2.2.1⟩) (fun q h9 => hbk q h9) dX2_pass_52 (fun rv9 H locs hQ hz9 hk9 hS => ?_)
        obtain ⟨rfl, hw9⟩ := hQ
        replace hw : cw g (fA (cF la n) sz) la ((cDrive n (sc1, sw1, ar1, fd1, tr1, ld1) i).1, (cDrive n (sc1, sw1, ar1, fd1, tr1, ld1) i).2.1, (cDrive n (sc1, sw1, ar1, fd1, tr1, ld1) i).2.2.1, (cDrive n (sc1, sw1, ar1, fd1, tr1, ld1) i).2.2.2.1, (cDrive n (sc1, sw1, ar1, fd1, tr1, ld1) i).2.2.2.2.1, (cDrive n (sc1, sw1, ar1, fd1, tr1, ld1) i).2.2.2.2.2, n) H := cw.weaken hw9 hbk
        have hv0 := hv
        replace hv : cV n ((cDrive n (sc1, sw1, ar1, fd1, tr1, ld1) i).2.2.2.1) ((cDrive n (sc1, sw1, ar1, fd1, tr1, ld1) i).2.2.2.2.1) ((cDrive n (sc1, sw1, ar1, fd1, tr1, ld1) i).2.2.2.2.2) := cV.drive hn hv0 hi_i c_12
        refine W.eq (g2 := F0 m 55 ls []) rfl ?_
        refine lv_iinc (v := nI (i + 1)) (lv' := [(3, .int (nI (i + 1))), (0, .ref (la.1 0 0)), (1, .int x), (2, .int y)]) hx hb dX2_pass_55 hl (k := 0) rfl (nI_1 _) (by decide) rfl (fun ls hl => ?_)
        refine lv_goto (tgt := 12) hx hb dX2_pass_58 (by decide) ?_
        exact ih (i + 1) H locs ls _ _ _ _ _ _ (by omega) hS (cDrives_1 hD c_12) hv hw (lv_sub hl [0, 1, 2, 3] rfl)
  exact lp_1 (n 1 - 0) 0 H locs ls _ _ _ _ _ _ (by omega) hS rfl hv hw (lv_sub hl [0, 1, 2, 3] rfl)

