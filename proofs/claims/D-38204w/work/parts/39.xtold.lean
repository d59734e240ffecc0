/-! CANECRUSH: what is told -/
set_option maxRecDepth 100000
theorem hdX1_fieldAt : yX1_fieldAt.cls ≠ "java/lang/invoke/MethodHandle" ∧ yX1_fieldAt.cls ≠ "java/lang/invoke/VarHandle" ∧ (parseMethodDescriptor yX1_fieldAt.desc).map (fun d => d.parameters.length) = some 1 := by decide +kernel
theorem hdX1_isWeather : yX1_isWeather.cls ≠ "java/lang/invoke/MethodHandle" ∧ yX1_isWeather.cls ≠ "java/lang/invoke/VarHandle" ∧ (parseMethodDescriptor yX1_isWeather.desc).map (fun d => d.parameters.length) = some 2 := by decide +kernel
theorem hdX1_require : yX1_require.cls ≠ "java/lang/invoke/MethodHandle" ∧ yX1_require.cls ≠ "java/lang/invoke/VarHandle" ∧ (parseMethodDescriptor yX1_require.desc).map (fun d => d.parameters.length) = some 1 := by decide +kernel
theorem hdX1_requireIndex : yX1_requireIndex.cls ≠ "java/lang/invoke/MethodHandle" ∧ yX1_requireIndex.cls ≠ "java/lang/invoke/VarHandle" ∧ (parseMethodDescriptor yX1_requireIndex.desc).map (fun d => d.parameters.length) = some 2 := by decide +kernel
theorem hdX1_requireState : yX1_requireState.cls ≠ "java/lang/invoke/MethodHandle" ∧ yX1_requireState.cls ≠ "java/lang/invoke/VarHandle" ∧ (parseMethodDescriptor yX1_requireState.desc).map (fun d => d.parameters.length) = some 1 := by decide +kernel
theorem hdX1_truckAt : yX1_truckAt.cls ≠ "java/lang/invoke/MethodHandle" ∧ yX1_truckAt.cls ≠ "java/lang/invoke/VarHandle" ∧ (parseMethodDescriptor yX1_truckAt.desc).map (fun d => d.parameters.length) = some 1 := by decide +kernel
theorem hdX2_pass : yX2_pass.cls ≠ "java/lang/invoke/MethodHandle" ∧ yX2_pass.cls ≠ "java/lang/invoke/VarHandle" ∧ (parseMethodDescriptor yX2_pass.desc).map (fun d => d.parameters.length) = some 2 := by decide +kernel
def setOk (r wa o : Int32) : Int32 := if isFromF 20 80 r = 0 then 0 else if isFromF 0 9 wa = 0 then 0 else if isFromF 0 2 o = 0 then 0 else 1
set_option maxHeartbeats 4000000 in
theorem m_X_set (l : Launch) (g : GT) (sz ax ap : Nat) (la : LT) (sc : Nat → Int32) (sw : Int64) (ar fd tr ld : Nat → Nat → Int32) (n : CN) (xi : Nat → Int32) (sm : Int64) (pd : Nat → Int32) (r wa o : Int32) (hok : ¬ setOk r wa o = 0) : Cn l g yX1_set cX1_set 5 ((some .int)) 2 0 0 [.ref ax, .int r, .int wa, .int o] (fA (xF ax ap la n) sz) (fun H => sz = H.size ∧ xw g (bA g) ax ap la (sc, sw, ar, fd, tr, ld, n) xi sm pd H) (fun Hp rv Hq => rv = some (.int (sc 9)) ∧ xw g (fA (xF ax ap la n) sz) ax ap la (va_up (va_up (va_up sc 7 r) 8 wa) 9 o, sw, ar, fd, tr, ld, n) xi sm pd Hq) := by
  refine Cn.start (plainFor_of_name (by decide +kernel)) (Nat.le_of_ble_eq_true rfl) ?_
  intro p ev s m below meth c ls H locs hH hx hb hr hts hown hlocks hml hnm hK hP hS hl
  obtain ⟨hsz, hxw⟩ := hP
  have hszs : sz = s.heap.size := by rw [hsz, hH]
  have hAs : ∀ q, s.heap.size ≤ q → (fA (xF ax ap la n) sz) q := fun q h => Or.inr (by rw [hszs]; exact h)
  have hAb : ∀ q, (fA (xF ax ap la n) sz) q → bA g q := fun q h => h.elim (hxw.ft q) (fun h => Nat.le_trans hK.2.2.sz (by rw [← hszs]; exact h))
  obtain ⟨hw, h_x, h_p, inx, inp, nxp, nfx, nfp⟩ := hxw.self sz
  have fx : Fx p s m ([.ref ax, .int r, .int wa, .int o] : List Value).toArray c cX1_set RX1 g (fA (xF ax ap la n) sz) 5 := ⟨hx, hb, hts, hown, hK, hAb, hml⟩
  have hl : lv_has ls 5 [(0, .ref ax), (1, .int r), (2, .int wa), (3, .int o)] := hl
  refine lv_bipush (v := 20) hx hb dX1_set_0 (by decide) ?_
  refine lv_bipush (v := 80) hx hb dX1_set_2 (by decide) ?_
  refine lv_iload_n hx hb dX1_set_4 rfl (lv_at hl 1 rfl) ?_
  refine kS fx (m_isFrom l g 20 80 r) (lw_S q720 q721 q50 q722) hdX1_isFrom ⟨(Nat.le_of_ble_eq_true rfl), (Nat.le_of_ble_eq_true rfl)⟩ ⟨(Nat.le_of_ble_eq_true rfl), (Nat.le_of_ble_eq_true rfl)⟩ hl.1 hS rfl (Nat.le_of_ble_eq_true rfl) trivial (fun _ h => h.elim) dX1_set_5 (fun rv9 H locs hQ hz9 hk9 hS => ?_)
  obtain ⟨rfl, rfl⟩ := hQ
  refine W.eq (g2 := F0 m 8 ls [.int (isFromF 20 80 r)]) rfl ?_
  have K_3 : ∀ (locs : List Loc) (ls : Array Slot) (v_2 : Int32), v_2 = (if (isFromF 20 80 r) = 0 then 0 else (if (isFromF 0 9 wa) = 0 then 0 else (if (isFromF 0 2 o) = 0 then 0 else 1))) → va_S (fA (xF ax ap la n) sz) s.heap H locs → lv_has ls 5 [(0, .ref ax), (1, .int r), (2, .int wa), (3, .int o)] → W p l ev (mR 2 0 0) s m ([.ref ax, .int r, .int wa, .int o] : List Value).toArray below meth c H locs 0 0 (MQ below (mQ (fA (xF ax ap la n) sz) (fun Hp rv Hq => rv = some (.int (sc 9)) ∧ xw g (fA (xF ax ap la n) sz) ax ap la (va_up (va_up (va_up sc 7 r) 8 wa) 9 o, sw, ar, fd, tr, ld, n) xi sm pd Hq)) ([.ref ax, .int r, .int wa, .int o] : List Value).toArray s 0 0 (fA (xF ax ap la n) sz)) (F0 m 35 ls [.int v_2]) := by
    intro locs ls v_2 hv_2 hS hl
    have bzv_2 : bz v_2 := by rw [hv_2]; (repeat' split) <;> first | exact Or.inl rfl | exact Or.inr rfl
    refine kS fx (m_require l g v_2 (by rw [hv_2]; exact hok)) (lw_S q723 q724 q50 q725) hdX1_require ⟨(Nat.le_of_ble_eq_true rfl), (Nat.le_of_ble_eq_true rfl)⟩ ⟨(Nat.le_of_ble_eq_true rfl), (Nat.le_of_ble_eq_true rfl)⟩ hl.1 hS rfl (Nat.le_of_ble_eq_true rfl) trivial (fun _ h => h.elim) dX1_set_35 (fun rv9 H locs hQ hz9 hk9 hS => ?_)
    obtain ⟨rfl, rfl⟩ := hQ
    refine W.eq (g2 := F0 m 38 ls []) rfl ?_
    refine lv_aload_n hx hb dX1_set_38 rfl (lv_at hl 0 rfl) ?_
    refine mget fx tfX1 h_x 0 (by decide) q209 (fun _ h => h) (v := .ref (la.1 0 0)) rfl dX1_set_39 ?_
    refine mgetN fx tfX2 (cw.w hw) 15 (by decide) q150 (fun _ h => h) (v := .int (sc 9)) rfl dX1_set_42 ?_
    refine lv_istore (lv' := [(4, .int (sc 9)), (0, .ref ax), (1, .int r), (2, .int wa), (3, .int o)]) hx hb dX1_set_45 hl (by decide) rfl (fun ls hl => ?_)
    refine lv_aload_n hx hb dX1_set_47 rfl (lv_at hl 1 rfl) ?_
    refine mget fx tfX1 h_x 0 (by decide) q209 (fun _ h => h) (v := .ref (la.1 0 0)) rfl dX1_set_48 ?_
    refine lv_iload_n hx hb dX1_set_51 rfl (lv_at hl 2 rfl) ?_
    refine mputN fx tfX2 (cw.w hw) hS (cw.inW hw (by decide)) 13 (by decide) q146 (fun _ h => h) rfl rfl rfl (Nat.le_of_ble_eq_true rfl) dX1_set_52 (fun H locs hat hz hoq hS => ?_)
    replace h_x := h_x.kept (hoq _ (Ne.symm (nfx _ ⟨0, 0, (by show 0 < 7; decide), rfl⟩)))
    replace h_p := h_p.kept (hoq _ (Ne.symm (nfp _ ⟨0, 0, (by show 0 < 7; decide), rfl⟩)))
    replace hw : cw g (fA (xF ax ap la n) sz) la (va_up sc 7 r, sw, ar, fd, tr, ld, n) H := cw.setW hw hat (fun q _ h9 => hoq q h9)
    refine lv_aload_n hx hb dX1_set_55 rfl (lv_at hl 1 rfl) ?_
    refine mget fx tfX1 h_x 0 (by decide) q209 (fun _ h => h) (v := .ref (la.1 0 0)) rfl dX1_set_56 ?_
    refine lv_iload_n hx hb dX1_set_59 rfl (lv_at hl 3 rfl) ?_
    refine mputN fx tfX2 (cw.w hw) hS (cw.inW hw (by decide)) 14 (by decide) q148 (fun _ h => h) rfl rfl rfl (Nat.le_of_ble_eq_true rfl) dX1_set_60 (fun H locs hat hz hoq hS => ?_)
    replace h_x := h_x.kept (hoq _ (Ne.symm (nfx _ ⟨0, 0, (by show 0 < 7; decide), rfl⟩)))
    replace h_p := h_p.kept (hoq _ (Ne.symm (nfp _ ⟨0, 0, (by show 0 < 7; decide), rfl⟩)))
    replace hw : cw g (fA (xF ax ap la n) sz) la (va_up (va_up sc 7 r) 8 wa, sw, ar, fd, tr, ld, n) H := cw.setW hw hat (fun q _ h9 => hoq q h9)
    refine lv_aload_n hx hb dX1_set_63 rfl (lv_at hl 1 rfl) ?_
    refine mget fx tfX1 h_x 0 (by decide) q209 (fun _ h => h) (v := .ref (la.1 0 0)) rfl dX1_set_64 ?_
    refine lv_iload_n hx hb dX1_set_67 rfl (lv_at hl 4 rfl) ?_
    refine mputN fx tfX2 (cw.w hw) hS (cw.inW hw (by decide)) 15 (by decide) q150 (fun _ h => h) rfl rfl rfl (Nat.le_of_ble_eq_true rfl) dX1_set_68 (fun H locs hat hz hoq hS => ?_)
    replace h_x := h_x.kept (hoq _ (Ne.symm (nfx _ ⟨0, 0, (by show 0 < 7; decide), rfl⟩)))
    replace h_p := h_p.kept (hoq _ (Ne.symm (nfp _ ⟨0, 0, (by show 0 < 7; decide), rfl⟩)))
    replace hw : cw g (fA (xF ax ap la n) sz) la (va_up (va_up (va_up sc 7 r) 8 wa) 9 o, sw, ar, fd, tr, ld, n) H := cw.setW hw hat (fun q _ h9 => hoq q h9)
    refine lv_iload hx hb dX1_set_71 (lv_at hl 0 rfl) ?_
    exact ri hx hb hr hlocks hS (⟨rfl, hw, h_x, h_p, inx, inp, nxp, nfx, nfp⟩) ⟨(Nat.le_of_ble_eq_true rfl), (Nat.le_of_ble_eq_true rfl)⟩ dX1_set_73
  refine lv_if_eq (tgt := 34) hx hb dX1_set_8 (by decide) (fun c_1 => ?_) (fun c_1 => ?_)
  · skip
    refine lv_iconst (v := 0) hx hb dX1_set_34 (by decide) ?_
    exact K_3 _ _ 0 (by rw [if_pos c_1]) hS (lv_sub hl [0, 1, 2, 3] rfl)
  · skip
    refine lv_iconst (v := 0) hx hb dX1_set_11 (by decide) ?_
    refine lv_bipush (v := 9) hx hb dX1_set_12 (by decide) ?_
    refine lv_iload_n hx hb dX1_set_14 rfl (lv_at hl 2 rfl) ?_
    refine kS fx (m_isFrom l g 0 9 wa) (lw_S q720 q721 q50 q722) hdX1_isFrom ⟨(Nat.le_of_ble_eq_true rfl), (Nat.le_of_ble_eq_true rfl)⟩ ⟨(Nat.le_of_ble_eq_true rfl), (Nat.le_of_ble_eq_true rfl)⟩ hl.1 hS rfl (Nat.le_of_ble_eq_true rfl) trivial (fun _ h => h.elim) dX1_set_15 (fun rv9 H locs hQ hz9 hk9 hS => ?_)
    obtain ⟨rfl, rfl⟩ := hQ
    refine W.eq (g2 := F0 m 18 ls [.int (isFromF 0 9 wa)]) rfl ?_
    refine lv_if_eq (tgt := 34) hx hb dX1_set_18 (by decide) (fun c_4 => ?_) (fun c_4 => ?_)
    · skip
      refine lv_iconst (v := 0) hx hb dX1_set_34 (by decide) ?_
      exact K_3 _ _ 0 (by rw [if_neg c_1, if_pos c_4]) hS (lv_sub hl [0, 1, 2, 3] rfl)
    · skip
      refine lv_iconst (v := 0) hx hb dX1_set_21 (by decide) ?_
      refine lv_iconst (v := 2) hx hb dX1_set_22 (by decide) ?_
      refine lv_iload_n hx hb dX1_set_23 rfl (lv_at hl 3 rfl) ?_
      refine kS fx (m_isFrom l g 0 2 o) (lw_S q720 q721 q50 q722) hdX1_isFrom ⟨(Nat.le_of_ble_eq_true rfl), (Nat.le_of_ble_eq_true rfl)⟩ ⟨(Nat.le_of_ble_eq_true rfl), (Nat.le_of_ble_eq_true rfl)⟩ hl.1 hS rfl (Nat.le_of_ble_eq_true rfl) trivial (fun _ h => h.elim) dX1_set_24 (fun rv9 H locs hQ hz9 hk9 hS => ?_)
      obtain ⟨rfl, rfl⟩ := hQ
      refine W.eq (g2 := F0 m 27 ls [.int (isFromF 0 2 o)]) rfl ?_
      refine lv_if_eq (tgt := 34) hx hb dX1_set_27 (by decide) (fun c_5 => ?_) (fun c_5 => ?_)
      · skip
        refine lv_iconst (v := 0) hx hb dX1_set_34 (by decide) ?_
        exact K_3 _ _ 0 (by rw [if_neg c_1, if_neg c_4, if_pos c_5]) hS (lv_sub hl [0, 1, 2, 3] rfl)
      · skip
        refine lv_iconst (v := 1) hx hb dX1_set_30 (by decide) ?_
        refine lv_goto (tgt := 35) hx hb dX1_set_31 (by decide) ?_
        exact K_3 _ _ 1 (by rw [if_neg c_1, if_neg c_4, if_neg c_5]) hS (lv_sub hl [0, 1, 2, 3] rfl)

set_option maxHeartbeats 4000000 in
theorem t_X_set (l : Launch) (hst : l.stackTraces = false) (g : GT) (ax ap : Nat) (la : LT) (sc : Nat → Int32) (sw : Int64) (ar fd tr ld : Nat → Nat → Int32) (n : CN) (xi : Nat → Int32) (sm : Int64) (pd : Nat → Int32) (r wa o : Int32) (hok : setOk r wa o = 0) : Tn l g yX1_set cX1_set 5 ((some .int)) 7 [.ref ax, .int r, .int wa, .int o] "java/lang/IllegalArgumentException" (fun H => xw g (bA g) ax ap la (sc, sw, ar, fd, tr, ld, n) xi sm pd H) := by
  refine Tn.start (by decide +kernel) (Nat.le_of_ble_eq_true rfl) ?_
  intro p ev s m below meth c ls H locs hH hx hb hts hown hlocks hml hex hK hP hS hl
  have hxw := hP
  obtain ⟨hw, h_x, h_p, inx, inp, nxp, nfx, nfp⟩ := hxw
  have fx : Fx p s m ([.ref ax, .int r, .int wa, .int o] : List Value).toArray c cX1_set RX1 g (fun _ => False) 5 := ⟨hx, hb, hts, hown, hK, fun _ h => h.elim, hml⟩
  have hl : lv_has ls 5 [(0, .ref ax), (1, .int r), (2, .int wa), (3, .int o)] := hl
  refine lv_bipush (v := 20) hx hb dX1_set_0 (by decide) ?_
  refine lv_bipush (v := 80) hx hb dX1_set_2 (by decide) ?_
  refine lv_iload_n hx hb dX1_set_4 rfl (lv_at hl 1 rfl) ?_
  refine kS fx (m_isFrom l g 20 80 r) (lw_S q720 q721 q50 q722) hdX1_isFrom ⟨(Nat.le_of_ble_eq_true rfl), (Nat.le_of_ble_eq_true rfl)⟩ ⟨(Nat.le_of_ble_eq_true rfl), (Nat.le_of_ble_eq_true rfl)⟩ hl.1 hS rfl (Nat.le_of_ble_eq_true rfl) trivial (fun _ h => h.elim) dX1_set_5 (fun rv9 H locs hQ hz9 hk9 hS => ?_)
  obtain ⟨rfl, rfl⟩ := hQ
  refine W.eq (g2 := F0 m 8 ls [.int (isFromF 20 80 r)]) rfl ?_
  have K_3 : ∀ (locs : List Loc) (ls : Array Slot) (v_2 : Int32), v_2 = (if (isFromF 20 80 r) = 0 then 0 else (if (isFromF 0 9 wa) = 0 then 0 else (if (isFromF 0 2 o) = 0 then 0 else 1))) → va_S (fun _ => False) s.heap H locs → lv_has ls 5 [(0, .ref ax), (1, .int r), (2, .int wa), (3, .int o)] → W p l ev (mR 7 1 6) s m ([.ref ax, .int r, .int wa, .int o] : List Value).toArray below meth c H locs 0 0 (tQ below "java/lang/IllegalArgumentException" ([.ref ax, .int r, .int wa, .int o] : List Value).toArray s) (F0 m 35 ls [.int v_2]) := by
    intro locs ls v_2 hv_2 hS hl
    have bzv_2 : bz v_2 := by rw [hv_2]; (repeat' split) <;> first | exact Or.inl rfl | exact Or.inr rfl
    exact tS fx (t_require l hst g v_2 (by rw [hv_2]; exact hok)) (lw_S q723 q724 q50 q725) hdX1_require ⟨(Nat.le_of_ble_eq_true rfl), (Nat.le_of_ble_eq_true rfl)⟩ ⟨(Nat.le_of_ble_eq_true rfl), (Nat.le_of_ble_eq_true rfl)⟩ hl.1 hS rfl (Nat.le_of_ble_eq_true rfl) trivial dX1_set_35 hex hlocks (Nat.le_of_ble_eq_true rfl) (Nat.le_of_ble_eq_true rfl)
  refine lv_if_eq (tgt := 34) hx hb dX1_set_8 (by decide) (fun c_1 => ?_) (fun c_1 => ?_)
  · skip
    refine lv_iconst (v := 0) hx hb dX1_set_34 (by decide) ?_
    exact K_3 _ _ 0 (by rw [if_pos c_1]) hS (lv_sub hl [0, 1, 2, 3] rfl)
  · skip
    refine lv_iconst (v := 0) hx hb dX1_set_11 (by decide) ?_
    refine lv_bipush (v := 9) hx hb dX1_set_12 (by decide) ?_
    refine lv_iload_n hx hb dX1_set_14 rfl (lv_at hl 2 rfl) ?_
    refine kS fx (m_isFrom l g 0 9 wa) (lw_S q720 q721 q50 q722) hdX1_isFrom ⟨(Nat.le_of_ble_eq_true rfl), (Nat.le_of_ble_eq_true rfl)⟩ ⟨(Nat.le_of_ble_eq_true rfl), (Nat.le_of_ble_eq_true rfl)⟩ hl.1 hS rfl (Nat.le_of_ble_eq_true rfl) trivial (fun _ h => h.elim) dX1_set_15 (fun rv9 H locs hQ hz9 hk9 hS => ?_)
    obtain ⟨rfl, rfl⟩ := hQ
    refine W.eq (g2 := F0 m 18 ls [.int (isFromF 0 9 wa)]) rfl ?_
    refine lv_if_eq (tgt := 34) hx hb dX1_set_18 (by decide) (fun c_4 => ?_) (fun c_4 => ?_)
    · skip
      refine lv_iconst (v := 0) hx hb dX1_set_34 (by decide) ?_
      exact K_3 _ _ 0 (by rw [if_neg c_1, if_pos c_4]) hS (lv_sub hl [0, 1, 2, 3] rfl)
    · skip
      refine lv_iconst (v := 0) hx hb dX1_set_21 (by decide) ?_
      refine lv_iconst (v := 2) hx hb dX1_set_22 (by decide) ?_
      refine lv_iload_n hx hb dX1_set_23 rfl (lv_at hl 3 rfl) ?_
      refine kS fx (m_isFrom l g 0 2 o) (lw_S q720 q721 q50 q722) hdX1_isFrom ⟨(Nat.le_of_ble_eq_true rfl), (Nat.le_of_ble_eq_true rfl)⟩ ⟨(Nat.le_of_ble_eq_true rfl), (Nat.le_of_ble_eq_true rfl)⟩ hl.1 hS rfl (Nat.le_of_ble_eq_true rfl) trivial (fun _ h => h.elim) dX1_set_24 (fun rv9 H locs hQ hz9 hk9 hS => ?_)
      obtain ⟨rfl, rfl⟩ := hQ
      refine W.eq (g2 := F0 m 27 ls [.int (isFromF 0 2 o)]) rfl ?_
      refine lv_if_eq (tgt := 34) hx hb dX1_set_27 (by decide) (fun c_5 => ?_) (fun c_5 => ?_)
      · skip
        refine lv_iconst (v := 0) hx hb dX1_set_34 (by decide) ?_
        exact K_3 _ _ 0 (by rw [if_neg c_1, if_neg c_4, if_pos c_5]) hS (lv_sub hl [0, 1, 2, 3] rfl)
      · skip
        refine lv_iconst (v := 1) hx hb dX1_set_30 (by decide) ?_
        refine lv_goto (tgt := 35) hx hb dX1_set_31 (by decide) ?_
        exact K_3 _ _ 1 (by rw [if_neg c_1, if_neg c_4, if_neg c_5]) hS (lv_sub hl [0, 1, 2, 3] rfl)

set_option maxHeartbeats 4000000 in
theorem m_X_fieldAt (l : Launch) (g : GT) (ax ap : Nat) (la : LT) (sc : Nat → Int32) (sw : Int64) (ar fd tr ld : Nat → Nat → Int32) (n : CN) (xi : Nat → Int32) (sm : Int64) (pd : Nat → Int32) (hn : cN n) (i : Nat) (hi : i < n 0) : Cn l g yX1_fieldAt cX1_fieldAt 2 ((some (.object "Canecrush$Field"))) 3 0 0 [.ref ax, .int (nI i)] (fun _ => False) (fun H => xw g (bA g) ax ap la (sc, sw, ar, fd, tr, ld, n) xi sm pd H) (fun Hp rv Hq => Hp = Hq ∧ rv = some (.ref (la.1 2 i))) := by
  refine Cn.start (plainFor_of_name (by decide +kernel)) (Nat.le_of_ble_eq_true rfl) ?_
  intro p ev s m below meth c ls H locs hH hx hb hr hts hown hlocks hml hnm hK hP hS hl
  have hxw := hP
  obtain ⟨hw, h_x, h_p, inx, inp, nxp, nfx, nfp⟩ := hxw
  have fx : Fx p s m ([.ref ax, .int (nI i)] : List Value).toArray c cX1_fieldAt RX1 g (fun _ => False) 2 := ⟨hx, hb, hts, hown, hK, fun _ h => h.elim, hml⟩
  have hl : lv_has ls 2 [(0, .ref ax), (1, .int (nI i))] := hl
  refine lv_iload_n hx hb dX1_fieldAt_0 rfl (lv_at hl 1 rfl) ?_
  refine lv_aload_n hx hb dX1_fieldAt_1 rfl (lv_at hl 0 rfl) ?_
  refine mget fx tfX1 h_x 0 (by decide) q209 (fun _ h => h) (v := .ref (la.1 0 0)) rfl dX1_fieldAt_2 ?_
  refine mgetN fx tfX2 (cw.w hw) 0 (by decide) q121 (fun _ h => h) (v := .ref (la.1 0 1)) rfl dX1_fieldAt_5 ?_
  refine kV fx (m_AL_size l g (la.1 0 1) (la.1 1 0) (la.2.2 0) (nI (n 0))) (lw_V q253 q254 q255 q54 q256) hdJ2_size ⟨(Nat.le_of_ble_eq_true rfl), (Nat.le_of_ble_eq_true rfl)⟩ ⟨(Nat.le_of_ble_eq_true rfl), (Nat.le_of_ble_eq_true rfl)⟩ hl.1 hS tfJ2.2.1 (cw.al0 hw) rfl (Nat.le_of_ble_eq_true rfl) (cw.al0 hw) (fun _ h => h.elim) dX1_fieldAt_8 (fun rv9 H locs hQ hz9 hk9 hS => ?_)
  obtain ⟨rfl, rfl⟩ := hQ
  refine W.eq (g2 := F0 m 11 ls [.int (nI (n 0)), .int (nI i)]) rfl ?_
  refine kS fx (m_requireIndex l g (nI i) (nI (n 0)) (nI_pos (Nat.lt_trans hi hn.h0)) (nI_lt hi hn.h0)) (lw_S q696 q697 q50 q698) hdX1_requireIndex ⟨(Nat.le_of_ble_eq_true rfl), (Nat.le_of_ble_eq_true rfl)⟩ ⟨(Nat.le_of_ble_eq_true rfl), (Nat.le_of_ble_eq_true rfl)⟩ hl.1 hS rfl (Nat.le_of_ble_eq_true rfl) trivial (fun _ h => h.elim) dX1_fieldAt_11 (fun rv9 H locs hQ hz9 hk9 hS => ?_)
  obtain ⟨rfl, rfl⟩ := hQ
  refine W.eq (g2 := F0 m 14 ls []) rfl ?_
  refine lv_aload_n hx hb dX1_fieldAt_14 rfl (lv_at hl 0 rfl) ?_
  refine mget fx tfX1 h_x 0 (by decide) q209 (fun _ h => h) (v := .ref (la.1 0 0)) rfl dX1_fieldAt_15 ?_
  refine mgetN fx tfX2 (cw.w hw) 0 (by decide) q121 (fun _ h => h) (v := .ref (la.1 0 1)) rfl dX1_fieldAt_18 ?_
  refine lv_iload_n hx hb dX1_fieldAt_21 rfl (lv_at hl 1 rfl) ?_
  refine kV fx (m_AL_get l g (la.1 0 1) (la.1 1 0) i (n 0) (la.2.1 0) (la.1 2 i) (la.2.2 0) (elF la.1 n 0) hi (cw.get hw (k := 0) (by decide) hi).2.1 (cw.get hw (k := 0) (by decide) hi).2.2.1 (cw.get hw (k := 0) (by decide) hi).2.2.2) (lw_V q286 q263 q264 q54 q265) hdJ2_get ⟨(Nat.le_of_ble_eq_true rfl), (Nat.le_of_ble_eq_true rfl)⟩ ⟨(Nat.le_of_ble_eq_true rfl), (Nat.le_of_ble_eq_true rfl)⟩ hl.1 hS tfJ2.2.1 (cw.al0 hw) rfl (Nat.le_of_ble_eq_true rfl) (⟨(cw.al0 hw), (cw.get hw (k := 0) (by decide) hi).1⟩) (fun _ h => h.elim) dX1_fieldAt_22 (fun rv9 H locs hQ hz9 hk9 hS => ?_)
  obtain ⟨rfl, rfl⟩ := hQ
  refine W.eq (g2 := F0 m 25 ls [.ref (la.1 2 i)]) rfl ?_
  refine mcast fx tfX5 (cw.f hw hi) q287 dX1_fieldAt_25 ?_
  exact ra hx hb hr (Or.inl ⟨_, rfl⟩) hlocks hS (⟨hH.symm, rfl⟩) ⟨(Nat.le_of_ble_eq_true rfl), (Nat.le_of_ble_eq_true rfl)⟩ dX1_fieldAt_28

set_option maxHeartbeats 4000000 in
theorem t_X_fieldAt (l : Launch) (hst : l.stackTraces = false) (g : GT) (ax ap : Nat) (la : LT) (sc : Nat → Int32) (sw : Int64) (ar fd tr ld : Nat → Nat → Int32) (n : CN) (xi : Nat → Int32) (sm : Int64) (pd : Nat → Int32) (z : Int32) (hok : z < 0 ∨ ¬ z < nI (n 0)) : Tn l g yX1_fieldAt cX1_fieldAt 2 ((some (.object "Canecrush$Field"))) 7 [.ref ax, .int z] "java/lang/IndexOutOfBoundsException" (fun H => xw g (bA g) ax ap la (sc, sw, ar, fd, tr, ld, n) xi sm pd H) := by
  refine Tn.start (by decide +kernel) (Nat.le_of_ble_eq_true rfl) ?_
  intro p ev s m below meth c ls H locs hH hx hb hts hown hlocks hml hex hK hP hS hl
  have hxw := hP
  obtain ⟨hw, h_x, h_p, inx, inp, nxp, nfx, nfp⟩ := hxw
  have fx : Fx p s m ([.ref ax, .int z] : List Value).toArray c cX1_fieldAt RX1 g (fun _ => False) 2 := ⟨hx, hb, hts, hown, hK, fun _ h => h.elim, hml⟩
  have hl : lv_has ls 2 [(0, .ref ax), (1, .int z)] := hl
  refine lv_iload_n hx hb dX1_fieldAt_0 rfl (lv_at hl 1 rfl) ?_
  refine lv_aload_n hx hb dX1_fieldAt_1 rfl (lv_at hl 0 rfl) ?_
  refine mget fx tfX1 h_x 0 (by decide) q209 (fun _ h => h) (v := .ref (la.1 0 0)) rfl dX1_fieldAt_2 ?_
  refine mgetN fx tfX2 (cw.w hw) 0 (by decide) q121 (fun _ h => h) (v := .ref (la.1 0 1)) rfl dX1_fieldAt_5 ?_
  refine kV fx (m_AL_size l g (la.1 0 1) (la.1 1 0) (la.2.2 0) (nI (n 0))) (lw_V q253 q254 q255 q54 q256) hdJ2_size ⟨(Nat.le_of_ble_eq_true rfl), (Nat.le_of_ble_eq_true rfl)⟩ ⟨(Nat.le_of_ble_eq_true rfl), (Nat.le_of_ble_eq_true rfl)⟩ hl.1 hS tfJ2.2.1 (cw.al0 hw) rfl (Nat.le_of_ble_eq_true rfl) (cw.al0 hw) (fun _ h => h.elim) dX1_fieldAt_8 (fun rv9 H locs hQ hz9 hk9 hS => ?_)
  obtain ⟨rfl, rfl⟩ := hQ
  refine W.eq (g2 := F0 m 11 ls [.int (nI (n 0)), .int z]) rfl ?_
  exact tS fx (t_requireIndex l hst g z (nI (n 0)) hok) (lw_S q696 q697 q50 q698) hdX1_requireIndex ⟨(Nat.le_of_ble_eq_true rfl), (Nat.le_of_ble_eq_true rfl)⟩ ⟨(Nat.le_of_ble_eq_true rfl), (Nat.le_of_ble_eq_true rfl)⟩ hl.1 hS rfl (Nat.le_of_ble_eq_true rfl) trivial dX1_fieldAt_11 hex hlocks (Nat.le_of_ble_eq_true rfl) (Nat.le_of_ble_eq_true rfl)

set_option maxHeartbeats 4000000 in
theorem m_X_truckAt (l : Launch) (g : GT) (ax ap : Nat) (la : LT) (sc : Nat → Int32) (sw : Int64) (ar fd tr ld : Nat → Nat → Int32) (n : CN) (xi : Nat → Int32) (sm : Int64) (pd : Nat → Int32) (hn : cN n) (i : Nat) (hi : i < n 1) : Cn l g yX1_truckAt cX1_truckAt 2 ((some (.object "Canecrush$Truck"))) 3 0 0 [.ref ax, .int (nI i)] (fun _ => False) (fun H => xw g (bA g) ax ap la (sc, sw, ar, fd, tr, ld, n) xi sm pd H) (fun Hp rv Hq => Hp = Hq ∧ rv = some (.ref (la.1 3 i))) := by
  refine Cn.start (plainFor_of_name (by decide +kernel)) (Nat.le_of_ble_eq_true rfl) ?_
  intro p ev s m below meth c ls H locs hH hx hb hr hts hown hlocks hml hnm hK hP hS hl
  have hxw := hP
  obtain ⟨hw, h_x, h_p, inx, inp, nxp, nfx, nfp⟩ := hxw
  have fx : Fx p s m ([.ref ax, .int (nI i)] : List Value).toArray c cX1_truckAt RX1 g (fun _ => False) 2 := ⟨hx, hb, hts, hown, hK, fun _ h => h.elim, hml⟩
  have hl : lv_has ls 2 [(0, .ref ax), (1, .int (nI i))] := hl
  refine lv_iload_n hx hb dX1_truckAt_0 rfl (lv_at hl 1 rfl) ?_
  refine lv_aload_n hx hb dX1_truckAt_1 rfl (lv_at hl 0 rfl) ?_
  refine mget fx tfX1 h_x 0 (by decide) q209 (fun _ h => h) (v := .ref (la.1 0 0)) rfl dX1_truckAt_2 ?_
  refine mgetN fx tfX2 (cw.w hw) 1 (by decide) q123 (fun _ h => h) (v := .ref (la.1 0 2)) rfl dX1_truckAt_5 ?_
  refine kV fx (m_AL_size l g (la.1 0 2) (la.1 1 1) (la.2.2 1) (nI (n 1))) (lw_V q253 q254 q255 q54 q256) hdJ2_size ⟨(Nat.le_of_ble_eq_true rfl), (Nat.le_of_ble_eq_true rfl)⟩ ⟨(Nat.le_of_ble_eq_true rfl), (Nat.le_of_ble_eq_true rfl)⟩ hl.1 hS tfJ2.2.1 (cw.al1 hw) rfl (Nat.le_of_ble_eq_true rfl) (cw.al1 hw) (fun _ h => h.elim) dX1_truckAt_8 (fun rv9 H locs hQ hz9 hk9 hS => ?_)
  obtain ⟨rfl, rfl⟩ := hQ
  refine W.eq (g2 := F0 m 11 ls [.int (nI (n 1)), .int (nI i)]) rfl ?_
  refine kS fx (m_requireIndex l g (nI i) (nI (n 1)) (nI_pos (Nat.lt_trans hi hn.h1)) (nI_lt hi hn.h1)) (lw_S q696 q697 q50 q698) hdX1_requireIndex ⟨(Nat.le_of_ble_eq_true rfl), (Nat.le_of_ble_eq_true rfl)⟩ ⟨(Nat.le_of_ble_eq_true rfl), (Nat.le_of_ble_eq_true rfl)⟩ hl.1 hS rfl (Nat.le_of_ble_eq_true rfl) trivial (fun _ h => h.elim) dX1_truckAt_11 (fun rv9 H locs hQ hz9 hk9 hS => ?_)
  obtain ⟨rfl, rfl⟩ := hQ
  refine W.eq (g2 := F0 m 14 ls []) rfl ?_
  refine lv_aload_n hx hb dX1_truckAt_14 rfl (lv_at hl 0 rfl) ?_
  refine mget fx tfX1 h_x 0 (by decide) q209 (fun _ h => h) (v := .ref (la.1 0 0)) rfl dX1_truckAt_15 ?_
  refine mgetN fx tfX2 (cw.w hw) 1 (by decide) q123 (fun _ h => h) (v := .ref (la.1 0 2)) rfl dX1_truckAt_18 ?_
  refine lv_iload_n hx hb dX1_truckAt_21 rfl (lv_at hl 1 rfl) ?_
  refine kV fx (m_AL_get l g (la.1 0 2) (la.1 1 1) i (n 1) (la.2.1 1) (la.1 3 i) (la.2.2 1) (elF la.1 n 1) hi (cw.get hw (k := 1) (by decide) hi).2.1 (cw.get hw (k := 1) (by decide) hi).2.2.1 (cw.get hw (k := 1) (by decide) hi).2.2.2) (lw_V q286 q263 q264 q54 q265) hdJ2_get ⟨(Nat.le_of_ble_eq_true rfl), (Nat.le_of_ble_eq_true rfl)⟩ ⟨(Nat.le_of_ble_eq_true rfl), (Nat.le_of_ble_eq_true rfl)⟩ hl.1 hS tfJ2.2.1 (cw.al1 hw) rfl (Nat.le_of_ble_eq_true rfl) (⟨(cw.al1 hw), (cw.get hw (k := 1) (by decide) hi).1⟩) (fun _ h => h.elim) dX1_truckAt_22 (fun rv9 H locs hQ hz9 hk9 hS => ?_)
  obtain ⟨rfl, rfl⟩ := hQ
  refine W.eq (g2 := F0 m 25 ls [.ref (la.1 3 i)]) rfl ?_
  refine mcast fx tfX7 (cw.t hw hi) q450 dX1_truckAt_25 ?_
  exact ra hx hb hr (Or.inl ⟨_, rfl⟩) hlocks hS (⟨hH.symm, rfl⟩) ⟨(Nat.le_of_ble_eq_true rfl), (Nat.le_of_ble_eq_true rfl)⟩ dX1_truckAt_28

set_option maxHeartbeats 4000000 in
theorem t_X_truckAt (l : Launch) (hst : l.stackTraces = false) (g : GT) (ax ap : Nat) (la : LT) (sc : Nat → Int32) (sw : Int64) (ar fd tr ld : Nat → Nat → Int32) (n : CN) (xi : Nat → Int32) (sm : Int64) (pd : Nat → Int32) (z : Int32) (hok : z < 0 ∨ ¬ z < nI (n 1)) : Tn l g yX1_truckAt cX1_truckAt 2 ((some (.object "Canecrush$Truck"))) 7 [.ref ax, .int z] "java/lang/IndexOutOfBoundsException" (fun H => xw g (bA g) ax ap la (sc, sw, ar, fd, tr, ld, n) xi sm pd H) := by
  refine Tn.start (by decide +kernel) (Nat.le_of_ble_eq_true rfl) ?_
  intro p ev s m below meth c ls H locs hH hx hb hts hown hlocks hml hex hK hP hS hl
  have hxw := hP
  obtain ⟨hw, h_x, h_p, inx, inp, nxp, nfx, nfp⟩ := hxw
  have fx : Fx p s m ([.ref ax, .int z] : List Value).toArray c cX1_truckAt RX1 g (fun _ => False) 2 := ⟨hx, hb, hts, hown, hK, fun _ h => h.elim, hml⟩
  have hl : lv_has ls 2 [(0, .ref ax), (1, .int z)] := hl
  refine lv_iload_n hx hb dX1_truckAt_0 rfl (lv_at hl 1 rfl) ?_
  refine lv_aload_n hx hb dX1_truckAt_1 rfl (lv_at hl 0 rfl) ?_
  refine mget fx tfX1 h_x 0 (by decide) q209 (fun _ h => h) (v := .ref (la.1 0 0)) rfl dX1_truckAt_2 ?_
  refine mgetN fx tfX2 (cw.w hw) 1 (by decide) q123 (fun _ h => h) (v := .ref (la.1 0 2)) rfl dX1_truckAt_5 ?_
  refine kV fx (m_AL_size l g (la.1 0 2) (la.1 1 1) (la.2.2 1) (nI (n 1))) (lw_V q253 q254 q255 q54 q256) hdJ2_size ⟨(Nat.le_of_ble_eq_true rfl), (Nat.le_of_ble_eq_true rfl)⟩ ⟨(Nat.le_of_ble_eq_true rfl), (Nat.le_of_ble_eq_true rfl)⟩ hl.1 hS tfJ2.2.1 (cw.al1 hw) rfl (Nat.le_of_ble_eq_true rfl) (cw.al1 hw) (fun _ h => h.elim) dX1_truckAt_8 (fun rv9 H locs hQ hz9 hk9 hS => ?_)
  obtain ⟨rfl, rfl⟩ := hQ
  refine W.eq (g2 := F0 m 11 ls [.int (nI (n 1)), .int z]) rfl ?_
  exact tS fx (t_requireIndex l hst g z (nI (n 1)) hok) (lw_S q696 q697 q50 q698) hdX1_requireIndex ⟨(Nat.le_of_ble_eq_true rfl), (Nat.le_of_ble_eq_true rfl)⟩ ⟨(Nat.le_of_ble_eq_true rfl), (Nat.le_of_ble_eq_true rfl)⟩ hl.1 hS rfl (Nat.le_of_ble_eq_true rfl) trivial dX1_truckAt_11 hex hlocks (Nat.le_of_ble_eq_true rfl) (Nat.le_of_ble_eq_true rfl)

set_option maxHeartbeats 4000000 in
theorem m_X_requireLoad (l : Launch) (g : GT) (ax ap : Nat) (la : LT) (sc : Nat → Int32) (sw : Int64) (ar fd tr ld : Nat → Nat → Int32) (n : CN) (xi : Nat → Int32) (sm : Int64) (pd : Nat → Int32) (hn : cN n) (i : Nat) (hi : i < n 2) : Cn l g yX1_requireLoad cX1_requireLoad 2 (none) 1 0 0 [.ref ax, .int (nI i)] (fun _ => False) (fun H => xw g (bA g) ax ap la (sc, sw, ar, fd, tr, ld, n) xi sm pd H) (fun Hp rv Hq => Hp = Hq ∧ rv = none) := by
  refine Cn.start (plainFor_of_name (by decide +kernel)) (Nat.le_of_ble_eq_true rfl) ?_
  intro p ev s m below meth c ls H locs hH hx hb hr hts hown hlocks hml hnm hK hP hS hl
  have hxw := hP
  obtain ⟨hw, h_x, h_p, inx, inp, nxp, nfx, nfp⟩ := hxw
  have fx : Fx p s m ([.ref ax, .int (nI i)] : List Value).toArray c cX1_requireLoad RX1 g (fun _ => False) 2 := ⟨hx, hb, hts, hown, hK, fun _ h => h.elim, hml⟩
  have hl : lv_has ls 2 [(0, .ref ax), (1, .int (nI i))] := hl
  refine lv_iload_n hx hb dX1_requireLoad_0 rfl (lv_at hl 1 rfl) ?_
  refine lv_aload_n hx hb dX1_requireLoad_1 rfl (lv_at hl 0 rfl) ?_
  refine mget fx tfX1 h_x 0 (by decide) q209 (fun _ h => h) (v := .ref (la.1 0 0)) rfl dX1_requireLoad_2 ?_
  refine mgetN fx tfX2 (cw.w hw) 2 (by decide) q125 (fun _ h => h) (v := .ref (la.1 0 3)) rfl dX1_requireLoad_5 ?_
  refine kV fx (m_AL_size l g (la.1 0 3) (la.1 1 2) (la.2.2 2) (nI (n 2))) (lw_V q253 q254 q255 q54 q256) hdJ2_size ⟨(Nat.le_of_ble_eq_true rfl), (Nat.le_of_ble_eq_true rfl)⟩ ⟨(Nat.le_of_ble_eq_true rfl), (Nat.le_of_ble_eq_true rfl)⟩ hl.1 hS tfJ2.2.1 (cw.al2 hw) rfl (Nat.le_of_ble_eq_true rfl) (cw.al2 hw) (fun _ h => h.elim) dX1_requireLoad_8 (fun rv9 H locs hQ hz9 hk9 hS => ?_)
  obtain ⟨rfl, rfl⟩ := hQ
  refine W.eq (g2 := F0 m 11 ls [.int (nI (n 2)), .int (nI i)]) rfl ?_
  refine kS fx (m_requireIndex l g (nI i) (nI (n 2)) (nI_pos (Nat.lt_trans hi hn.h2)) (nI_lt hi hn.h2)) (lw_S q696 q697 q50 q698) hdX1_requireIndex ⟨(Nat.le_of_ble_eq_true rfl), (Nat.le_of_ble_eq_true rfl)⟩ ⟨(Nat.le_of_ble_eq_true rfl), (Nat.le_of_ble_eq_true rfl)⟩ hl.1 hS rfl (Nat.le_of_ble_eq_true rfl) trivial (fun _ h => h.elim) dX1_requireLoad_11 (fun rv9 H locs hQ hz9 hk9 hS => ?_)
  obtain ⟨rfl, rfl⟩ := hQ
  refine W.eq (g2 := F0 m 14 ls []) rfl ?_
  exact rv hx hb hr hlocks hS (⟨hH.symm, rfl⟩) ⟨(Nat.le_of_ble_eq_true rfl), (Nat.le_of_ble_eq_true rfl)⟩ dX1_requireLoad_14

set_option maxHeartbeats 4000000 in
theorem t_X_requireLoad (l : Launch) (hst : l.stackTraces = false) (g : GT) (ax ap : Nat) (la : LT) (sc : Nat → Int32) (sw : Int64) (ar fd tr ld : Nat → Nat → Int32) (n : CN) (xi : Nat → Int32) (sm : Int64) (pd : Nat → Int32) (z : Int32) (hok : z < 0 ∨ ¬ z < nI (n 2)) : Tn l g yX1_requireLoad cX1_requireLoad 2 (none) 7 [.ref ax, .int z] "java/lang/IndexOutOfBoundsException" (fun H => xw g (bA g) ax ap la (sc, sw, ar, fd, tr, ld, n) xi sm pd H) := by
  refine Tn.start (by decide +kernel) (Nat.le_of_ble_eq_true rfl) ?_
  intro p ev s m below meth c ls H locs hH hx hb hts hown hlocks hml hex hK hP hS hl
  have hxw := hP
  obtain ⟨hw, h_x, h_p, inx, inp, nxp, nfx, nfp⟩ := hxw
  have fx : Fx p s m ([.ref ax, .int z] : List Value).toArray c cX1_requireLoad RX1 g (fun _ => False) 2 := ⟨hx, hb, hts, hown, hK, fun _ h => h.elim, hml⟩
  have hl : lv_has ls 2 [(0, .ref ax), (1, .int z)] := hl
  refine lv_iload_n hx hb dX1_requireLoad_0 rfl (lv_at hl 1 rfl) ?_
  refine lv_aload_n hx hb dX1_requireLoad_1 rfl (lv_at hl 0 rfl) ?_
  refine mget fx tfX1 h_x 0 (by decide) q209 (fun _ h => h) (v := .ref (la.1 0 0)) rfl dX1_requireLoad_2 ?_
  refine mgetN fx tfX2 (cw.w hw) 2 (by decide) q125 (fun _ h => h) (v := .ref (la.1 0 3)) rfl dX1_requireLoad_5 ?_
  refine kV fx (m_AL_size l g (la.1 0 3) (la.1 1 2) (la.2.2 2) (nI (n 2))) (lw_V q253 q254 q255 q54 q256) hdJ2_size ⟨(Nat.le_of_ble_eq_true rfl), (Nat.le_of_ble_eq_true rfl)⟩ ⟨(Nat.le_of_ble_eq_true rfl), (Nat.le_of_ble_eq_true rfl)⟩ hl.1 hS tfJ2.2.1 (cw.al2 hw) rfl (Nat.le_of_ble_eq_true rfl) (cw.al2 hw) (fun _ h => h.elim) dX1_requireLoad_8 (fun rv9 H locs hQ hz9 hk9 hS => ?_)
  obtain ⟨rfl, rfl⟩ := hQ
  refine W.eq (g2 := F0 m 11 ls [.int (nI (n 2)), .int z]) rfl ?_
  exact tS fx (t_requireIndex l hst g z (nI (n 2)) hok) (lw_S q696 q697 q50 q698) hdX1_requireIndex ⟨(Nat.le_of_ble_eq_true rfl), (Nat.le_of_ble_eq_true rfl)⟩ ⟨(Nat.le_of_ble_eq_true rfl), (Nat.le_of_ble_eq_true rfl)⟩ hl.1 hS rfl (Nat.le_of_ble_eq_true rfl) trivial dX1_requireLoad_11 hex hlocks (Nat.le_of_ble_eq_true rfl) (Nat.le_of_ble_eq_true rfl)

set_option maxHeartbeats 4000000 in
theorem m_X_smut (l : Launch) (g : GT) (sz ax ap : Nat) (la : LT) (sc : Nat → Int32) (sw : Int64) (ar fd tr ld : Nat → Nat → Int32) (n : CN) (xi : Nat → Int32) (sm : Int64) (pd : Nat → Int32) (hn : cN n) (i : Nat) (mu : Int32) (hi : i < n 0) (hok : ¬ isFromF 1 50 mu = 0) : Cn l g yX1_smut cX1_smut 4 ((some .int)) 4 0 0 [.ref ax, .int (nI i), .int mu] (fA (xF ax ap la n) sz) (fun H => sz = H.size ∧ xw g (bA g) ax ap la (sc, sw, ar, fd, tr, ld, n) xi sm pd H) (fun Hp rv Hq => rv = some (.int (jmin 100 (fd i 7 + mu))) ∧ xw g (fA (xF ax ap la n) sz) ax ap la (sc, sw, ar, va_up fd i (ob11 (fd i 0) (fd i 1) (fd i 2) (fd i 3) (fd i 4) (fd i 5) (fd i 6) (jmin 100 (fd i 7 + mu)) (fd i 8) (fd i 9) (fd i 10)), tr, ld, n) xi sm pd Hq) := by
  refine Cn.start (plainFor_of_name (by decide +kernel)) (Nat.le_of_ble_eq_true rfl) ?_
  intro p ev s m below meth c ls H locs hH hx hb hr hts hown hlocks hml hnm hK hP hS hl
  obtain ⟨hsz, hxw⟩ := hP
  have hszs : sz = s.heap.size := by rw [hsz, hH]
  have hAs : ∀ q, s.heap.size ≤ q → (fA (xF ax ap la n) sz) q := fun q h => Or.inr (by rw [hszs]; exact h)
  have hAb : ∀ q, (fA (xF ax ap la n) sz) q → bA g q := fun q h => h.elim (hxw.ft q) (fun h => Nat.le_trans hK.2.2.sz (by rw [← hszs]; exact h))
  obtain ⟨hw, h_x, h_p, inx, inp, nxp, nfx, nfp⟩ := hxw.self sz
  have fx : Fx p s m ([.ref ax, .int (nI i), .int mu] : List Value).toArray c cX1_smut RX1 g (fA (xF ax ap la n) sz) 4 := ⟨hx, hb, hts, hown, hK, hAb, hml⟩
  have hl : lv_has ls 4 [(0, .ref ax), (1, .int (nI i)), (2, .int mu)] := hl
  refine lv_aload_n hx hb dX1_smut_0 rfl (lv_at hl 0 rfl) ?_
  refine lv_iload_n hx hb dX1_smut_1 rfl (lv_at hl 1 rfl) ?_
  refine kV fx (m_X_fieldAt l g ax ap la sc sw ar fd tr ld n xi sm pd hn i hi) (lw_V q775 q777 qs23 q50 q778) hdX1_fieldAt ⟨(Nat.le_of_ble_eq_true rfl), (Nat.le_of_ble_eq_true rfl)⟩ ⟨(Nat.le_of_ble_eq_true rfl), (Nat.le_of_ble_eq_true rfl)⟩ hl.1 hS tfX1.2.1 h_x rfl (Nat.le_of_ble_eq_true rfl) (xw.weaken ⟨hw, h_x, h_p, inx, inp, nxp, nfx, nfp⟩ fx.2.2.2.2.2.1) (fun _ h => h.elim) dX1_smut_2 (fun rv9 H locs hQ hz9 hk9 hS => ?_)
  obtain ⟨rfl, rfl⟩ := hQ
  refine W.eq (g2 := F0 m 5 ls [.ref (la.1 2 i)]) rfl ?_
  refine lv_astore_n (lv' := [(3, .ref (la.1 2 i)), (0, .ref ax), (1, .int (nI i)), (2, .int mu)]) hx hb dX1_smut_5 rfl hl (by decide) rfl (fun ls hl => ?_)
  refine lv_iconst (v := 1) hx hb dX1_smut_6 (by decide) ?_
  refine lv_bipush (v := 50) hx hb dX1_smut_7 (by decide) ?_
  refine lv_iload_n hx hb dX1_smut_9 rfl (lv_at hl 3 rfl) ?_
  refine kS fx (m_isFrom l g 1 50 mu) (lw_S q720 q721 q50 q722) hdX1_isFrom ⟨(Nat.le_of_ble_eq_true rfl), (Nat.le_of_ble_eq_true rfl)⟩ ⟨(Nat.le_of_ble_eq_true rfl), (Nat.le_of_ble_eq_true rfl)⟩ hl.1 hS rfl (Nat.le_of_ble_eq_true rfl) trivial (fun _ h => h.elim) dX1_smut_10 (fun rv9 H locs hQ hz9 hk9 hS => ?_)
  obtain ⟨rfl, rfl⟩ := hQ
  refine W.eq (g2 := F0 m 13 ls [.int (isFromF 1 50 mu)]) rfl ?_
  refine kS fx (m_require l g (isFromF 1 50 mu) hok) (lw_S q723 q724 q50 q725) hdX1_require ⟨(Nat.le_of_ble_eq_true rfl), (Nat.le_of_ble_eq_true rfl)⟩ ⟨(Nat.le_of_ble_eq_true rfl), (Nat.le_of_ble_eq_true rfl)⟩ hl.1 hS rfl (Nat.le_of_ble_eq_true rfl) trivial (fun _ h => h.elim) dX1_smut_13 (fun rv9 H locs hQ hz9 hk9 hS => ?_)
  obtain ⟨rfl, rfl⟩ := hQ
  refine W.eq (g2 := F0 m 16 ls []) rfl ?_
  refine lv_aload_n hx hb dX1_smut_16 rfl (lv_at hl 0 rfl) ?_
  refine lv_bipush (v := 100) hx hb dX1_smut_17 (by decide) ?_
  refine lv_aload_n hx hb dX1_smut_19 rfl (lv_at hl 0 rfl) ?_
  refine mgetN fx tfX5 (cw.f hw hi) 7 (by decide) q324 (fun _ h => h) (v := .int (fd i 7)) rfl dX1_smut_20 ?_
  refine lv_iload_n hx hb dX1_smut_23 rfl (lv_at hl 3 rfl) ?_
  refine lv_iadd hx hb dX1_smut_24 ?_
  refine kS fx (m_min l g 100 ((fd i 7) + mu)) (lw_S q440 q411 q67 q412) hdJ12_min ⟨(Nat.le_of_ble_eq_true rfl), (Nat.le_of_ble_eq_true rfl)⟩ ⟨(Nat.le_of_ble_eq_true rfl), (Nat.le_of_ble_eq_true rfl)⟩ hl.1 hS rfl (Nat.le_of_ble_eq_true rfl) trivial (fun _ h => h.elim) dX1_smut_25 (fun rv9 H locs hQ hz9 hk9 hS => ?_)
  obtain ⟨rfl, rfl⟩ := hQ
  refine W.eq (g2 := F0 m 28 ls [.int (jmin 100 ((fd i 7) + mu)), .ref (la.1 2 i)]) rfl ?_
  refine mputN fx tfX5 (cw.f hw hi) hS (cw.inF hw hi) 7 (by decide) q324 (fun _ h => h) rfl rfl rfl (Nat.le_of_ble_eq_true rfl) dX1_smut_28 (fun H locs hat hz hoq hS => ?_)
  replace h_x := h_x.kept (hoq _ (Ne.symm (nfx _ ⟨2, i, hi, rfl⟩)))
  replace h_p := h_p.kept (hoq _ (Ne.symm (nfp _ ⟨2, i, hi, rfl⟩)))
  replace hw : cw g (fA (xF ax ap la n) sz) la (sc, sw, ar, va_up fd i (ob11 (fd i 0) (fd i 1) (fd i 2) (fd i 3) (fd i 4) (fd i 5) (fd i 6) (jmin 100 ((fd i 7) + mu)) (fd i 8) (fd i 9) (fd i 10)), tr, ld, n) H := cw.setFc hw hi hat (fun q _ h9 => hoq q h9)
  refine lv_aload_n hx hb dX1_smut_31 rfl (lv_at hl 0 rfl) ?_
  refine mgetN fx tfX5 (cw.fS hw hi) 7 (by decide) q324 (fun _ h => h) (v := .int (jmin 100 ((fd i 7) + mu))) rfl dX1_smut_32 ?_
  exact ri hx hb hr hlocks hS (⟨rfl, hw, h_x, h_p, inx, inp, nxp, nfx, nfp⟩) ⟨(Nat.le_of_ble_eq_true rfl), (Nat.le_of_ble_eq_true rfl)⟩ dX1_smut_35

set_option maxHeartbeats 4000000 in
theorem t_X_smut1 (l : Launch) (hst : l.stackTraces = false) (g : GT) (ax ap : Nat) (la : LT) (sc : Nat → Int32) (sw : Int64) (ar fd tr ld : Nat → Nat → Int32) (n : CN) (xi : Nat → Int32) (sm : Int64) (pd : Nat → Int32) (z mu : Int32) (hok : z < 0 ∨ ¬ z < nI (n 0)) : Tn l g yX1_smut cX1_smut 4 ((some .int)) 8 [.ref ax, .int z, .int mu] "java/lang/IndexOutOfBoundsException" (fun H => xw g (bA g) ax ap la (sc, sw, ar, fd, tr, ld, n) xi sm pd H) := by
  refine Tn.start (by decide +kernel) (Nat.le_of_ble_eq_true rfl) ?_
  intro p ev s m below meth c ls H locs hH hx hb hts hown hlocks hml hex hK hP hS hl
  have hxw := hP
  obtain ⟨hw, h_x, h_p, inx, inp, nxp, nfx, nfp⟩ := hxw
  have fx : Fx p s m ([.ref ax, .int z, .int mu] : List Value).toArray c cX1_smut RX1 g (fun _ => False) 4 := ⟨hx, hb, hts, hown, hK, fun _ h => h.elim, hml⟩
  have hl : lv_has ls 4 [(0, .ref ax), (1, .int z), (2, .int mu)] := hl
  refine lv_aload_n hx hb dX1_smut_0 rfl (lv_at hl 0 rfl) ?_
  refine lv_iload_n hx hb dX1_smut_1 rfl (lv_at hl 1 rfl) ?_
  exact tV fx (t_X_fieldAt l hst g ax ap la sc sw ar fd tr ld n xi sm pd z hok) (lw_V q775 q777 qs23 q50 q778) hdX1_fieldAt ⟨(Nat.le_of_ble_eq_true rfl), (Nat.le_of_ble_eq_true rfl)⟩ ⟨(Nat.le_of_ble_eq_true rfl), (Nat.le_of_ble_eq_true rfl)⟩ hl.1 hS tfX1.2.1 h_x rfl (Nat.le_of_ble_eq_true rfl) (⟨hw, h_x, h_p, inx, inp, nxp, nfx, nfp⟩) dX1_smut_2 hex hlocks (Nat.le_of_ble_eq_true rfl) (Nat.le_of_ble_eq_true rfl)

set_option maxHeartbeats 4000000 in
theorem t_X_smut2 (l : Launch) (hst : l.stackTraces = false) (g : GT) (ax ap : Nat) (la : LT) (sc : Nat → Int32) (sw : Int64) (ar fd tr ld : Nat → Nat → Int32) (n : CN) (xi : Nat → Int32) (sm : Int64) (pd : Nat → Int32) (hn : cN n) (i : Nat) (mu : Int32) (hi : i < n 0) (hok : isFromF 1 50 mu = 0) : Tn l g yX1_smut cX1_smut 4 ((some .int)) 8 [.ref ax, .int (nI i), .int mu] "java/lang/IllegalArgumentException" (fun H => xw g (bA g) ax ap la (sc, sw, ar, fd, tr, ld, n) xi sm pd H) := by
  refine Tn.start (by decide +kernel) (Nat.le_of_ble_eq_true rfl) ?_
  intro p ev s m below meth c ls H locs hH hx hb hts hown hlocks hml hex hK hP hS hl
  have hxw := hP
  obtain ⟨hw, h_x, h_p, inx, inp, nxp, nfx, nfp⟩ := hxw
  have fx : Fx p s m ([.ref ax, .int (nI i), .int mu] : List Value).toArray c cX1_smut RX1 g (fun _ => False) 4 := ⟨hx, hb, hts, hown, hK, fun _ h => h.elim, hml⟩
  have hl : lv_has ls 4 [(0, .ref ax), (1, .int (nI i)), (2, .int mu)] := hl
  refine lv_aload_n hx hb dX1_smut_0 rfl (lv_at hl 0 rfl) ?_
  refine lv_iload_n hx hb dX1_smut_1 rfl (lv_at hl 1 rfl) ?_
  refine kV fx (m_X_fieldAt l g ax ap la sc sw ar fd tr ld n xi sm pd hn i hi) (lw_V q775 q777 qs23 q50 q778) hdX1_fieldAt ⟨(Nat.le_of_ble_eq_true rfl), (Nat.le_of_ble_eq_true rfl)⟩ ⟨(Nat.le_of_ble_eq_true rfl), (Nat.le_of_ble_eq_true rfl)⟩ hl.1 hS tfX1.2.1 h_x rfl (Nat.le_of_ble_eq_true rfl) (⟨hw, h_x, h_p, inx, inp, nxp, nfx, nfp⟩) (fun _ h => h.elim) dX1_smut_2 (fun rv9 H locs hQ hz9 hk9 hS => ?_)
  obtain ⟨rfl, rfl⟩ := hQ
  refine W.eq (g2 := F0 m 5 ls [.ref (la.1 2 i)]) rfl ?_
  refine lv_astore_n (lv' := [(3, .ref (la.1 2 i)), (0, .ref ax), (1, .int (nI i)), (2, .int mu)]) hx hb dX1_smut_5 rfl hl (by decide) rfl (fun ls hl => ?_)
  refine lv_iconst (v := 1) hx hb dX1_smut_6 (by decide) ?_
  refine lv_bipush (v := 50) hx hb dX1_smut_7 (by decide) ?_
  refine lv_iload_n hx hb dX1_smut_9 rfl (lv_at hl 3 rfl) ?_
  refine kS fx (m_isFrom l g 1 50 mu) (lw_S q720 q721 q50 q722) hdX1_isFrom ⟨(Nat.le_of_ble_eq_true rfl), (Nat.le_of_ble_eq_true rfl)⟩ ⟨(Nat.le_of_ble_eq_true rfl), (Nat.le_of_ble_eq_true rfl)⟩ hl.1 hS rfl (Nat.le_of_ble_eq_true rfl) trivial (fun _ h => h.elim) dX1_smut_10 (fun rv9 H locs hQ hz9 hk9 hS => ?_)
  obtain ⟨rfl, rfl⟩ := hQ
  refine W.eq (g2 := F0 m 13 ls [.int (isFromF 1 50 mu)]) rfl ?_
  exact tS fx (t_require l hst g (isFromF 1 50 mu) hok) (lw_S q723 q724 q50 q725) hdX1_require ⟨(Nat.le_of_ble_eq_true rfl), (Nat.le_of_ble_eq_true rfl)⟩ ⟨(Nat.le_of_ble_eq_true rfl), (Nat.le_of_ble_eq_true rfl)⟩ hl.1 hS rfl (Nat.le_of_ble_eq_true rfl) trivial dX1_smut_13 hex hlocks (Nat.le_of_ble_eq_true rfl) (Nat.le_of_ble_eq_true rfl)

set_option maxHeartbeats 4000000 in
theorem m_X_burn (l : Launch) (g : GT) (sz ax ap : Nat) (la : LT) (sc : Nat → Int32) (sw : Int64) (ar fd tr ld : Nat → Nat → Int32) (n : CN) (xi : Nat → Int32) (sm : Int64) (pd : Nat → Int32) (hn : cN n) (i : Nat) (hi : i < n 0) (hc : ¬ fd i 3 ≤ 0) : Cn l g yX1_burn cX1_burn 4 ((some .boolean)) 4 0 0 [.ref ax, .int (nI i)] (fA (xF ax ap la n) sz) (fun H => sz = H.size ∧ xw g (bA g) ax ap la (sc, sw, ar, fd, tr, ld, n) xi sm pd H) (fun Hp rv Hq => rv = some (.int (if fd i 10 = 0 then 1 else 0)) ∧ xw g (fA (xF ax ap la n) sz) ax ap la (sc, sw, ar, va_up fd i (ob11 (fd i 0) (fd i 1) (fd i 2) (fd i 3) (fd i 4) (fd i 5) (fd i 6) (fd i 7) (fd i 8) (fd i 9) 1), tr, ld, n) xi sm pd Hq) := by
  refine Cn.start (plainFor_of_name (by decide +kernel)) (Nat.le_of_ble_eq_true rfl) ?_
  intro p ev s m below meth c ls H locs hH hx hb hr hts hown hlocks hml hnm hK hP hS hl
  obtain ⟨hsz, hxw⟩ := hP
  have hszs : sz = s.heap.size := by rw [hsz, hH]
  have hAs : ∀ q, s.heap.size ≤ q → (fA (xF ax ap la n) sz) q := fun q h => Or.inr (by rw [hszs]; exact h)
  have hAb : ∀ q, (fA (xF ax ap la n) sz) q → bA g q := fun q h => h.elim (hxw.ft q) (fun h => Nat.le_trans hK.2.2.sz (by rw [← hszs]; exact h))
  obtain ⟨hw, h_x, h_p, inx, inp, nxp, nfx, nfp⟩ := hxw.self sz
  have fx : Fx p s m ([.ref ax, .int (nI i)] : List Value).toArray c cX1_burn RX1 g (fA (xF ax ap la n) sz) 4 := ⟨hx, hb, hts, hown, hK, hAb, hml⟩
  have hl : lv_has ls 4 [(0, .ref ax), (1, .int (nI i))] := hl
  refine lv_aload_n hx hb dX1_burn_0 rfl (lv_at hl 0 rfl) ?_
  refine lv_iload_n hx hb dX1_burn_1 rfl (lv_at hl 1 rfl) ?_
  refine kV fx (m_X_fieldAt l g ax ap la sc sw ar fd tr ld n xi sm pd hn i hi) (lw_V q775 q777 qs23 q50 q778) hdX1_fieldAt ⟨(Nat.le_of_ble_eq_true rfl), (Nat.le_of_ble_eq_true rfl)⟩ ⟨(Nat.le_of_ble_eq_true rfl), (Nat.le_of_ble_eq_true rfl)⟩ hl.1 hS tfX1.2.1 h_x rfl (Nat.le_of_ble_eq_true rfl) (xw.weaken ⟨hw, h_x, h_p, inx, inp, nxp, nfx, nfp⟩ fx.2.2.2.2.2.1) (fun _ h => h.elim) dX1_burn_2 (fun rv9 H locs hQ hz9 hk9 hS => ?_)
  obtain ⟨rfl, rfl⟩ := hQ
  refine W.eq (g2 := F0 m 5 ls [.ref (la.1 2 i)]) rfl ?_
  refine lv_astore_n (lv' := [(2, .ref (la.1 2 i)), (0, .ref ax), (1, .int (nI i))]) hx hb dX1_burn_5 rfl hl (by decide) rfl (fun ls hl => ?_)
  refine lv_aload_n hx hb dX1_burn_6 rfl (lv_at hl 0 rfl) ?_
  refine mgetN fx tfX5 (cw.f hw hi) 3 (by decide) q316 (fun _ h => h) (v := .int (fd i 3)) rfl dX1_burn_7 ?_
  refine lv_if_le (tgt := 17) hx hb dX1_burn_10 (by decide) (fun h9 => absurd h9 hc) (fun _ => ?_)
  refine lv_iconst (v := 1) hx hb dX1_burn_13 (by decide) ?_
  refine lv_goto (tgt := 18) hx hb dX1_burn_14 (by decide) ?_
  refine kS fx (m_requireState l g 1 (by decide)) (lw_S q741 q742 q50 q743) hdX1_requireState ⟨(Nat.le_of_ble_eq_true rfl), (Nat.le_of_ble_eq_true rfl)⟩ ⟨(Nat.le_of_ble_eq_true rfl), (Nat.le_of_ble_eq_true rfl)⟩ hl.1 hS rfl (Nat.le_of_ble_eq_true rfl) trivial (fun _ h => h.elim) dX1_burn_18 (fun rv9 H locs hQ hz9 hk9 hS => ?_)
  obtain ⟨rfl, rfl⟩ := hQ
  refine W.eq (g2 := F0 m 21 ls []) rfl ?_
  refine lv_aload_n hx hb dX1_burn_21 rfl (lv_at hl 0 rfl) ?_
  refine mgetN fx tfX5 (cw.f hw hi) 10 (by decide) q331 (fun _ h => h) (v := .int (fd i 10)) rfl dX1_burn_22 ?_
  refine lv_istore_n (lv' := [(3, .int (fd i 10)), (2, .ref (la.1 2 i)), (0, .ref ax), (1, .int (nI i))]) hx hb dX1_burn_25 rfl hl (by decide) rfl (fun ls hl => ?_)
  refine lv_aload_n hx hb dX1_burn_26 rfl (lv_at hl 1 rfl) ?_
  refine lv_iconst (v := 1) hx hb dX1_burn_27 (by decide) ?_
  refine mputN fx tfX5 (cw.f hw hi) hS (cw.inF hw hi) 10 (by decide) q331 (fun _ h => h) rfl rfl rfl (Nat.le_of_ble_eq_true rfl) dX1_burn_28 (fun H locs hat hz hoq hS => ?_)
  replace h_x := h_x.kept (hoq _ (Ne.symm (nfx _ ⟨2, i, hi, rfl⟩)))
  replace h_p := h_p.kept (hoq _ (Ne.symm (nfp _ ⟨2, i, hi, rfl⟩)))
  replace hw : cw g (fA (xF ax ap la n) sz) la (sc, sw, ar, va_up fd i (ob11 (fd i 0) (fd i 1) (fd i 2) (fd i 3) (fd i 4) (fd i 5) (fd i 6) (fd i 7) (fd i 8) (fd i 9) 1), tr, ld, n) H := cw.setFc hw hi hat (fun q _ h9 => hoq q h9)
  refine lv_iload_n hx hb dX1_burn_31 rfl (lv_at hl 0 rfl) ?_
  refine lv_if_ne (tgt := 39) hx hb dX1_burn_32 (by decide) (fun c_1 => ?_) (fun c_1 => ?_)
  · skip
    refine lv_iconst (v := 0) hx hb dX1_burn_39 (by decide) ?_
    exact rz hx hb hr hlocks rfl hS (⟨by rw [if_neg c_1], hw, h_x, h_p, inx, inp, nxp, nfx, nfp⟩) ⟨(Nat.le_of_ble_eq_true rfl), (Nat.le_of_ble_eq_true rfl)⟩ dX1_burn_40
  · skip
    refine lv_iconst (v := 1) hx hb dX1_burn_35 (by decide) ?_
    refine lv_goto (tgt := 40) hx hb dX1_burn_36 (by decide) ?_
    exact rz hx hb hr hlocks rfl hS (⟨by rw [if_pos c_1], hw, h_x, h_p, inx, inp, nxp, nfx, nfp⟩) ⟨(Nat.le_of_ble_eq_true rfl), (Nat.le_of_ble_eq_true rfl)⟩ dX1_burn_40

set_option maxHeartbeats 4000000 in
theorem t_X_burn1 (l : Launch) (hst : l.stackTraces = false) (g : GT) (ax ap : Nat) (la : LT) (sc : Nat → Int32) (sw : Int64) (ar fd tr ld : Nat → Nat → Int32) (n : CN) (xi : Nat → Int32) (sm : Int64) (pd : Nat → Int32) (z : Int32) (hok : z < 0 ∨ ¬ z < nI (n 0)) : Tn l g yX1_burn cX1_burn 4 ((some .boolean)) 8 [.ref ax, .int z] "java/lang/IndexOutOfBoundsException" (fun H => xw g (bA g) ax ap la (sc, sw, ar, fd, tr, ld, n) xi sm pd H) := by
  refine Tn.start (by decide +kernel) (Nat.le_of_ble_eq_true rfl) ?_
  intro p ev s m below meth c ls H locs hH hx hb hts hown hlocks hml hex hK hP hS hl
  have hxw := hP
  obtain ⟨hw, h_x, h_p, inx, inp, nxp, nfx, nfp⟩ := hxw
  have fx : Fx p s m ([.ref ax, .int z] : List Value).toArray c cX1_burn RX1 g (fun _ => False) 4 := ⟨hx, hb, hts, hown, hK, fun _ h => h.elim, hml⟩
  have hl : lv_has ls 4 [(0, .ref ax), (1, .int z)] := hl
  refine lv_aload_n hx hb dX1_burn_0 rfl (lv_at hl 0 rfl) ?_
  refine lv_iload_n hx hb dX1_burn_1 rfl (lv_at hl 1 rfl) ?_
  exact tV fx (t_X_fieldAt l hst g ax ap la sc sw ar fd tr ld n xi sm pd z hok) (lw_V q775 q777 qs23 q50 q778) hdX1_fieldAt ⟨(Nat.le_of_ble_eq_true rfl), (Nat.le_of_ble_eq_true rfl)⟩ ⟨(Nat.le_of_ble_eq_true rfl), (Nat.le_of_ble_eq_true rfl)⟩ hl.1 hS tfX1.2.1 h_x rfl (Nat.le_of_ble_eq_true rfl) (⟨hw, h_x, h_p, inx, inp, nxp, nfx, nfp⟩) dX1_burn_2 hex hlocks (Nat.le_of_ble_eq_true rfl) (Nat.le_of_ble_eq_true rfl)

set_option maxHeartbeats 4000000 in
theorem t_X_burn2 (l : Launch) (hst : l.stackTraces = false) (g : GT) (ax ap : Nat) (la : LT) (sc : Nat → Int32) (sw : Int64) (ar fd tr ld : Nat → Nat → Int32) (n : CN) (xi : Nat → Int32) (sm : Int64) (pd : Nat → Int32) (hn : cN n) (i : Nat) (hi : i < n 0) (hc : fd i 3 ≤ 0) : Tn l g yX1_burn cX1_burn 4 ((some .boolean)) 8 [.ref ax, .int (nI i)] "java/lang/IllegalStateException" (fun H => xw g (bA g) ax ap la (sc, sw, ar, fd, tr, ld, n) xi sm pd H) := by
  refine Tn.start (by decide +kernel) (Nat.le_of_ble_eq_true rfl) ?_
  intro p ev s m below meth c ls H locs hH hx hb hts hown hlocks hml hex hK hP hS hl
  have hxw := hP
  obtain ⟨hw, h_x, h_p, inx, inp, nxp, nfx, nfp⟩ := hxw
  have fx : Fx p s m ([.ref ax, .int (nI i)] : List Value).toArray c cX1_burn RX1 g (fun _ => False) 4 := ⟨hx, hb, hts, hown, hK, fun _ h => h.elim, hml⟩
  have hl : lv_has ls 4 [(0, .ref ax), (1, .int (nI i))] := hl
  refine lv_aload_n hx hb dX1_burn_0 rfl (lv_at hl 0 rfl) ?_
  refine lv_iload_n hx hb dX1_burn_1 rfl (lv_at hl 1 rfl) ?_
  refine kV fx (m_X_fieldAt l g ax ap la sc sw ar fd tr ld n xi sm pd hn i hi) (lw_V q775 q777 qs23 q50 q778) hdX1_fieldAt ⟨(Nat.le_of_ble_eq_true rfl), (Nat.le_of_ble_eq_true rfl)⟩ ⟨(Nat.le_of_ble_eq_true rfl), (Nat.le_of_ble_eq_true rfl)⟩ hl.1 hS tfX1.2.1 h_x rfl (Nat.le_of_ble_eq_true rfl) (⟨hw, h_x, h_p, inx, inp, nxp, nfx, nfp⟩) (fun _ h => h.elim) dX1_burn_2 (fun rv9 H locs hQ hz9 hk9 hS => ?_)
  obtain ⟨rfl, rfl⟩ := hQ
  refine W.eq (g2 := F0 m 5 ls [.ref (la.1 2 i)]) rfl ?_
  refine lv_astore_n (lv' := [(2, .ref (la.1 2 i)), (0, .ref ax), (1, .int (nI i))]) hx hb dX1_burn_5 rfl hl (by decide) rfl (fun ls hl => ?_)
  refine lv_aload_n hx hb dX1_burn_6 rfl (lv_at hl 0 rfl) ?_
  refine mgetN fx tfX5 (cw.f hw hi) 3 (by decide) q316 (fun _ h => h) (v := .int (fd i 3)) rfl dX1_burn_7 ?_
  refine lv_if_le (tgt := 17) hx hb dX1_burn_10 (by decide) (fun _ => ?_) (fun h9 => absurd hc h9)
  refine lv_iconst (v := 0) hx hb dX1_burn_17 (by decide) ?_
  exact tS fx (t_requireState l hst g 0 rfl) (lw_S q741 q742 q50 q743) hdX1_requireState ⟨(Nat.le_of_ble_eq_true rfl), (Nat.le_of_ble_eq_true rfl)⟩ ⟨(Nat.le_of_ble_eq_true rfl), (Nat.le_of_ble_eq_true rfl)⟩ hl.1 hS rfl (Nat.le_of_ble_eq_true rfl) trivial dX1_burn_18 hex hlocks (Nat.le_of_ble_eq_true rfl) (Nat.le_of_ble_eq_true rfl)

set_option maxHeartbeats 4000000 in
theorem m_X_send (l : Launch) (g : GT) (sz ax ap : Nat) (la : LT) (sc : Nat → Int32) (sw : Int64) (ar fd tr ld : Nat → Nat → Int32) (n : CN) (xi : Nat → Int32) (sm : Int64) (pd : Nat → Int32) (hn : cN n) (k i : Nat) (hk : k < n 1) (hi : i < n 0) (hc : tr k 0 = 0) : Cn l g yX1_send cX1_send 5 ((some .int)) 4 0 0 [.ref ax, .int (nI k), .int (nI i)] (fA (xF ax ap la n) sz) (fun H => sz = H.size ∧ xw g (bA g) ax ap la (sc, sw, ar, fd, tr, ld, n) xi sm pd H) (fun Hp rv Hq => rv = some (.int (fd i 2)) ∧ xw g (fA (xF ax ap la n) sz) ax ap la (sc, sw, ar, fd, va_up tr k (ob4 1 (nI i) (tr k 2) (fd i 2)), ld, n) xi sm pd Hq) := by
  refine Cn.start (plainFor_of_name (by decide +kernel)) (Nat.le_of_ble_eq_true rfl) ?_
  intro p ev s m below meth c ls H locs hH hx hb hr hts hown hlocks hml hnm hK hP hS hl
  obtain ⟨hsz, hxw⟩ := hP
  have hszs : sz = s.heap.size := by rw [hsz, hH]
  have hAs : ∀ q, s.heap.size ≤ q → (fA (xF ax ap la n) sz) q := fun q h => Or.inr (by rw [hszs]; exact h)
  have hAb : ∀ q, (fA (xF ax ap la n) sz) q → bA g q := fun q h => h.elim (hxw.ft q) (fun h => Nat.le_trans hK.2.2.sz (by rw [← hszs]; exact h))
  obtain ⟨hw, h_x, h_p, inx, inp, nxp, nfx, nfp⟩ := hxw.self sz
  have fx : Fx p s m ([.ref ax, .int (nI k), .int (nI i)] : List Value).toArray c cX1_send RX1 g (fA (xF ax ap la n) sz) 5 := ⟨hx, hb, hts, hown, hK, hAb, hml⟩
  have hl : lv_has ls 5 [(0, .ref ax), (1, .int (nI k)), (2, .int (nI i))] := hl
  refine lv_aload_n hx hb dX1_send_0 rfl (lv_at hl 0 rfl) ?_
  refine lv_iload_n hx hb dX1_send_1 rfl (lv_at hl 1 rfl) ?_
  refine kV fx (m_X_truckAt l g ax ap la sc sw ar fd tr ld n xi sm pd hn k hk) (lw_V q812 q814 qs24 q50 q815) hdX1_truckAt ⟨(Nat.le_of_ble_eq_true rfl), (Nat.le_of_ble_eq_true rfl)⟩ ⟨(Nat.le_of_ble_eq_true rfl), (Nat.le_of_ble_eq_true rfl)⟩ hl.1 hS tfX1.2.1 h_x rfl (Nat.le_of_ble_eq_true rfl) (xw.weaken ⟨hw, h_x, h_p, inx, inp, nxp, nfx, nfp⟩ fx.2.2.2.2.2.1) (fun _ h => h.elim) dX1_send_2 (fun rv9 H locs hQ hz9 hk9 hS => ?_)
  obtain ⟨rfl, rfl⟩ := hQ
  refine W.eq (g2 := F0 m 5 ls [.ref (la.1 3 k)]) rfl ?_
  refine lv_astore_n (lv' := [(3, .ref (la.1 3 k)), (0, .ref ax), (1, .int (nI k)), (2, .int (nI i))]) hx hb dX1_send_5 rfl hl (by decide) rfl (fun ls hl => ?_)
  refine lv_aload_n hx hb dX1_send_6 rfl (lv_at hl 1 rfl) ?_
  refine lv_iload_n hx hb dX1_send_7 rfl (lv_at hl 3 rfl) ?_
  refine kV fx (m_X_fieldAt l g ax ap la sc sw ar fd tr ld n xi sm pd hn i hi) (lw_V q775 q777 qs23 q50 q778) hdX1_fieldAt ⟨(Nat.le_of_ble_eq_true rfl), (Nat.le_of_ble_eq_true rfl)⟩ ⟨(Nat.le_of_ble_eq_true rfl), (Nat.le_of_ble_eq_true rfl)⟩ hl.1 hS tfX1.2.1 h_x rfl (Nat.le_of_ble_eq_true rfl) (xw.weaken ⟨hw, h_x, h_p, inx, inp, nxp, nfx, nfp⟩ fx.2.2.2.2.2.1) (fun _ h => h.elim) dX1_send_8 (fun rv9 H locs hQ hz9 hk9 hS => ?_)
  obtain ⟨rfl, rfl⟩ := hQ
  refine W.eq (g2 := F0 m 11 ls [.ref (la.1 2 i)]) rfl ?_
  refine lv_astore (lv' := [(4, .ref (la.1 2 i)), (3, .ref (la.1 3 k)), (0, .ref ax), (1, .int (nI k)), (2, .int (nI i))]) hx hb dX1_send_11 hl (by decide) rfl (fun ls hl => ?_)
  refine lv_aload_n hx hb dX1_send_13 rfl (lv_at hl 1 rfl) ?_
  refine mgetN fx tfX7 (cw.t hw hk) 0 (by decide) q480 (fun _ h => h) (v := .int (tr k 0)) rfl dX1_send_14 ?_
  refine lv_if_ne (tgt := 24) hx hb dX1_send_17 (by decide) (fun h9 => absurd hc h9) (fun _ => ?_)
  refine lv_iconst (v := 1) hx hb dX1_send_20 (by decide) ?_
  refine lv_goto (tgt := 25) hx hb dX1_send_21 (by decide) ?_
  refine kS fx (m_requireState l g 1 (by decide)) (lw_S q741 q742 q50 q743) hdX1_requireState ⟨(Nat.le_of_ble_eq_true rfl), (Nat.le_of_ble_eq_true rfl)⟩ ⟨(Nat.le_of_ble_eq_true rfl), (Nat.le_of_ble_eq_true rfl)⟩ hl.1 hS rfl (Nat.le_of_ble_eq_true rfl) trivial (fun _ h => h.elim) dX1_send_25 (fun rv9 H locs hQ hz9 hk9 hS => ?_)
  obtain ⟨rfl, rfl⟩ := hQ
  refine W.eq (g2 := F0 m 28 ls []) rfl ?_
  refine lv_aload_n hx hb dX1_send_28 rfl (lv_at hl 1 rfl) ?_
  refine lv_iconst (v := 1) hx hb dX1_send_29 (by decide) ?_
  refine mputN fx tfX7 (cw.t hw hk) hS (cw.inT hw hk) 0 (by decide) q480 (fun _ h => h) rfl rfl rfl (Nat.le_of_ble_eq_true rfl) dX1_send_30 (fun H locs hat hz hoq hS => ?_)
  replace h_x := h_x.kept (hoq _ (Ne.symm (nfx _ ⟨3, k, hk, rfl⟩)))
  replace h_p := h_p.kept (hoq _ (Ne.symm (nfp _ ⟨3, k, hk, rfl⟩)))
  replace hw : cw g (fA (xF ax ap la n) sz) la (sc, sw, ar, fd, va_up tr k (ob4 1 (tr k 1) (tr k 2) (tr k 3)), ld, n) H := cw.setTc hw hk hat (fun q _ h9 => hoq q h9)
  refine lv_aload_n hx hb dX1_send_33 rfl (lv_at hl 1 rfl) ?_
  refine lv_iload_n hx hb dX1_send_34 rfl (lv_at hl 4 rfl) ?_
  refine mputN fx tfX7 (cw.tS hw hk) hS (cw.inT hw hk) 1 (by decide) q483 (fun _ h => h) rfl rfl rfl (Nat.le_of_ble_eq_true rfl) dX1_send_35 (fun H locs hat hz hoq hS => ?_)
  replace h_x := h_x.kept (hoq _ (Ne.symm (nfx _ ⟨3, k, hk, rfl⟩)))
  replace h_p := h_p.kept (hoq _ (Ne.symm (nfp _ ⟨3, k, hk, rfl⟩)))
  replace hw : cw g (fA (xF ax ap la n) sz) la (sc, sw, ar, fd, va_up tr k (ob4 1 (nI i) (tr k 2) (tr k 3)), ld, n) H := cw.setT2c hw hk hat (fun q _ h9 => hoq q h9)
  refine lv_aload_n hx hb dX1_send_38 rfl (lv_at hl 1 rfl) ?_
  refine lv_aload hx hb dX1_send_39 (lv_at hl 0 rfl) ?_
  refine mgetN fx tfX5 (cw.f hw hi) 2 (by decide) q314 (fun _ h => h) (v := .int (fd i 2)) rfl dX1_send_41 ?_
  refine mputN fx tfX7 (cw.tS hw hk) hS (cw.inT hw hk) 3 (by decide) q489 (fun _ h => h) rfl rfl rfl (Nat.le_of_ble_eq_true rfl) dX1_send_44 (fun H locs hat hz hoq hS => ?_)
  replace h_x := h_x.kept (hoq _ (Ne.symm (nfx _ ⟨3, k, hk, rfl⟩)))
  replace h_p := h_p.kept (hoq _ (Ne.symm (nfp _ ⟨3, k, hk, rfl⟩)))
  replace hw : cw g (fA (xF ax ap la n) sz) la (sc, sw, ar, fd, va_up tr k (ob4 1 (nI i) (tr k 2) (fd i 2)), ld, n) H := cw.setT2c hw hk hat (fun q _ h9 => hoq q h9)
  refine lv_aload hx hb dX1_send_47 (lv_at hl 0 rfl) ?_
  refine mgetN fx tfX5 (cw.f hw hi) 2 (by decide) q314 (fun _ h => h) (v := .int (fd i 2)) rfl dX1_send_49 ?_
  exact ri hx hb hr hlocks hS (⟨rfl, hw, h_x, h_p, inx, inp, nxp, nfx, nfp⟩) ⟨(Nat.le_of_ble_eq_true rfl), (Nat.le_of_ble_eq_true rfl)⟩ dX1_send_52

set_option maxHeartbeats 4000000 in
theorem t_X_send1 (l : Launch) (hst : l.stackTraces = false) (g : GT) (ax ap : Nat) (la : LT) (sc : Nat → Int32) (sw : Int64) (ar fd tr ld : Nat → Nat → Int32) (n : CN) (xi : Nat → Int32) (sm : Int64) (pd : Nat → Int32) (z y : Int32) (hok : z < 0 ∨ ¬ z < nI (n 1)) : Tn l g yX1_send cX1_send 5 ((some .int)) 8 [.ref ax, .int z, .int y] "java/lang/IndexOutOfBoundsException" (fun H => xw g (bA g) ax ap la (sc, sw, ar, fd, tr, ld, n) xi sm pd H) := by
  refine Tn.start (by decide +kernel) (Nat.le_of_ble_eq_true rfl) ?_
  intro p ev s m below meth c ls H locs hH hx hb hts hown hlocks hml hex hK hP hS hl
  have hxw := hP
  obtain ⟨hw, h_x, h_p, inx, inp, nxp, nfx, nfp⟩ := hxw
  have fx : Fx p s m ([.ref ax, .int z, .int y] : List Value).toArray c cX1_send RX1 g (fun _ => False) 5 := ⟨hx, hb, hts, hown, hK, fun _ h => h.elim, hml⟩
  have hl : lv_has ls 5 [(0, .ref ax), (1, .int z), (2, .int y)] := hl
  refine lv_aload_n hx hb dX1_send_0 rfl (lv_at hl 0 rfl) ?_
  refine lv_iload_n hx hb dX1_send_1 rfl (lv_at hl 1 rfl) ?_
  exact tV fx (t_X_truckAt l hst g ax ap la sc sw ar fd tr ld n xi sm pd z hok) (lw_V q812 q814 qs24 q50 q815) hdX1_truckAt ⟨(Nat.le_of_ble_eq_true rfl), (Nat.le_of_ble_eq_true rfl)⟩ ⟨(Nat.le_of_ble_eq_true rfl), (Nat.le_of_ble_eq_true rfl)⟩ hl.1 hS tfX1.2.1 h_x rfl (Nat.le_of_ble_eq_true rfl) (⟨hw, h_x, h_p, inx, inp, nxp, nfx, nfp⟩) dX1_send_2 hex hlocks (Nat.le_of_ble_eq_true rfl) (Nat.le_of_ble_eq_true rfl)

set_option maxHeartbeats 4000000 in
theorem t_X_send2 (l : Launch) (hst : l.stackTraces = false) (g : GT) (ax ap : Nat) (la : LT) (sc : Nat → Int32) (sw : Int64) (ar fd tr ld : Nat → Nat → Int32) (n : CN) (xi : Nat → Int32) (sm : Int64) (pd : Nat → Int32) (hn : cN n) (k : Nat) (z : Int32) (hk : k < n 1) (hok : z < 0 ∨ ¬ z < nI (n 0)) : Tn l g yX1_send cX1_send 5 ((some .int)) 8 [.ref ax, .int (nI k), .int z] "java/lang/IndexOutOfBoundsException" (fun H => xw g (bA g) ax ap la (sc, sw, ar, fd, tr, ld, n) xi sm pd H) := by
  refine Tn.start (by decide +kernel) (Nat.le_of_ble_eq_true rfl) ?_
  intro p ev s m below meth c ls H locs hH hx hb hts hown hlocks hml hex hK hP hS hl
  have hxw := hP
  obtain ⟨hw, h_x, h_p, inx, inp, nxp, nfx, nfp⟩ := hxw
  have fx : Fx p s m ([.ref ax, .int (nI k), .int z] : List Value).toArray c cX1_send RX1 g (fun _ => False) 5 := ⟨hx, hb, hts, hown, hK, fun _ h => h.elim, hml⟩
  have hl : lv_has ls 5 [(0, .ref ax), (1, .int (nI k)), (2, .int z)] := hl
  refine lv_aload_n hx hb dX1_send_0 rfl (lv_at hl 0 rfl) ?_
  refine lv_iload_n hx hb dX1_send_1 rfl (lv_at hl 1 rfl) ?_
  refine kV fx (m_X_truckAt l g ax ap la sc sw ar fd tr ld n xi sm pd hn k hk) (lw_V q812 q814 qs24 q50 q815) hdX1_truckAt ⟨(Nat.le_of_ble_eq_true rfl), (Nat.le_of_ble_eq_true rfl)⟩ ⟨(Nat.le_of_ble_eq_true rfl), (Nat.le_of_ble_eq_true rfl)⟩ hl.1 hS tfX1.2.1 h_x rfl (Nat.le_of_ble_eq_true rfl) (⟨hw, h_x, h_p, inx, inp, nxp, nfx, nfp⟩) (fun _ h => h.elim) dX1_send_2 (fun rv9 H locs hQ hz9 hk9 hS => ?_)
  obtain ⟨rfl, rfl⟩ := hQ
  refine W.eq (g2 := F0 m 5 ls [.ref (la.1 3 k)]) rfl ?_
  refine lv_astore_n (lv' := [(3, .ref (la.1 3 k)), (0, .ref ax), (1, .int (nI k)), (2, .int z)]) hx hb dX1_send_5 rfl hl (by decide) rfl (fun ls hl => ?_)
  refine lv_aload_n hx hb dX1_send_6 rfl (lv_at hl 1 rfl) ?_
  refine lv_iload_n hx hb dX1_send_7 rfl (lv_at hl 3 rfl) ?_
  exact tV fx (t_X_fieldAt l hst g ax ap la sc sw ar fd tr ld n xi sm pd z hok) (lw_V q775 q777 qs23 q50 q778) hdX1_fieldAt ⟨(Nat.le_of_ble_eq_true rfl), (Nat.le_of_ble_eq_true rfl)⟩ ⟨(Nat.le_of_ble_eq_true rfl), (Nat.le_of_ble_eq_true rfl)⟩ hl.1 hS tfX1.2.1 h_x rfl (Nat.le_of_ble_eq_true rfl) (⟨hw, h_x, h_p, inx, inp, nxp, nfx, nfp⟩) dX1_send_8 hex hlocks (Nat.le_of_ble_eq_true rfl) (Nat.le_of_ble_eq_true rfl)

set_option maxHeartbeats 4000000 in
theorem t_X_send3 (l : Launch) (hst : l.stackTraces = false) (g : GT) (ax ap : Nat) (la : LT) (sc : Nat → Int32) (sw : Int64) (ar fd tr ld : Nat → Nat → Int32) (n : CN) (xi : Nat → Int32) (sm : Int64) (pd : Nat → Int32) (hn : cN n) (k i : Nat) (hk : k < n 1) (hi : i < n 0) (hc : ¬ tr k 0 = 0) : Tn l g yX1_send cX1_send 5 ((some .int)) 8 [.ref ax, .int (nI k), .int (nI i)] "java/lang/IllegalStateException" (fun H => xw g (bA g) ax ap la (sc, sw, ar, fd, tr, ld, n) xi sm pd H) := by
  refine Tn.start (by decide +kernel) (Nat.le_of_ble_eq_true rfl) ?_
  intro p ev s m below meth c ls H locs hH hx hb hts hown hlocks hml hex hK hP hS hl
  have hxw := hP
  obtain ⟨hw, h_x, h_p, inx, inp, nxp, nfx, nfp⟩ := hxw
  have fx : Fx p s m ([.ref ax, .int (nI k), .int (nI i)] : List Value).toArray c cX1_send RX1 g (fun _ => False) 5 := ⟨hx, hb, hts, hown, hK, fun _ h => h.elim, hml⟩
  have hl : lv_has ls 5 [(0, .ref ax), (1, .int (nI k)), (2, .int (nI i))] := hl
  refine lv_aload_n hx hb dX1_send_0 rfl (lv_at hl 0 rfl) ?_
  refine lv_iload_n hx hb dX1_send_1 rfl (lv_at hl 1 rfl) ?_
  refine kV fx (m_X_truckAt l g ax ap la sc sw ar fd tr ld n xi sm pd hn k hk) (lw_V q812 q814 qs24 q50 q815) hdX1_truckAt ⟨(Nat.le_of_ble_eq_true rfl), (Nat.le_of_ble_eq_true rfl)⟩ ⟨(Nat.le_of_ble_eq_true rfl), (Nat.le_of_ble_eq_true rfl)⟩ hl.1 hS tfX1.2.1 h_x rfl (Nat.le_of_ble_eq_true rfl) (⟨hw, h_x, h_p, inx, inp, nxp, nfx, nfp⟩) (fun _ h => h.elim) dX1_send_2 (fun rv9 H locs hQ hz9 hk9 hS => ?_)
  obtain ⟨rfl, rfl⟩ := hQ
  refine W.eq (g2 := F0 m 5 ls [.ref (la.1 3 k)]) rfl ?_
  refine lv_astore_n (lv' := [(3, .ref (la.1 3 k)), (0, .ref ax), (1, .int (nI k)), (2, .int (nI i))]) hx hb dX1_send_5 rfl hl (by decide) rfl (fun ls hl => ?_)
  refine lv_aload_n hx hb dX1_send_6 rfl (lv_at hl 1 rfl) ?_
  refine lv_iload_n hx hb dX1_send_7 rfl (lv_at hl 3 rfl) ?_
  refine kV fx (m_X_fieldAt l g ax ap la sc sw ar fd tr ld n xi sm pd hn i hi) (lw_V q775 q777 qs23 q50 q778) hdX1_fieldAt ⟨(Nat.le_of_ble_eq_true rfl), (Nat.le_of_ble_eq_true rfl)⟩ ⟨(Nat.le_of_ble_eq_true rfl), (Nat.le_of_ble_eq_true rfl)⟩ hl.1 hS tfX1.2.1 h_x rfl (Nat.le_of_ble_eq_true rfl) (⟨hw, h_x, h_p, inx, inp, nxp, nfx, nfp⟩) (fun _ h => h.elim) dX1_send_8 (fun rv9 H locs hQ hz9 hk9 hS => ?_)
  obtain ⟨rfl, rfl⟩ := hQ
  refine W.eq (g2 := F0 m 11 ls [.ref (la.1 2 i)]) rfl ?_
  refine lv_astore (lv' := [(4, .ref (la.1 2 i)), (3, .ref (la.1 3 k)), (0, .ref ax), (1, .int (nI k)), (2, .int (nI i))]) hx hb dX1_send_11 hl (by decide) rfl (fun ls hl => ?_)
  refine lv_aload_n hx hb dX1_send_13 rfl (lv_at hl 1 rfl) ?_
  refine mgetN fx tfX7 (cw.t hw hk) 0 (by decide) q480 (fun _ h => h) (v := .int (tr k 0)) rfl dX1_send_14 ?_
  refine lv_if_ne (tgt := 24) hx hb dX1_send_17 (by decide) (fun _ => ?_) (fun h9 => absurd h9 hc)
  refine lv_iconst (v := 0) hx hb dX1_send_24 (by decide) ?_
  exact tS fx (t_requireState l hst g 0 rfl) (lw_S q741 q742 q50 q743) hdX1_requireState ⟨(Nat.le_of_ble_eq_true rfl), (Nat.le_of_ble_eq_true rfl)⟩ ⟨(Nat.le_of_ble_eq_true rfl), (Nat.le_of_ble_eq_true rfl)⟩ hl.1 hS rfl (Nat.le_of_ble_eq_true rfl) trivial dX1_send_25 hex hlocks (Nat.le_of_ble_eq_true rfl) (Nat.le_of_ble_eq_true rfl)

set_option maxHeartbeats 4000000 in
theorem m_X_recall (l : Launch) (g : GT) (sz ax ap : Nat) (la : LT) (sc : Nat → Int32) (sw : Int64) (ar fd tr ld : Nat → Nat → Int32) (n : CN) (xi : Nat → Int32) (sm : Int64) (pd : Nat → Int32) (hn : cN n) (k : Nat) (hk : k < n 1) (hc : tr k 0 = 1) : Cn l g yX1_recall cX1_recall 4 ((some .int)) 4 0 0 [.ref ax, .int (nI k)] (fA (xF ax ap la n) sz) (fun H => sz = H.size ∧ xw g (bA g) ax ap la (sc, sw, ar, fd, tr, ld, n) xi sm pd H) (fun Hp rv Hq => rv = some (.int (tr k 1)) ∧ xw g (fA (xF ax ap la n) sz) ax ap la (sc, sw, ar, fd, va_up tr k (ob4 0 (-1) (-1) 0), ld, n) xi sm pd Hq) := by
  refine Cn.start (plainFor_of_name (by decide +kernel)) (Nat.le_of_ble_eq_true rfl) ?_
  intro p ev s m below meth c ls H locs hH hx hb hr hts hown hlocks hml hnm hK hP hS hl
  obtain ⟨hsz, hxw⟩ := hP
  have hszs : sz = s.heap.size := by rw [hsz, hH]
  have hAs : ∀ q, s.heap.size ≤ q → (fA (xF ax ap la n) sz) q := fun q h => Or.inr (by rw [hszs]; exact h)
  have hAb : ∀ q, (fA (xF ax ap la n) sz) q → bA g q := fun q h => h.elim (hxw.ft q) (fun h => Nat.le_trans hK.2.2.sz (by rw [← hszs]; exact h))
  obtain ⟨hw, h_x, h_p, inx, inp, nxp, nfx, nfp⟩ := hxw.self sz
  have fx : Fx p s m ([.ref ax, .int (nI k)] : List Value).toArray c cX1_recall RX1 g (fA (xF ax ap la n) sz) 4 := ⟨hx, hb, hts, hown, hK, hAb, hml⟩
  have hl : lv_has ls 4 [(0, .ref ax), (1, .int (nI k))] := hl
  refine lv_aload_n hx hb dX1_recall_0 rfl (lv_at hl 0 rfl) ?_
  refine lv_iload_n hx hb dX1_recall_1 rfl (lv_at hl 1 rfl) ?_
  refine kV fx (m_X_truckAt l g ax ap la sc sw ar fd tr ld n xi sm pd hn k hk) (lw_V q812 q814 qs24 q50 q815) hdX1_truckAt ⟨(Nat.le_of_ble_eq_true rfl), (Nat.le_of_ble_eq_true rfl)⟩ ⟨(Nat.le_of_ble_eq_true rfl), (Nat.le_of_ble_eq_true rfl)⟩ hl.1 hS tfX1.2.1 h_x rfl (Nat.le_of_ble_eq_true rfl) (xw.weaken ⟨hw, h_x, h_p, inx, inp, nxp, nfx, nfp⟩ fx.2.2.2.2.2.1) (fun _ h => h.elim) dX1_recall_2 (fun rv9 H locs hQ hz9 hk9 hS => ?_)
  obtain ⟨rfl, rfl⟩ := hQ
  refine W.eq (g2 := F0 m 5 ls [.ref (la.1 3 k)]) rfl ?_
  refine lv_astore_n (lv' := [(2, .ref (la.1 3 k)), (0, .ref ax), (1, .int (nI k))]) hx hb dX1_recall_5 rfl hl (by decide) rfl (fun ls hl => ?_)
  refine lv_aload_n hx hb dX1_recall_6 rfl (lv_at hl 0 rfl) ?_
  refine mgetN fx tfX7 (cw.t hw hk) 0 (by decide) q480 (fun _ h => h) (v := .int (tr k 0)) rfl dX1_recall_7 ?_
  refine lv_iconst (v := 1) hx hb dX1_recall_10 (by decide) ?_
  refine lv_icmp_ne (tgt := 18) hx hb dX1_recall_11 (by decide) (fun h9 => absurd hc h9) (fun _ => ?_)
  refine lv_iconst (v := 1) hx hb dX1_recall_14 (by decide) ?_
  refine lv_goto (tgt := 19) hx hb dX1_recall_15 (by decide) ?_
  refine kS fx (m_requireState l g 1 (by decide)) (lw_S q741 q742 q50 q743) hdX1_requireState ⟨(Nat.le_of_ble_eq_true rfl), (Nat.le_of_ble_eq_true rfl)⟩ ⟨(Nat.le_of_ble_eq_true rfl), (Nat.le_of_ble_eq_true rfl)⟩ hl.1 hS rfl (Nat.le_of_ble_eq_true rfl) trivial (fun _ h => h.elim) dX1_recall_19 (fun rv9 H locs hQ hz9 hk9 hS => ?_)
  obtain ⟨rfl, rfl⟩ := hQ
  refine W.eq (g2 := F0 m 22 ls []) rfl ?_
  refine lv_aload_n hx hb dX1_recall_22 rfl (lv_at hl 0 rfl) ?_
  refine mgetN fx tfX7 (cw.t hw hk) 1 (by decide) q483 (fun _ h => h) (v := .int (tr k 1)) rfl dX1_recall_23 ?_
  refine lv_istore_n (lv' := [(3, .int (tr k 1)), (2, .ref (la.1 3 k)), (0, .ref ax), (1, .int (nI k))]) hx hb dX1_recall_26 rfl hl (by decide) rfl (fun ls hl => ?_)
  refine lv_aload_n hx hb dX1_recall_27 rfl (lv_at hl 1 rfl) ?_
  refine kV fx (m_T_stand l g (la.1 3 k) (tr k 0) (tr k 1) (tr k 2) (tr k 3)  (fx.2.2.2.2.2.1 _ (cw.inT hw hk)) ) (lw_V q823 q561 q562 q71 q563) hdX7_stand ⟨(Nat.le_of_ble_eq_true rfl), (Nat.le_of_ble_eq_true rfl)⟩ ⟨(Nat.le_of_ble_eq_true rfl), (Nat.le_of_ble_eq_true rfl)⟩ hl.1 hS tfX7.2.1 (cw.t hw hk) rfl (Nat.le_of_ble_eq_true rfl) (cw.t hw hk) (fun q h => by cases h; exact (cw.inT hw hk)) dX1_recall_28 (fun rv9 H locs hQ hz9 hk9 hS => ?_)
  obtain ⟨rfl, hat⟩ := hQ
  replace h_x := h_x.kept (hk9 _ h_x.lt (Ne.symm (nfx _ ⟨3, k, hk, rfl⟩)))
  replace h_p := h_p.kept (hk9 _ h_p.lt (Ne.symm (nfp _ ⟨3, k, hk, rfl⟩)))
  replace hw : cw g (fA (xF ax ap la n) sz) la (sc, sw, ar, fd, va_up tr k (ob4 0 (-1) (-1) 0), ld, n) H := cw.setTc hw hk hat (fun q h9 h8 => hk9 q h9 h8)
  refine W.eq (g2 := F0 m 31 ls []) rfl ?_
  refine lv_iload_n hx hb dX1_recall_31 rfl (lv_at hl 0 rfl) ?_
  exact ri hx hb hr hlocks hS (⟨rfl, hw, h_x, h_p, inx, inp, nxp, nfx, nfp⟩) ⟨(Nat.le_of_ble_eq_true rfl), (Nat.le_of_ble_eq_true rfl)⟩ dX1_recall_32

set_option maxHeartbeats 4000000 in
theorem t_X_recall1 (l : Launch) (hst : l.stackTraces = false) (g : GT) (ax ap : Nat) (la : LT) (sc : Nat → Int32) (sw : Int64) (ar fd tr ld : Nat → Nat → Int32) (n : CN) (xi : Nat → Int32) (sm : Int64) (pd : Nat → Int32) (z : Int32) (hok : z < 0 ∨ ¬ z < nI (n 1)) : Tn l g yX1_recall cX1_recall 4 ((some .int)) 8 [.ref ax, .int z] "java/lang/IndexOutOfBoundsException" (fun H => xw g (bA g) ax ap la (sc, sw, ar, fd, tr, ld, n) xi sm pd H) := by
  refine Tn.start (by decide +kernel) (Nat.le_of_ble_eq_true rfl) ?_
  intro p ev s m below meth c ls H locs hH hx hb hts hown hlocks hml hex hK hP hS hl
  have hxw := hP
  obtain ⟨hw, h_x, h_p, inx, inp, nxp, nfx, nfp⟩ := hxw
  have fx : Fx p s m ([.ref ax, .int z] : List Value).toArray c cX1_recall RX1 g (fun _ => False) 4 := ⟨hx, hb, hts, hown, hK, fun _ h => h.elim, hml⟩
  have hl : lv_has ls 4 [(0, .ref ax), (1, .int z)] := hl
  refine lv_aload_n hx hb dX1_recall_0 rfl (lv_at hl 0 rfl) ?_
  refine lv_iload_n hx hb dX1_recall_1 rfl (lv_at hl 1 rfl) ?_
  exact tV fx (t_X_truckAt l hst g ax ap la sc sw ar fd tr ld n xi sm pd z hok) (lw_V q812 q814 qs24 q50 q815) hdX1_truckAt ⟨(Nat.le_of_ble_eq_true rfl), (Nat.le_of_ble_eq_true rfl)⟩ ⟨(Nat.le_of_ble_eq_true rfl), (Nat.le_of_ble_eq_true rfl)⟩ hl.1 hS tfX1.2.1 h_x rfl (Nat.le_of_ble_eq_true rfl) (⟨hw, h_x, h_p, inx, inp, nxp, nfx, nfp⟩) dX1_recall_2 hex hlocks (Nat.le_of_ble_eq_true rfl) (Nat.le_of_ble_eq_true rfl)

set_option maxHeartbeats 4000000 in
theorem t_X_recall2 (l : Launch) (hst : l.stackTraces = false) (g : GT) (ax ap : Nat) (la : LT) (sc : Nat → Int32) (sw : Int64) (ar fd tr ld : Nat → Nat → Int32) (n : CN) (xi : Nat → Int32) (sm : Int64) (pd : Nat → Int32) (hn : cN n) (k : Nat) (hk : k < n 1) (hc : ¬ tr k 0 = 1) : Tn l g yX1_recall cX1_recall 4 ((some .int)) 8 [.ref ax, .int (nI k)] "java/lang/IllegalStateException" (fun H => xw g (bA g) ax ap la (sc, sw, ar, fd, tr, ld, n) xi sm pd H) := by
  refine Tn.start (by decide +kernel) (Nat.le_of_ble_eq_true rfl) ?_
  intro p ev s m below meth c ls H locs hH hx hb hts hown hlocks hml hex hK hP hS hl
  have hxw := hP
  obtain ⟨hw, h_x, h_p, inx, inp, nxp, nfx, nfp⟩ := hxw
  have fx : Fx p s m ([.ref ax, .int (nI k)] : List Value).toArray c cX1_recall RX1 g (fun _ => False) 4 := ⟨hx, hb, hts, hown, hK, fun _ h => h.elim, hml⟩
  have hl : lv_has ls 4 [(0, .ref ax), (1, .int (nI k))] := hl
  refine lv_aload_n hx hb dX1_recall_0 rfl (lv_at hl 0 rfl) ?_
  refine lv_iload_n hx hb dX1_recall_1 rfl (lv_at hl 1 rfl) ?_
  refine kV fx (m_X_truckAt l g ax ap la sc sw ar fd tr ld n xi sm pd hn k hk) (lw_V q812 q814 qs24 q50 q815) hdX1_truckAt ⟨(Nat.le_of_ble_eq_true rfl), (Nat.le_of_ble_eq_true rfl)⟩ ⟨(Nat.le_of_ble_eq_true rfl), (Nat.le_of_ble_eq_true rfl)⟩ hl.1 hS tfX1.2.1 h_x rfl (Nat.le_of_ble_eq_true rfl) (⟨hw, h_x, h_p, inx, inp, nxp, nfx, nfp⟩) (fun _ h => h.elim) dX1_recall_2 (fun rv9 H locs hQ hz9 hk9 hS => ?_)
  obtain ⟨rfl, rfl⟩ := hQ
  refine W.eq (g2 := F0 m 5 ls [.ref (la.1 3 k)]) rfl ?_
  refine lv_astore_n (lv' := [(2, .ref (la.1 3 k)), (0, .ref ax), (1, .int (nI k))]) hx hb dX1_recall_5 rfl hl (by decide) rfl (fun ls hl => ?_)
  refine lv_aload_n hx hb dX1_recall_6 rfl (lv_at hl 0 rfl) ?_
  refine mgetN fx tfX7 (cw.t hw hk) 0 (by decide) q480 (fun _ h => h) (v := .int (tr k 0)) rfl dX1_recall_7 ?_
  refine lv_iconst (v := 1) hx hb dX1_recall_10 (by decide) ?_
  refine lv_icmp_ne (tgt := 18) hx hb dX1_recall_11 (by decide) (fun _ => ?_) (fun h9 => absurd h9 hc)
  refine lv_iconst (v := 0) hx hb dX1_recall_18 (by decide) ?_
  exact tS fx (t_requireState l hst g 0 rfl) (lw_S q741 q742 q50 q743) hdX1_requireState ⟨(Nat.le_of_ble_eq_true rfl), (Nat.le_of_ble_eq_true rfl)⟩ ⟨(Nat.le_of_ble_eq_true rfl), (Nat.le_of_ble_eq_true rfl)⟩ hl.1 hS rfl (Nat.le_of_ble_eq_true rfl) trivial dX1_recall_19 hex hlocks (Nat.le_of_ble_eq_true rfl) (Nat.le_of_ble_eq_true rfl)

set_option maxHeartbeats 4000000 in
theorem m_X_start (l : Launch) (g : GT) (sz ax ap : Nat) (la : LT) (sc : Nat → Int32) (sw : Int64) (ar fd tr ld : Nat → Nat → Int32) (n : CN) (xi : Nat → Int32) (sm : Int64) (pd : Nat → Int32) (hc : sc 2 = 0) : Cn l g yX1_start cX1_start 1 ((some .int)) 2 0 0 [.ref ax] (fA (xF ax ap la n) sz) (fun H => sz = H.size ∧ xw g (bA g) ax ap la (sc, sw, ar, fd, tr, ld, n) xi sm pd H) (fun Hp rv Hq => rv = some (.int (lackC (sc 12) 10)) ∧ xw g (fA (xF ax ap la n) sz) ax ap la (cBurn (va_up (va_up (va_up sc 2 1) 3 2) 4 0) 10, sw, ar, fd, tr, ld, n) xi sm pd Hq) := by
  refine Cn.start (plainFor_of_name (by decide +kernel)) (Nat.le_of_ble_eq_true rfl) ?_
  intro p ev s m below meth c ls H locs hH hx hb hr hts hown hlocks hml hnm hK hP hS hl
  obtain ⟨hsz, hxw⟩ := hP
  have hszs : sz = s.heap.size := by rw [hsz, hH]
  have hAs : ∀ q, s.heap.size ≤ q → (fA (xF ax ap la n) sz) q := fun q h => Or.inr (by rw [hszs]; exact h)
  have hAb : ∀ q, (fA (xF ax ap la n) sz) q → bA g q := fun q h => h.elim (hxw.ft q) (fun h => Nat.le_trans hK.2.2.sz (by rw [← hszs]; exact h))
  obtain ⟨hw, h_x, h_p, inx, inp, nxp, nfx, nfp⟩ := hxw.self sz
  have fx : Fx p s m ([.ref ax] : List Value).toArray c cX1_start RX1 g (fA (xF ax ap la n) sz) 1 := ⟨hx, hb, hts, hown, hK, hAb, hml⟩
  have hl : lv_has ls 1 [(0, .ref ax)] := hl
  refine lv_aload_n hx hb dX1_start_0 rfl (lv_at hl 0 rfl) ?_
  refine mget fx tfX1 h_x 0 (by decide) q209 (fun _ h => h) (v := .ref (la.1 0 0)) rfl dX1_start_1 ?_
  refine mgetN fx tfX2 (cw.w hw) 8 (by decide) q136 (fun _ h => h) (v := .int (sc 2)) rfl dX1_start_4 ?_
  refine lv_if_ne (tgt := 14) hx hb dX1_start_7 (by decide) (fun h9 => absurd hc h9) (fun _ => ?_)
  refine lv_iconst (v := 1) hx hb dX1_start_10 (by decide) ?_
  refine lv_goto (tgt := 15) hx hb dX1_start_11 (by decide) ?_
  refine kS fx (m_requireState l g 1 (by decide)) (lw_S q741 q742 q50 q743) hdX1_requireState ⟨(Nat.le_of_ble_eq_true rfl), (Nat.le_of_ble_eq_true rfl)⟩ ⟨(Nat.le_of_ble_eq_true rfl), (Nat.le_of_ble_eq_true rfl)⟩ hl.1 hS rfl (Nat.le_of_ble_eq_true rfl) trivial (fun _ h => h.elim) dX1_start_15 (fun rv9 H locs hQ hz9 hk9 hS => ?_)
  obtain ⟨rfl, rfl⟩ := hQ
  refine W.eq (g2 := F0 m 18 ls []) rfl ?_
  refine lv_aload_n hx hb dX1_start_18 rfl (lv_at hl 0 rfl) ?_
  refine mget fx tfX1 h_x 0 (by decide) q209 (fun _ h => h) (v := .ref (la.1 0 0)) rfl dX1_start_19 ?_
  refine lv_iconst (v := 1) hx hb dX1_start_22 (by decide) ?_
  refine mputN fx tfX2 (cw.w hw) hS (cw.inW hw (by decide)) 8 (by decide) q136 (fun _ h => h) rfl rfl rfl (Nat.le_of_ble_eq_true rfl) dX1_start_23 (fun H locs hat hz hoq hS => ?_)
  replace h_x := h_x.kept (hoq _ (Ne.symm (nfx _ ⟨0, 0, (by show 0 < 7; decide), rfl⟩)))
  replace h_p := h_p.kept (hoq _ (Ne.symm (nfp _ ⟨0, 0, (by show 0 < 7; decide), rfl⟩)))
  replace hw : cw g (fA (xF ax ap la n) sz) la (va_up sc 2 1, sw, ar, fd, tr, ld, n) H := cw.setW hw hat (fun q _ h9 => hoq q h9)
  refine lv_aload_n hx hb dX1_start_26 rfl (lv_at hl 0 rfl) ?_
  refine mget fx tfX1 h_x 0 (by decide) q209 (fun _ h => h) (v := .ref (la.1 0 0)) rfl dX1_start_27 ?_
  refine lv_iconst (v := 2) hx hb dX1_start_30 (by decide) ?_
  refine mputN fx tfX2 (cw.w hw) hS (cw.inW hw (by decide)) 9 (by decide) q138 (fun _ h => h) rfl rfl rfl (Nat.le_of_ble_eq_true rfl) dX1_start_31 (fun H locs hat hz hoq hS => ?_)
  replace h_x := h_x.kept (hoq _ (Ne.symm (nfx _ ⟨0, 0, (by show 0 < 7; decide), rfl⟩)))
  replace h_p := h_p.kept (hoq _ (Ne.symm (nfp _ ⟨0, 0, (by show 0 < 7; decide), rfl⟩)))
  replace hw : cw g (fA (xF ax ap la n) sz) la (va_up (va_up sc 2 1) 3 2, sw, ar, fd, tr, ld, n) H := cw.setW hw hat (fun q _ h9 => hoq q h9)
  refine lv_aload_n hx hb dX1_start_34 rfl (lv_at hl 0 rfl) ?_
  refine mget fx tfX1 h_x 0 (by decide) q209 (fun _ h => h) (v := .ref (la.1 0 0)) rfl dX1_start_35 ?_
  refine lv_iconst (v := 0) hx hb dX1_start_38 (by decide) ?_
  refine mputN fx tfX2 (cw.w hw) hS (cw.inW hw (by decide)) 10 (by decide) q140 (fun _ h => h) rfl rfl rfl (Nat.le_of_ble_eq_true rfl) dX1_start_39 (fun H locs hat hz hoq hS => ?_)
  replace h_x := h_x.kept (hoq _ (Ne.symm (nfx _ ⟨0, 0, (by show 0 < 7; decide), rfl⟩)))
  replace h_p := h_p.kept (hoq _ (Ne.symm (nfp _ ⟨0, 0, (by show 0 < 7; decide), rfl⟩)))
  replace hw : cw g (fA (xF ax ap la n) sz) la (va_up (va_up (va_up sc 2 1) 3 2) 4 0, sw, ar, fd, tr, ld, n) H := cw.setW hw hat (fun q _ h9 => hoq q h9)
  refine lv_aload_n hx hb dX1_start_42 rfl (lv_at hl 0 rfl) ?_
  refine mget fx tfX1 h_x 0 (by decide) q209 (fun _ h => h) (v := .ref (la.1 0 0)) rfl dX1_start_43 ?_
  refine lv_bipush (v := 10) hx hb dX1_start_46 (by decide) ?_
  have hbk := cw.back hw (fun q h9 => hAs q (Nat.le_trans hS.1 h9))
  refine kV fx (m_W_burn l g _ la (va_up (va_up (va_up sc 2 1) 3 2) 4 0) sw ar fd tr ld n 10) (lw_V q831 q594 q595 q51 q596) hdX2_burn ⟨(Nat.le_of_ble_eq_true rfl), (Nat.le_of_ble_eq_true rfl)⟩ ⟨(Nat.le_of_ble_eq_true rfl), (Nat.le_of_ble_eq_true rfl)⟩ hl.1 hS tfX2.2.1 (cw.w hw) rfl (Nat.le_of_ble_eq_true rfl) (⟨rfl, cw.weaken hw fx.2.2.2.2.2.1⟩) (fun q h9 => hbk q h9) dX1_start_48 (fun rv9 H locs hQ hz9 hk9 hS => ?_)
  obtain ⟨rfl, hw9⟩ := hQ
  replace h_x := h_x.kept (hk9 _ h_x.lt (fun h9 => h9.elim (fun h8 => nfx _ h8 rfl) (Nat.not_le.mpr h_x.lt)))
  replace h_p := h_p.kept (hk9 _ h_p.lt (fun h9 => h9.elim (fun h8 => nfp _ h8 rfl) (Nat.not_le.mpr h_p.lt)))
  replace hw : cw g (fA (xF ax ap la n) sz) la (cBurn (va_up (va_up (va_up sc 2 1) 3 2) 4 0) 10, sw, ar, fd, tr, ld, n) H := cw.weaken hw9 hbk
  refine W.eq (g2 := F0 m 51 ls [.int (lackC (sc 12) 10)]) rfl ?_
  exact ri hx hb hr hlocks hS (⟨rfl, hw, h_x, h_p, inx, inp, nxp, nfx, nfp⟩) ⟨(Nat.le_of_ble_eq_true rfl), (Nat.le_of_ble_eq_true rfl)⟩ dX1_start_51

set_option maxHeartbeats 4000000 in
theorem t_X_start1 (l : Launch) (hst : l.stackTraces = false) (g : GT) (ax ap : Nat) (la : LT) (sc : Nat → Int32) (sw : Int64) (ar fd tr ld : Nat → Nat → Int32) (n : CN) (xi : Nat → Int32) (sm : Int64) (pd : Nat → Int32) (hc : ¬ sc 2 = 0) : Tn l g yX1_start cX1_start 1 ((some .int)) 8 [.ref ax] "java/lang/IllegalStateException" (fun H => xw g (bA g) ax ap la (sc, sw, ar, fd, tr, ld, n) xi sm pd H) := by
  refine Tn.start (by decide +kernel) (Nat.le_of_ble_eq_true rfl) ?_
  intro p ev s m below meth c ls H locs hH hx hb hts hown hlocks hml hex hK hP hS hl
  have hxw := hP
  obtain ⟨hw, h_x, h_p, inx, inp, nxp, nfx, nfp⟩ := hxw
  have fx : Fx p s m ([.ref ax] : List Value).toArray c cX1_start RX1 g (fun _ => False) 1 := ⟨hx, hb, hts, hown, hK, fun _ h => h.elim, hml⟩
  have hl : lv_has ls 1 [(0, .ref ax)] := hl
  refine lv_aload_n hx hb dX1_start_0 rfl (lv_at hl 0 rfl) ?_
  refine mget fx tfX1 h_x 0 (by decide) q209 (fun _ h => h) (v := .ref (la.1 0 0)) rfl dX1_start_1 ?_
  refine mgetN fx tfX2 (cw.w hw) 8 (by decide) q136 (fun _ h => h) (v := .int (sc 2)) rfl dX1_start_4 ?_
  refine lv_if_ne (tgt := 14) hx hb dX1_start_7 (by decide) (fun _ => ?_) (fun h9 => absurd h9 hc)
  refine lv_iconst (v := 0) hx hb dX1_start_14 (by decide) ?_
  exact tS fx (t_requireState l hst g 0 rfl) (lw_S q741 q742 q50 q743) hdX1_requireState ⟨(Nat.le_of_ble_eq_true rfl), (Nat.le_of_ble_eq_true rfl)⟩ ⟨(Nat.le_of_ble_eq_true rfl), (Nat.le_of_ble_eq_true rfl)⟩ hl.1 hS rfl (Nat.le_of_ble_eq_true rfl) trivial dX1_start_15 hex hlocks (Nat.le_of_ble_eq_true rfl) (Nat.le_of_ble_eq_true rfl)

set_option maxHeartbeats 4000000 in
theorem m_X_distil (l : Launch) (g : GT) (sz ax ap : Nat) (la : LT) (sc : Nat → Int32) (sw : Int64) (ar fd tr ld : Nat → Nat → Int32) (n : CN) (xi : Nat → Int32) (sm : Int64) (pd : Nat → Int32) (hc : ¬ xi 2 / 50 ≤ 0) : Cn l g yX1_distil cX1_distil 2 ((some .int)) 2 0 0 [.ref ax] (fA (xF ax ap la n) sz) (fun H => sz = H.size ∧ xw g (bA g) ax ap la (sc, sw, ar, fd, tr, ld, n) xi sm pd H) (fun Hp rv Hq => rv = some (.int (xi 4 + 12 * (xi 2 / 50))) ∧ xw g (fA (xF ax ap la n) sz) ax ap la (sc, sw, ar, fd, tr, ld, n) (va_up (va_up (va_up xi 2 (xi 2 - 50 * (xi 2 / 50))) 4 (xi 4 + 12 * (xi 2 / 50))) 5 (xi 5 + 38 * (xi 2 / 50))) sm pd Hq) := by
  refine Cn.start (plainFor_of_name (by decide +kernel)) (Nat.le_of_ble_eq_true rfl) ?_
  intro p ev s m below meth c ls H locs hH hx hb hr hts hown hlocks hml hnm hK hP hS hl
  obtain ⟨hsz, hxw⟩ := hP
  have hszs : sz = s.heap.size := by rw [hsz, hH]
  have hAs : ∀ q, s.heap.size ≤ q → (fA (xF ax ap la n) sz) q := fun q h => Or.inr (by rw [hszs]; exact h)
  have hAb : ∀ q, (fA (xF ax ap la n) sz) q → bA g q := fun q h => h.elim (hxw.ft q) (fun h => Nat.le_trans hK.2.2.sz (by rw [← hszs]; exact h))
  obtain ⟨hw, h_x, h_p, inx, inp, nxp, nfx, nfp⟩ := hxw.self sz
  have fx : Fx p s m ([.ref ax] : List Value).toArray c cX1_distil RX1 g (fA (xF ax ap la n) sz) 2 := ⟨hx, hb, hts, hown, hK, hAb, hml⟩
  have hl : lv_has ls 2 [(0, .ref ax)] := hl
  refine lv_aload_n hx hb dX1_distil_0 rfl (lv_at hl 0 rfl) ?_
  refine mget fx tfX1 h_x 4 (by decide) q213 (fun _ h => h) (v := .int (xi 2)) rfl dX1_distil_1 ?_
  refine lv_bipush (v := 50) hx hb dX1_distil_4 (by decide) ?_
  refine lv_idiv hx hb dX1_distil_6 (by decide) ?_
  refine lv_istore_n (lv' := [(1, .int ((xi 2) / 50)), (0, .ref ax)]) hx hb dX1_distil_7 rfl hl (by decide) rfl (fun ls hl => ?_)
  refine lv_iload_n hx hb dX1_distil_8 rfl (lv_at hl 0 rfl) ?_
  refine lv_if_le (tgt := 16) hx hb dX1_distil_9 (by decide) (fun h9 => absurd h9 hc) (fun _ => ?_)
  refine lv_iconst (v := 1) hx hb dX1_distil_12 (by decide) ?_
  refine lv_goto (tgt := 17) hx hb dX1_distil_13 (by decide) ?_
  refine kS fx (m_requireState l g 1 (by decide)) (lw_S q741 q742 q50 q743) hdX1_requireState ⟨(Nat.le_of_ble_eq_true rfl), (Nat.le_of_ble_eq_true rfl)⟩ ⟨(Nat.le_of_ble_eq_true rfl), (Nat.le_of_ble_eq_true rfl)⟩ hl.1 hS rfl (Nat.le_of_ble_eq_true rfl) trivial (fun _ h => h.elim) dX1_distil_17 (fun rv9 H locs hQ hz9 hk9 hS => ?_)
  obtain ⟨rfl, rfl⟩ := hQ
  refine W.eq (g2 := F0 m 20 ls []) rfl ?_
  refine lv_aload_n hx hb dX1_distil_20 rfl (lv_at hl 1 rfl) ?_
  refine lv_dup hx hb dX1_distil_21 rfl ?_
  refine mget fx tfX1 h_x 4 (by decide) q213 (fun _ h => h) (v := .int (xi 2)) rfl dX1_distil_22 ?_
  refine lv_bipush (v := 50) hx hb dX1_distil_25 (by decide) ?_
  refine lv_iload_n hx hb dX1_distil_27 rfl (lv_at hl 0 rfl) ?_
  refine lv_imul hx hb dX1_distil_28 ?_
  refine lv_isub hx hb dX1_distil_29 ?_
  refine mput fx tfX1 h_x hS inx 4 (by decide) q213 (fun _ h => h) rfl rfl rfl (Nat.le_of_ble_eq_true rfl) dX1_distil_30 (fun H locs hat hz hoq hS => ?_)
  replace h_p := h_p.kept (hoq _ (Ne.symm nxp))
  replace h_x : mAt g ax (.inr (0, [.ref (la.1 0 0), .ref ap, .int (xi 0), .int (xi 1), .int ((xi 2) - (50 * ((xi 2) / 50))), .int (xi 3), .int (xi 4), .int (xi 5), .int (xi 6), .long sm])) H := hat
  replace hw : cw g (fA (xF ax ap la n) sz) la (sc, sw, ar, fd, tr, ld, n) H := cw.kept hw (fun q h9 hf9 => hoq _ (nfx q hf9))
  refine lv_aload_n hx hb dX1_distil_33 rfl (lv_at hl 1 rfl) ?_
  refine lv_dup hx hb dX1_distil_34 rfl ?_
  refine mget fx tfX1 h_x 6 (by decide) q215 (fun _ h => h) (v := .int (xi 4)) rfl dX1_distil_35 ?_
  refine lv_bipush (v := 12) hx hb dX1_distil_38 (by decide) ?_
  refine lv_iload_n hx hb dX1_distil_40 rfl (lv_at hl 0 rfl) ?_
  refine lv_imul hx hb dX1_distil_41 ?_
  refine lv_iadd hx hb dX1_distil_42 ?_
  refine mput fx tfX1 h_x hS inx 6 (by decide) q215 (fun _ h => h) rfl rfl rfl (Nat.le_of_ble_eq_true rfl) dX1_distil_43 (fun H locs hat hz hoq hS => ?_)
  replace h_p := h_p.kept (hoq _ (Ne.symm nxp))
  replace h_x : mAt g ax (.inr (0, [.ref (la.1 0 0), .ref ap, .int (xi 0), .int (xi 1), .int ((xi 2) - (50 * ((xi 2) / 50))), .int (xi 3), .int ((xi 4) + (12 * ((xi 2) / 50))), .int (xi 5), .int (xi 6), .long sm])) H := hat
  replace hw : cw g (fA (xF ax ap la n) sz) la (sc, sw, ar, fd, tr, ld, n) H := cw.kept hw (fun q h9 hf9 => hoq _ (nfx q hf9))
  refine lv_aload_n hx hb dX1_distil_46 rfl (lv_at hl 1 rfl) ?_
  refine lv_dup hx hb dX1_distil_47 rfl ?_
  refine mget fx tfX1 h_x 7 (by decide) q216 (fun _ h => h) (v := .int (xi 5)) rfl dX1_distil_48 ?_
  refine lv_bipush (v := 38) hx hb dX1_distil_51 (by decide) ?_
  refine lv_iload_n hx hb dX1_distil_53 rfl (lv_at hl 0 rfl) ?_
  refine lv_imul hx hb dX1_distil_54 ?_
  refine lv_iadd hx hb dX1_distil_55 ?_
  refine mput fx tfX1 h_x hS inx 7 (by decide) q216 (fun _ h => h) rfl rfl rfl (Nat.le_of_ble_eq_true rfl) dX1_distil_56 (fun H locs hat hz hoq hS => ?_)
  replace h_p := h_p.kept (hoq _ (Ne.symm nxp))
  replace h_x : mAt g ax (.inr (0, [.ref (la.1 0 0), .ref ap, .int (xi 0), .int (xi 1), .int ((xi 2) - (50 * ((xi 2) / 50))), .int (xi 3), .int ((xi 4) + (12 * ((xi 2) / 50))), .int ((xi 5) + (38 * ((xi 2) / 50))), .int (xi 6), .long sm])) H := hat
  replace hw : cw g (fA (xF ax ap la n) sz) la (sc, sw, ar, fd, tr, ld, n) H := cw.kept hw (fun q h9 hf9 => hoq _ (nfx q hf9))
  refine lv_aload_n hx hb dX1_distil_59 rfl (lv_at hl 1 rfl) ?_
  refine mget fx tfX1 h_x 6 (by decide) q215 (fun _ h => h) (v := .int ((xi 4) + (12 * ((xi 2) / 50)))) rfl dX1_distil_60 ?_
  exact ri hx hb hr hlocks hS (⟨rfl, hw, h_x, h_p, inx, inp, nxp, nfx, nfp⟩) ⟨(Nat.le_of_ble_eq_true rfl), (Nat.le_of_ble_eq_true rfl)⟩ dX1_distil_63

set_option maxHeartbeats 4000000 in
theorem t_X_distil1 (l : Launch) (hst : l.stackTraces = false) (g : GT) (ax ap : Nat) (la : LT) (sc : Nat → Int32) (sw : Int64) (ar fd tr ld : Nat → Nat → Int32) (n : CN) (xi : Nat → Int32) (sm : Int64) (pd : Nat → Int32) (hc : xi 2 / 50 ≤ 0) : Tn l g yX1_distil cX1_distil 2 ((some .int)) 8 [.ref ax] "java/lang/IllegalStateException" (fun H => xw g (bA g) ax ap la (sc, sw, ar, fd, tr, ld, n) xi sm pd H) := by
  refine Tn.start (by decide +kernel) (Nat.le_of_ble_eq_true rfl) ?_
  intro p ev s m below meth c ls H locs hH hx hb hts hown hlocks hml hex hK hP hS hl
  have hxw := hP
  obtain ⟨hw, h_x, h_p, inx, inp, nxp, nfx, nfp⟩ := hxw
  have fx : Fx p s m ([.ref ax] : List Value).toArray c cX1_distil RX1 g (fun _ => False) 2 := ⟨hx, hb, hts, hown, hK, fun _ h => h.elim, hml⟩
  have hl : lv_has ls 2 [(0, .ref ax)] := hl
  refine lv_aload_n hx hb dX1_distil_0 rfl (lv_at hl 0 rfl) ?_
  refine mget fx tfX1 h_x 4 (by decide) q213 (fun _ h => h) (v := .int (xi 2)) rfl dX1_distil_1 ?_
  refine lv_bipush (v := 50) hx hb dX1_distil_4 (by decide) ?_
  refine lv_idiv hx hb dX1_distil_6 (by decide) ?_
  refine lv_istore_n (lv' := [(1, .int ((xi 2) / 50)), (0, .ref ax)]) hx hb dX1_distil_7 rfl hl (by decide) rfl (fun ls hl => ?_)
  refine lv_iload_n hx hb dX1_distil_8 rfl (lv_at hl 0 rfl) ?_
  refine lv_if_le (tgt := 16) hx hb dX1_distil_9 (by decide) (fun _ => ?_) (fun h9 => absurd hc h9)
  refine lv_iconst (v := 0) hx hb dX1_distil_16 (by decide) ?_
  exact tS fx (t_requireState l hst g 0 rfl) (lw_S q741 q742 q50 q743) hdX1_requireState ⟨(Nat.le_of_ble_eq_true rfl), (Nat.le_of_ble_eq_true rfl)⟩ ⟨(Nat.le_of_ble_eq_true rfl), (Nat.le_of_ble_eq_true rfl)⟩ hl.1 hS rfl (Nat.le_of_ble_eq_true rfl) trivial dX1_distil_17 hex hlocks (Nat.le_of_ble_eq_true rfl) (Nat.le_of_ble_eq_true rfl)

set_option maxHeartbeats 4000000 in
theorem m_X_boil0 (l : Launch) (g : GT) (sz ax ap : Nat) (la : LT) (sc : Nat → Int32) (sw : Int64) (ar fd tr ld : Nat → Nat → Int32) (n : CN) (xi : Nat → Int32) (sm : Int64) (pd : Nat → Int32) (hc : ¬ sc 10 / 100 ≤ 0) : Cn l g yX1_boil cX1_boil 3 ((some .int)) 2 0 0 [.ref ax, .int 0] (fA (xF ax ap la n) sz) (fun H => sz = H.size ∧ xw g (bA g) ax ap la (sc, sw, ar, fd, tr, ld, n) xi sm pd H) (fun Hp rv Hq => rv = some (.int (lackC (sc 12) (4 * (sc 10 / 100)))) ∧ xw g (fA (xF ax ap la n) sz) ax ap la (cBurn (va_up sc 10 (sc 10 - 100 * (sc 10 / 100))) (4 * (sc 10 / 100)), sw, ar, fd, tr, ld, n) (va_up (va_up xi 3 (xi 3 + 60 * (sc 10 / 100))) 0 (xi 0 + 40 * (sc 10 / 100))) sm pd Hq) := by
  refine Cn.start (plainFor_of_name (by decide +kernel)) (Nat.le_of_ble_eq_true rfl) ?_
  intro p ev s m below meth c ls H locs hH hx hb hr hts hown hlocks hml hnm hK hP hS hl
  obtain ⟨hsz, hxw⟩ := hP
  have hszs : sz = s.heap.size := by rw [hsz, hH]
  have hAs : ∀ q, s.heap.size ≤ q → (fA (xF ax ap la n) sz) q := fun q h => Or.inr (by rw [hszs]; exact h)
  have hAb : ∀ q, (fA (xF ax ap la n) sz) q → bA g q := fun q h => h.elim (hxw.ft q) (fun h => Nat.le_trans hK.2.2.sz (by rw [← hszs]; exact h))
  obtain ⟨hw, h_x, h_p, inx, inp, nxp, nfx, nfp⟩ := hxw.self sz
  have fx : Fx p s m ([.ref ax, .int 0] : List Value).toArray c cX1_boil RX1 g (fA (xF ax ap la n) sz) 3 := ⟨hx, hb, hts, hown, hK, hAb, hml⟩
  have hl : lv_has ls 3 [(0, .ref ax), (1, .int 0)] := hl
  refine lv_iload_n hx hb dX1_boil_0 rfl (lv_at hl 1 rfl) ?_
  refine lv_iconst (v := 3) hx hb dX1_boil_1 (by decide) ?_
  refine kS fx (m_requireIndex l g 0 3 (by decide) (by decide)) (lw_S q696 q697 q50 q698) hdX1_requireIndex ⟨(Nat.le_of_ble_eq_true rfl), (Nat.le_of_ble_eq_true rfl)⟩ ⟨(Nat.le_of_ble_eq_true rfl), (Nat.le_of_ble_eq_true rfl)⟩ hl.1 hS rfl (Nat.le_of_ble_eq_true rfl) trivial (fun _ h => h.elim) dX1_boil_2 (fun rv9 H locs hQ hz9 hk9 hS => ?_)
  obtain ⟨rfl, rfl⟩ := hQ
  refine W.eq (g2 := F0 m 5 ls []) rfl ?_
  refine lv_iload_n hx hb dX1_boil_5 rfl (lv_at hl 1 rfl) ?_
  refine lv_if_ne (tgt := 19) hx hb dX1_boil_6 (by decide) (fun h9 => absurd rfl h9) (fun _ => ?_)
  refine lv_aload_n hx hb dX1_boil_9 rfl (lv_at hl 0 rfl) ?_
  refine mget fx tfX1 h_x 0 (by decide) q209 (fun _ h => h) (v := .ref (la.1 0 0)) rfl dX1_boil_10 ?_
  refine mgetN fx tfX2 (cw.w hw) 16 (by decide) q152 (fun _ h => h) (v := .int (sc 10)) rfl dX1_boil_13 ?_
  refine lv_goto (tgt := 35) hx hb dX1_boil_16 (by decide) ?_
  refine lv_bipush (v := 100) hx hb dX1_boil_35 (by decide) ?_
  refine lv_idiv hx hb dX1_boil_37 (by decide) ?_
  refine lv_istore_n (lv' := [(2, .int ((sc 10) / 100)), (0, .ref ax), (1, .int 0)]) hx hb dX1_boil_38 rfl hl (by decide) rfl (fun ls hl => ?_)
  refine lv_iload_n hx hb dX1_boil_39 rfl (lv_at hl 0 rfl) ?_
  refine lv_if_le (tgt := 47) hx hb dX1_boil_40 (by decide) (fun h9 => absurd h9 hc) (fun _ => ?_)
  refine lv_iconst (v := 1) hx hb dX1_boil_43 (by decide) ?_
  refine lv_goto (tgt := 48) hx hb dX1_boil_44 (by decide) ?_
  refine kS fx (m_requireState l g 1 (by decide)) (lw_S q741 q742 q50 q743) hdX1_requireState ⟨(Nat.le_of_ble_eq_true rfl), (Nat.le_of_ble_eq_true rfl)⟩ ⟨(Nat.le_of_ble_eq_true rfl), (Nat.le_of_ble_eq_true rfl)⟩ hl.1 hS rfl (Nat.le_of_ble_eq_true rfl) trivial (fun _ h => h.elim) dX1_boil_48 (fun rv9 H locs hQ hz9 hk9 hS => ?_)
  obtain ⟨rfl, rfl⟩ := hQ
  refine W.eq (g2 := F0 m 51 ls []) rfl ?_
  refine lv_iload_n hx hb dX1_boil_51 rfl (lv_at hl 2 rfl) ?_
  refine lv_if_ne (tgt := 100) hx hb dX1_boil_52 (by decide) (fun h9 => absurd rfl h9) (fun _ => ?_)
  refine lv_aload_n hx hb dX1_boil_55 rfl (lv_at hl 1 rfl) ?_
  refine mget fx tfX1 h_x 0 (by decide) q209 (fun _ h => h) (v := .ref (la.1 0 0)) rfl dX1_boil_56 ?_
  refine lv_dup hx hb dX1_boil_59 rfl ?_
  refine mgetN fx tfX2 (cw.w hw) 16 (by decide) q152 (fun _ h => h) (v := .int (sc 10)) rfl dX1_boil_60 ?_
  refine lv_bipush (v := 100) hx hb dX1_boil_63 (by decide) ?_
  refine lv_iload_n hx hb dX1_boil_65 rfl (lv_at hl 0 rfl) ?_
  refine lv_imul hx hb dX1_boil_66 ?_
  refine lv_isub hx hb dX1_boil_67 ?_
  refine mputN fx tfX2 (cw.w hw) hS (cw.inW hw (by decide)) 16 (by decide) q152 (fun _ h => h) rfl rfl rfl (Nat.le_of_ble_eq_true rfl) dX1_boil_68 (fun H locs hat hz hoq hS => ?_)
  replace h_x := h_x.kept (hoq _ (Ne.symm (nfx _ ⟨0, 0, (by show 0 < 7; decide), rfl⟩)))
  replace h_p := h_p.kept (hoq _ (Ne.symm (nfp _ ⟨0, 0, (by show 0 < 7; decide), rfl⟩)))
  replace hw : cw g (fA (xF ax ap la n) sz) la (va_up sc 10 ((sc 10) - (100 * ((sc 10) / 100))), sw, ar, fd, tr, ld, n) H := cw.setW hw hat (fun q _ h9 => hoq q h9)
  refine lv_aload_n hx hb dX1_boil_71 rfl (lv_at hl 1 rfl) ?_
  refine lv_dup hx hb dX1_boil_72 rfl ?_
  refine mget fx tfX1 h_x 5 (by decide) q214 (fun _ h => h) (v := .int (xi 3)) rfl dX1_boil_73 ?_
  refine lv_bipush (v := 60) hx hb dX1_boil_76 (by decide) ?_
  refine lv_iload_n hx hb dX1_boil_78 rfl (lv_at hl 0 rfl) ?_
  refine lv_imul hx hb dX1_boil_79 ?_
  refine lv_iadd hx hb dX1_boil_80 ?_
  refine mput fx tfX1 h_x hS inx 5 (by decide) q214 (fun _ h => h) rfl rfl rfl (Nat.le_of_ble_eq_true rfl) dX1_boil_81 (fun H locs hat hz hoq hS => ?_)
  replace h_p := h_p.kept (hoq _ (Ne.symm nxp))
  replace h_x : mAt g ax (.inr (0, [.ref (la.1 0 0), .ref ap, .int (xi 0), .int (xi 1), .int (xi 2), .int ((xi 3) + (60 * ((sc 10) / 100))), .int (xi 4), .int (xi 5), .int (xi 6), .long sm])) H := hat
  replace hw : cw g (fA (xF ax ap la n) sz) la (va_up sc 10 ((sc 10) - (100 * ((sc 10) / 100))), sw, ar, fd, tr, ld, n) H := cw.kept hw (fun q h9 hf9 => hoq _ (nfx q hf9))
  refine lv_aload_n hx hb dX1_boil_84 rfl (lv_at hl 1 rfl) ?_
  refine lv_dup hx hb dX1_boil_85 rfl ?_
  refine mget fx tfX1 h_x 2 (by decide) q211 (fun _ h => h) (v := .int (xi 0)) rfl dX1_boil_86 ?_
  refine lv_bipush (v := 40) hx hb dX1_boil_89 (by decide) ?_
  refine lv_iload_n hx hb dX1_boil_91 rfl (lv_at hl 0 rfl) ?_
  refine lv_imul hx hb dX1_boil_92 ?_
  refine lv_iadd hx hb dX1_boil_93 ?_
  refine mput fx tfX1 h_x hS inx 2 (by decide) q211 (fun _ h => h) rfl rfl rfl (Nat.le_of_ble_eq_true rfl) dX1_boil_94 (fun H locs hat hz hoq hS => ?_)
  replace h_p := h_p.kept (hoq _ (Ne.symm nxp))
  replace h_x : mAt g ax (.inr (0, [.ref (la.1 0 0), .ref ap, .int ((xi 0) + (40 * ((sc 10) / 100))), .int (xi 1), .int (xi 2), .int ((xi 3) + (60 * ((sc 10) / 100))), .int (xi 4), .int (xi 5), .int (xi 6), .long sm])) H := hat
  replace hw : cw g (fA (xF ax ap la n) sz) la (va_up sc 10 ((sc 10) - (100 * ((sc 10) / 100))), sw, ar, fd, tr, ld, n) H := cw.kept hw (fun q h9 hf9 => hoq _ (nfx q hf9))
  refine lv_goto (tgt := 189) hx hb dX1_boil_97 (by decide) ?_
  refine lv_aload_n hx hb dX1_boil_189 rfl (lv_at hl 1 rfl) ?_
  refine mget fx tfX1 h_x 0 (by decide) q209 (fun _ h => h) (v := .ref (la.1 0 0)) rfl dX1_boil_190 ?_
  refine lv_iconst (v := 4) hx hb dX1_boil_193 (by decide) ?_
  refine lv_iload_n hx hb dX1_boil_194 rfl (lv_at hl 0 rfl) ?_
  refine lv_imul hx hb dX1_boil_195 ?_
  have hbk := cw.back hw (fun q h9 => hAs q (Nat.le_trans hS.1 h9))
  refine kV fx (m_W_burn l g _ la (va_up sc 10 ((sc 10) - (100 * ((sc 10) / 100)))) sw ar fd tr ld n (4 * ((sc 10) / 100))) (lw_V q831 q594 q595 q51 q596) hdX2_burn ⟨(Nat.le_of_ble_eq_true rfl), (Nat.le_of_ble_eq_true rfl)⟩ ⟨(Nat.le_of_ble_eq_true rfl), (Nat.le_of_ble_eq_true rfl)⟩ hl.1 hS tfX2.2.1 (cw.w hw) rfl (Nat.le_of_ble_eq_true rfl) (⟨rfl, cw.weaken hw fx.2.2.2.2.2.1⟩) (fun q h9 => hbk q h9) dX1_boil_196 (fun rv9 H locs hQ hz9 hk9 hS => ?_)
  obtain ⟨rfl, hw9⟩ := hQ
  replace h_x := h_x.kept (hk9 _ h_x.lt (fun h9 => h9.elim (fun h8 => nfx _ h8 rfl) (Nat.not_le.mpr h_x.lt)))
  replace h_p := h_p.kept (hk9 _ h_p.lt (fun h9 => h9.elim (fun h8 => nfp _ h8 rfl) (Nat.not_le.mpr h_p.lt)))
  replace hw : cw g (fA (xF ax ap la n) sz) la (cBurn (va_up sc 10 ((sc 10) - (100 * ((sc 10) / 100)))) (4 * ((sc 10) / 100)), sw, ar, fd, tr, ld, n) H := cw.weaken hw9 hbk
  refine W.eq (g2 := F0 m 199 ls [.int (lackC (sc 12) (4 * ((sc 10) / 100)))]) rfl ?_
  exact ri hx hb hr hlocks hS (⟨rfl, hw, h_x, h_p, inx, inp, nxp, nfx, nfp⟩) ⟨(Nat.le_of_ble_eq_true rfl), (Nat.le_of_ble_eq_true rfl)⟩ dX1_boil_199

set_option maxHeartbeats 4000000 in
theorem t_X_boil20 (l : Launch) (hst : l.stackTraces = false) (g : GT) (ax ap : Nat) (la : LT) (sc : Nat → Int32) (sw : Int64) (ar fd tr ld : Nat → Nat → Int32) (n : CN) (xi : Nat → Int32) (sm : Int64) (pd : Nat → Int32) (hc : sc 10 / 100 ≤ 0) : Tn l g yX1_boil cX1_boil 3 ((some .int)) 8 [.ref ax, .int 0] "java/lang/IllegalStateException" (fun H => xw g (bA g) ax ap la (sc, sw, ar, fd, tr, ld, n) xi sm pd H) := by
  refine Tn.start (by decide +kernel) (Nat.le_of_ble_eq_true rfl) ?_
  intro p ev s m below meth c ls H locs hH hx hb hts hown hlocks hml hex hK hP hS hl
  have hxw := hP
  obtain ⟨hw, h_x, h_p, inx, inp, nxp, nfx, nfp⟩ := hxw
  have fx : Fx p s m ([.ref ax, .int 0] : List Value).toArray c cX1_boil RX1 g (fun _ => False) 3 := ⟨hx, hb, hts, hown, hK, fun _ h => h.elim, hml⟩
  have hl : lv_has ls 3 [(0, .ref ax), (1, .int 0)] := hl
  refine lv_iload_n hx hb dX1_boil_0 rfl (lv_at hl 1 rfl) ?_
  refine lv_iconst (v := 3) hx hb dX1_boil_1 (by decide) ?_
  refine kS fx (m_requireIndex l g 0 3 (by decide) (by decide)) (lw_S q696 q697 q50 q698) hdX1_requireIndex ⟨(Nat.le_of_ble_eq_true rfl), (Nat.le_of_ble_eq_true rfl)⟩ ⟨(Nat.le_of_ble_eq_true rfl), (Nat.le_of_ble_eq_true rfl)⟩ hl.1 hS rfl (Nat.le_of_ble_eq_true rfl) trivial (fun _ h => h.elim) dX1_boil_2 (fun rv9 H locs hQ hz9 hk9 hS => ?_)
  obtain ⟨rfl, rfl⟩ := hQ
  refine W.eq (g2 := F0 m 5 ls []) rfl ?_
  refine lv_iload_n hx hb dX1_boil_5 rfl (lv_at hl 1 rfl) ?_
  refine lv_if_ne (tgt := 19) hx hb dX1_boil_6 (by decide) (fun h9 => absurd rfl h9) (fun _ => ?_)
  refine lv_aload_n hx hb dX1_boil_9 rfl (lv_at hl 0 rfl) ?_
  refine mget fx tfX1 h_x 0 (by decide) q209 (fun _ h => h) (v := .ref (la.1 0 0)) rfl dX1_boil_10 ?_
  refine mgetN fx tfX2 (cw.w hw) 16 (by decide) q152 (fun _ h => h) (v := .int (sc 10)) rfl dX1_boil_13 ?_
  refine lv_goto (tgt := 35) hx hb dX1_boil_16 (by decide) ?_
  refine lv_bipush (v := 100) hx hb dX1_boil_35 (by decide) ?_
  refine lv_idiv hx hb dX1_boil_37 (by decide) ?_
  refine lv_istore_n (lv' := [(2, .int ((sc 10) / 100)), (0, .ref ax), (1, .int 0)]) hx hb dX1_boil_38 rfl hl (by decide) rfl (fun ls hl => ?_)
  refine lv_iload_n hx hb dX1_boil_39 rfl (lv_at hl 0 rfl) ?_
  refine lv_if_le (tgt := 47) hx hb dX1_boil_40 (by decide) (fun _ => ?_) (fun h9 => absurd hc h9)
  refine lv_iconst (v := 0) hx hb dX1_boil_47 (by decide) ?_
  exact tS fx (t_requireState l hst g 0 rfl) (lw_S q741 q742 q50 q743) hdX1_requireState ⟨(Nat.le_of_ble_eq_true rfl), (Nat.le_of_ble_eq_true rfl)⟩ ⟨(Nat.le_of_ble_eq_true rfl), (Nat.le_of_ble_eq_true rfl)⟩ hl.1 hS rfl (Nat.le_of_ble_eq_true rfl) trivial dX1_boil_48 hex hlocks (Nat.le_of_ble_eq_true rfl) (Nat.le_of_ble_eq_true rfl)

set_option maxHeartbeats 4000000 in
theorem m_X_boil1 (l : Launch) (g : GT) (sz ax ap : Nat) (la : LT) (sc : Nat → Int32) (sw : Int64) (ar fd tr ld : Nat → Nat → Int32) (n : CN) (xi : Nat → Int32) (sm : Int64) (pd : Nat → Int32) (hc : ¬ xi 0 / 100 ≤ 0) : Cn l g yX1_boil cX1_boil 3 ((some .int)) 2 0 0 [.ref ax, .int 1] (fA (xF ax ap la n) sz) (fun H => sz = H.size ∧ xw g (bA g) ax ap la (sc, sw, ar, fd, tr, ld, n) xi sm pd H) (fun Hp rv Hq => rv = some (.int (lackC (sc 12) (4 * (xi 0 / 100)))) ∧ xw g (fA (xF ax ap la n) sz) ax ap la (cBurn (sc) (4 * (xi 0 / 100)), sw, ar, fd, tr, ld, n) (va_up (va_up (va_up xi 0 (xi 0 - 100 * (xi 0 / 100))) 3 (xi 3 + 45 * (xi 0 / 100))) 1 (xi 1 + 55 * (xi 0 / 100))) sm pd Hq) := by
  refine Cn.start (plainFor_of_name (by decide +kernel)) (Nat.le_of_ble_eq_true rfl) ?_
  intro p ev s m below meth c ls H locs hH hx hb hr hts hown hlocks hml hnm hK hP hS hl
  obtain ⟨hsz, hxw⟩ := hP
  have hszs : sz = s.heap.size := by rw [hsz, hH]
  have hAs : ∀ q, s.heap.size ≤ q → (fA (xF ax ap la n) sz) q := fun q h => Or.inr (by rw [hszs]; exact h)
  have hAb : ∀ q, (fA (xF ax ap la n) sz) q → bA g q := fun q h => h.elim (hxw.ft q) (fun h => Nat.le_trans hK.2.2.sz (by rw [← hszs]; exact h))
  obtain ⟨hw, h_x, h_p, inx, inp, nxp, nfx, nfp⟩ := hxw.self sz
  have fx : Fx p s m ([.ref ax, .int 1] : List Value).toArray c cX1_boil RX1 g (fA (xF ax ap la n) sz) 3 := ⟨hx, hb, hts, hown, hK, hAb, hml⟩
  have hl : lv_has ls 3 [(0, .ref ax), (1, .int 1)] := hl
  refine lv_iload_n hx hb dX1_boil_0 rfl (lv_at hl 1 rfl) ?_
  refine lv_iconst (v := 3) hx hb dX1_boil_1 (by decide) ?_
  refine kS fx (m_requireIndex l g 1 3 (by decide) (by decide)) (lw_S q696 q697 q50 q698) hdX1_requireIndex ⟨(Nat.le_of_ble_eq_true rfl), (Nat.le_of_ble_eq_true rfl)⟩ ⟨(Nat.le_of_ble_eq_true rfl), (Nat.le_of_ble_eq_true rfl)⟩ hl.1 hS rfl (Nat.le_of_ble_eq_true rfl) trivial (fun _ h => h.elim) dX1_boil_2 (fun rv9 H locs hQ hz9 hk9 hS => ?_)
  obtain ⟨rfl, rfl⟩ := hQ
  refine W.eq (g2 := F0 m 5 ls []) rfl ?_
  refine lv_iload_n hx hb dX1_boil_5 rfl (lv_at hl 1 rfl) ?_
  refine lv_if_ne (tgt := 19) hx hb dX1_boil_6 (by decide) (fun _ => ?_) (fun h9 => absurd h9 (by decide))
  refine lv_iload_n hx hb dX1_boil_19 rfl (lv_at hl 1 rfl) ?_
  refine lv_iconst (v := 1) hx hb dX1_boil_20 (by decide) ?_
  refine lv_icmp_ne (tgt := 31) hx hb dX1_boil_21 (by decide) (fun h9 => absurd rfl h9) (fun _ => ?_)
  refine lv_aload_n hx hb dX1_boil_24 rfl (lv_at hl 0 rfl) ?_
  refine mget fx tfX1 h_x 2 (by decide) q211 (fun _ h => h) (v := .int (xi 0)) rfl dX1_boil_25 ?_
  refine lv_goto (tgt := 35) hx hb dX1_boil_28 (by decide) ?_
  refine lv_bipush (v := 100) hx hb dX1_boil_35 (by decide) ?_
  refine lv_idiv hx hb dX1_boil_37 (by decide) ?_
  refine lv_istore_n (lv' := [(2, .int ((xi 0) / 100)), (0, .ref ax), (1, .int 1)]) hx hb dX1_boil_38 rfl hl (by decide) rfl (fun ls hl => ?_)
  refine lv_iload_n hx hb dX1_boil_39 rfl (lv_at hl 0 rfl) ?_
  refine lv_if_le (tgt := 47) hx hb dX1_boil_40 (by decide) (fun h9 => absurd h9 hc) (fun _ => ?_)
  refine lv_iconst (v := 1) hx hb dX1_boil_43 (by decide) ?_
  refine lv_goto (tgt := 48) hx hb dX1_boil_44 (by decide) ?_
  refine kS fx (m_requireState l g 1 (by decide)) (lw_S q741 q742 q50 q743) hdX1_requireState ⟨(Nat.le_of_ble_eq_true rfl), (Nat.le_of_ble_eq_true rfl)⟩ ⟨(Nat.le_of_ble_eq_true rfl), (Nat.le_of_ble_eq_true rfl)⟩ hl.1 hS rfl (Nat.le_of_ble_eq_true rfl) trivial (fun _ h => h.elim) dX1_boil_48 (fun rv9 H locs hQ hz9 hk9 hS => ?_)
  obtain ⟨rfl, rfl⟩ := hQ
  refine W.eq (g2 := F0 m 51 ls []) rfl ?_
  refine lv_iload_n hx hb dX1_boil_51 rfl (lv_at hl 2 rfl) ?_
  refine lv_if_ne (tgt := 100) hx hb dX1_boil_52 (by decide) (fun _ => ?_) (fun h9 => absurd h9 (by decide))
  refine lv_iload_n hx hb dX1_boil_100 rfl (lv_at hl 2 rfl) ?_
  refine lv_iconst (v := 1) hx hb dX1_boil_101 (by decide) ?_
  refine lv_icmp_ne (tgt := 147) hx hb dX1_boil_102 (by decide) (fun h9 => absurd rfl h9) (fun _ => ?_)
  refine lv_aload_n hx hb dX1_boil_105 rfl (lv_at hl 1 rfl) ?_
  refine lv_dup hx hb dX1_boil_106 rfl ?_
  refine mget fx tfX1 h_x 2 (by decide) q211 (fun _ h => h) (v := .int (xi 0)) rfl dX1_boil_107 ?_
  refine lv_bipush (v := 100) hx hb dX1_boil_110 (by decide) ?_
  refine lv_iload_n hx hb dX1_boil_112 rfl (lv_at hl 0 rfl) ?_
  refine lv_imul hx hb dX1_boil_113 ?_
  refine lv_isub hx hb dX1_boil_114 ?_
  refine mput fx tfX1 h_x hS inx 2 (by decide) q211 (fun _ h => h) rfl rfl rfl (Nat.le_of_ble_eq_true rfl) dX1_boil_115 (fun H locs hat hz hoq hS => ?_)
  replace h_p := h_p.kept (hoq _ (Ne.symm nxp))
  replace h_x : mAt g ax (.inr (0, [.ref (la.1 0 0), .ref ap, .int ((xi 0) - (100 * ((xi 0) / 100))), .int (xi 1), .int (xi 2), .int (xi 3), .int (xi 4), .int (xi 5), .int (xi 6), .long sm])) H := hat
  replace hw : cw g (fA (xF ax ap la n) sz) la (sc, sw, ar, fd, tr, ld, n) H := cw.kept hw (fun q h9 hf9 => hoq _ (nfx q hf9))
  refine lv_aload_n hx hb dX1_boil_118 rfl (lv_at hl 1 rfl) ?_
  refine lv_dup hx hb dX1_boil_119 rfl ?_
  refine mget fx tfX1 h_x 5 (by decide) q214 (fun _ h => h) (v := .int (xi 3)) rfl dX1_boil_120 ?_
  refine lv_bipush (v := 45) hx hb dX1_boil_123 (by decide) ?_
  refine lv_iload_n hx hb dX1_boil_125 rfl (lv_at hl 0 rfl) ?_
  refine lv_imul hx hb dX1_boil_126 ?_
  refine lv_iadd hx hb dX1_boil_127 ?_
  refine mput fx tfX1 h_x hS inx 5 (by decide) q214 (fun _ h => h) rfl rfl rfl (Nat.le_of_ble_eq_true rfl) dX1_boil_128 (fun H locs hat hz hoq hS => ?_)
  replace h_p := h_p.kept (hoq _ (Ne.symm nxp))
  replace h_x : mAt g ax (.inr (0, [.ref (la.1 0 0), .ref ap, .int ((xi 0) - (100 * ((xi 0) / 100))), .int (xi 1), .int (xi 2), .int ((xi 3) + (45 * ((xi 0) / 100))), .int (xi 4), .int (xi 5), .int (xi 6), .long sm])) H := hat
  replace hw : cw g (fA (xF ax ap la n) sz) la (sc, sw, ar, fd, tr, ld, n) H := cw.kept hw (fun q h9 hf9 => hoq _ (nfx q hf9))
  refine lv_aload_n hx hb dX1_boil_131 rfl (lv_at hl 1 rfl) ?_
  refine lv_dup hx hb dX1_boil_132 rfl ?_
  refine mget fx tfX1 h_x 3 (by decide) q212 (fun _ h => h) (v := .int (xi 1)) rfl dX1_boil_133 ?_
  refine lv_bipush (v := 55) hx hb dX1_boil_136 (by decide) ?_
  refine lv_iload_n hx hb dX1_boil_138 rfl (lv_at hl 0 rfl) ?_
  refine lv_imul hx hb dX1_boil_139 ?_
  refine lv_iadd hx hb dX1_boil_140 ?_
  refine mput fx tfX1 h_x hS inx 3 (by decide) q212 (fun _ h => h) rfl rfl rfl (Nat.le_of_ble_eq_true rfl) dX1_boil_141 (fun H locs hat hz hoq hS => ?_)
  replace h_p := h_p.kept (hoq _ (Ne.symm nxp))
  replace h_x : mAt g ax (.inr (0, [.ref (la.1 0 0), .ref ap, .int ((xi 0) - (100 * ((xi 0) / 100))), .int ((xi 1) + (55 * ((xi 0) / 100))), .int (xi 2), .int ((xi 3) + (45 * ((xi 0) / 100))), .int (xi 4), .int (xi 5), .int (xi 6), .long sm])) H := hat
  replace hw : cw g (fA (xF ax ap la n) sz) la (sc, sw, ar, fd, tr, ld, n) H := cw.kept hw (fun q h9 hf9 => hoq _ (nfx q hf9))
  refine lv_goto (tgt := 189) hx hb dX1_boil_144 (by decide) ?_
  refine lv_aload_n hx hb dX1_boil_189 rfl (lv_at hl 1 rfl) ?_
  refine mget fx tfX1 h_x 0 (by decide) q209 (fun _ h => h) (v := .ref (la.1 0 0)) rfl dX1_boil_190 ?_
  refine lv_iconst (v := 4) hx hb dX1_boil_193 (by decide) ?_
  refine lv_iload_n hx hb dX1_boil_194 rfl (lv_at hl 0 rfl) ?_
  refine lv_imul hx hb dX1_boil_195 ?_
  have hbk := cw.back hw (fun q h9 => hAs q (Nat.le_trans hS.1 h9))
  refine kV fx (m_W_burn l g _ la sc sw ar fd tr ld n (4 * ((xi 0) / 100))) (lw_V q831 q594 q595 q51 q596) hdX2_burn ⟨(Nat.le_of_ble_eq_true rfl), (Nat.le_of_ble_eq_true rfl)⟩ ⟨(Nat.le_of_ble_eq_true rfl), (Nat.le_of_ble_eq_true rfl)⟩ hl.1 hS tfX2.2.1 (cw.w hw) rfl (Nat.le_of_ble_eq_true rfl) (⟨rfl, cw.weaken hw fx.2.2.2.2.2.1⟩) (fun q h9 => hbk q h9) dX1_boil_196 (fun rv9 H locs hQ hz9 hk9 hS => ?_)
  obtain ⟨rfl, hw9⟩ := hQ
  replace h_x := h_x.kept (hk9 _ h_x.lt (fun h9 => h9.elim (fun h8 => nfx _ h8 rfl) (Nat.not_le.mpr h_x.lt)))
  replace h_p := h_p.kept (hk9 _ h_p.lt (fun h9 => h9.elim (fun h8 => nfp _ h8 rfl) (Nat.not_le.mpr h_p.lt)))
  replace hw : cw g (fA (xF ax ap la n) sz) la (cBurn sc (4 * ((xi 0) / 100)), sw, ar, fd, tr, ld, n) H := cw.weaken hw9 hbk
  refine W.eq (g2 := F0 m 199 ls [.int (lackC (sc 12) (4 * ((xi 0) / 100)))]) rfl ?_
  exact ri hx hb hr hlocks hS (⟨rfl, hw, h_x, h_p, inx, inp, nxp, nfx, nfp⟩) ⟨(Nat.le_of_ble_eq_true rfl), (Nat.le_of_ble_eq_true rfl)⟩ dX1_boil_199

set_option maxHeartbeats 4000000 in
theorem t_X_boil21 (l : Launch) (hst : l.stackTraces = false) (g : GT) (ax ap : Nat) (la : LT) (sc : Nat → Int32) (sw : Int64) (ar fd tr ld : Nat → Nat → Int32) (n : CN) (xi : Nat → Int32) (sm : Int64) (pd : Nat → Int32) (hc : xi 0 / 100 ≤ 0) : Tn l g yX1_boil cX1_boil 3 ((some .int)) 8 [.ref ax, .int 1] "java/lang/IllegalStateException" (fun H => xw g (bA g) ax ap la (sc, sw, ar, fd, tr, ld, n) xi sm pd H) := by
  refine Tn.start (by decide +kernel) (Nat.le_of_ble_eq_true rfl) ?_
  intro p ev s m below meth c ls H locs hH hx hb hts hown hlocks hml hex hK hP hS hl
  have hxw := hP
  obtain ⟨hw, h_x, h_p, inx, inp, nxp, nfx, nfp⟩ := hxw
  have fx : Fx p s m ([.ref ax, .int 1] : List Value).toArray c cX1_boil RX1 g (fun _ => False) 3 := ⟨hx, hb, hts, hown, hK, fun _ h => h.elim, hml⟩
  have hl : lv_has ls 3 [(0, .ref ax), (1, .int 1)] := hl
  refine lv_iload_n hx hb dX1_boil_0 rfl (lv_at hl 1 rfl) ?_
  refine lv_iconst (v := 3) hx hb dX1_boil_1 (by decide) ?_
  refine kS fx (m_requireIndex l g 1 3 (by decide) (by decide)) (lw_S q696 q697 q50 q698) hdX1_requireIndex ⟨(Nat.le_of_ble_eq_true rfl), (Nat.le_of_ble_eq_true rfl)⟩ ⟨(Nat.le_of_ble_eq_true rfl), (Nat.le_of_ble_eq_true rfl)⟩ hl.1 hS rfl (Nat.le_of_ble_eq_true rfl) trivial (fun _ h => h.elim) dX1_boil_2 (fun rv9 H locs hQ hz9 hk9 hS => ?_)
  obtain ⟨rfl, rfl⟩ := hQ
  refine W.eq (g2 := F0 m 5 ls []) rfl ?_
  refine lv_iload_n hx hb dX1_boil_5 rfl (lv_at hl 1 rfl) ?_
  refine lv_if_ne (tgt := 19) hx hb dX1_boil_6 (by decide) (fun _ => ?_) (fun h9 => absurd h9 (by decide))
  refine lv_iload_n hx hb dX1_boil_19 rfl (lv_at hl 1 rfl) ?_
  refine lv_iconst (v := 1) hx hb dX1_boil_20 (by decide) ?_
  refine lv_icmp_ne (tgt := 31) hx hb dX1_boil_21 (by decide) (fun h9 => absurd rfl h9) (fun _ => ?_)
  refine lv_aload_n hx hb dX1_boil_24 rfl (lv_at hl 0 rfl) ?_
  refine mget fx tfX1 h_x 2 (by decide) q211 (fun _ h => h) (v := .int (xi 0)) rfl dX1_boil_25 ?_
  refine lv_goto (tgt := 35) hx hb dX1_boil_28 (by decide) ?_
  refine lv_bipush (v := 100) hx hb dX1_boil_35 (by decide) ?_
  refine lv_idiv hx hb dX1_boil_37 (by decide) ?_
  refine lv_istore_n (lv' := [(2, .int ((xi 0) / 100)), (0, .ref ax), (1, .int 1)]) hx hb dX1_boil_38 rfl hl (by decide) rfl (fun ls hl => ?_)
  refine lv_iload_n hx hb dX1_boil_39 rfl (lv_at hl 0 rfl) ?_
  refine lv_if_le (tgt := 47) hx hb dX1_boil_40 (by decide) (fun _ => ?_) (fun h9 => absurd hc h9)
  refine lv_iconst (v := 0) hx hb dX1_boil_47 (by decide) ?_
  exact tS fx (t_requireState l hst g 0 rfl) (lw_S q741 q742 q50 q743) hdX1_requireState ⟨(Nat.le_of_ble_eq_true rfl), (Nat.le_of_ble_eq_true rfl)⟩ ⟨(Nat.le_of_ble_eq_true rfl), (Nat.le_of_ble_eq_true rfl)⟩ hl.1 hS rfl (Nat.le_of_ble_eq_true rfl) trivial dX1_boil_48 hex hlocks (Nat.le_of_ble_eq_true rfl) (Nat.le_of_ble_eq_true rfl)

set_option maxHeartbeats 4000000 in
theorem m_X_boil2 (l : Launch) (g : GT) (sz ax ap : Nat) (la : LT) (sc : Nat → Int32) (sw : Int64) (ar fd tr ld : Nat → Nat → Int32) (n : CN) (xi : Nat → Int32) (sm : Int64) (pd : Nat → Int32) (hc : ¬ xi 1 / 100 ≤ 0) : Cn l g yX1_boil cX1_boil 3 ((some .int)) 2 0 0 [.ref ax, .int 2] (fA (xF ax ap la n) sz) (fun H => sz = H.size ∧ xw g (bA g) ax ap la (sc, sw, ar, fd, tr, ld, n) xi sm pd H) (fun Hp rv Hq => rv = some (.int (lackC (sc 12) (4 * (xi 1 / 100)))) ∧ xw g (fA (xF ax ap la n) sz) ax ap la (cBurn (va_up sc 10 (sc 10 + 30 * (xi 1 / 100))) (4 * (xi 1 / 100)), sw, ar, fd, tr, ld, n) (va_up (va_up xi 1 (xi 1 - 100 * (xi 1 / 100))) 2 (xi 2 + 70 * (xi 1 / 100))) sm pd Hq) := by
  refine Cn.start (plainFor_of_name (by decide +kernel)) (Nat.le_of_ble_eq_true rfl) ?_
  intro p ev s m below meth c ls H locs hH hx hb hr hts hown hlocks hml hnm hK hP hS hl
  obtain ⟨hsz, hxw⟩ := hP
  have hszs : sz = s.heap.size := by rw [hsz, hH]
  have hAs : ∀ q, s.heap.size ≤ q → (fA (xF ax ap la n) sz) q := fun q h => Or.inr (by rw [hszs]; exact h)
  have hAb : ∀ q, (fA (xF ax ap la n) sz) q → bA g q := fun q h => h.elim (hxw.ft q) (fun h => Nat.le_trans hK.2.2.sz (by rw [← hszs]; exact h))
  obtain ⟨hw, h_x, h_p, inx, inp, nxp, nfx, nfp⟩ := hxw.self sz
  have fx : Fx p s m ([.ref ax, .int 2] : List Value).toArray c cX1_boil RX1 g (fA (xF ax ap la n) sz) 3 := ⟨hx, hb, hts, hown, hK, hAb, hml⟩
  have hl : lv_has ls 3 [(0, .ref ax), (1, .int 2)] := hl
  refine lv_iload_n hx hb dX1_boil_0 rfl (lv_at hl 1 rfl) ?_
  refine lv_iconst (v := 3) hx hb dX1_boil_1 (by decide) ?_
  refine kS fx (m_requireIndex l g 2 3 (by decide) (by decide)) (lw_S q696 q697 q50 q698) hdX1_requireIndex ⟨(Nat.le_of_ble_eq_true rfl), (Nat.le_of_ble_eq_true rfl)⟩ ⟨(Nat.le_of_ble_eq_true rfl), (Nat.le_of_ble_eq_true rfl)⟩ hl.1 hS rfl (Nat.le_of_ble_eq_true rfl) trivial (fun _ h => h.elim) dX1_boil_2 (fun rv9 H locs hQ hz9 hk9 hS => ?_)
  obtain ⟨rfl, rfl⟩ := hQ
  refine W.eq (g2 := F0 m 5 ls []) rfl ?_
  refine lv_iload_n hx hb dX1_boil_5 rfl (lv_at hl 1 rfl) ?_
  refine lv_if_ne (tgt := 19) hx hb dX1_boil_6 (by decide) (fun _ => ?_) (fun h9 => absurd h9 (by decide))
  refine lv_iload_n hx hb dX1_boil_19 rfl (lv_at hl 1 rfl) ?_
  refine lv_iconst (v := 1) hx hb dX1_boil_20 (by decide) ?_
  refine lv_icmp_ne (tgt := 31) hx hb dX1_boil_21 (by decide) (fun _ => ?_) (fun h9 => absurd h9 (by decide))
  refine lv_aload_n hx hb dX1_boil_31 rfl (lv_at hl 0 rfl) ?_
  refine mget fx tfX1 h_x 3 (by decide) q212 (fun _ h => h) (v := .int (xi 1)) rfl dX1_boil_32 ?_
  refine lv_bipush (v := 100) hx hb dX1_boil_35 (by decide) ?_
  refine lv_idiv hx hb dX1_boil_37 (by decide) ?_
  refine lv_istore_n (lv' := [(2, .int ((xi 1) / 100)), (0, .ref ax), (1, .int 2)]) hx hb dX1_boil_38 rfl hl (by decide) rfl (fun ls hl => ?_)
  refine lv_iload_n hx hb dX1_boil_39 rfl (lv_at hl 0 rfl) ?_
  refine lv_if_le (tgt := 47) hx hb dX1_boil_40 (by decide) (fun h9 => absurd h9 hc) (fun _ => ?_)
  refine lv_iconst (v := 1) hx hb dX1_boil_43 (by decide) ?_
  refine lv_goto (tgt := 48) hx hb dX1_boil_44 (by decide) ?_
  refine kS fx (m_requireState l g 1 (by decide)) (lw_S q741 q742 q50 q743) hdX1_requireState ⟨(Nat.le_of_ble_eq_true rfl), (Nat.le_of_ble_eq_true rfl)⟩ ⟨(Nat.le_of_ble_eq_true rfl), (Nat.le_of_ble_eq_true rfl)⟩ hl.1 hS rfl (Nat.le_of_ble_eq_true rfl) trivial (fun _ h => h.elim) dX1_boil_48 (fun rv9 H locs hQ hz9 hk9 hS => ?_)
  obtain ⟨rfl, rfl⟩ := hQ
  refine W.eq (g2 := F0 m 51 ls []) rfl ?_
  refine lv_iload_n hx hb dX1_boil_51 rfl (lv_at hl 2 rfl) ?_
  refine lv_if_ne (tgt := 100) hx hb dX1_boil_52 (by decide) (fun _ => ?_) (fun h9 => absurd h9 (by decide))
  refine lv_iload_n hx hb dX1_boil_100 rfl (lv_at hl 2 rfl) ?_
  refine lv_iconst (v := 1) hx hb dX1_boil_101 (by decide) ?_
  refine lv_icmp_ne (tgt := 147) hx hb dX1_boil_102 (by decide) (fun _ => ?_) (fun h9 => absurd h9 (by decide))
  refine lv_aload_n hx hb dX1_boil_147 rfl (lv_at hl 1 rfl) ?_
  refine lv_dup hx hb dX1_boil_148 rfl ?_
  refine mget fx tfX1 h_x 3 (by decide) q212 (fun _ h => h) (v := .int (xi 1)) rfl dX1_boil_149 ?_
  refine lv_bipush (v := 100) hx hb dX1_boil_152 (by decide) ?_
  refine lv_iload_n hx hb dX1_boil_154 rfl (lv_at hl 0 rfl) ?_
  refine lv_imul hx hb dX1_boil_155 ?_
  refine lv_isub hx hb dX1_boil_156 ?_
  refine mput fx tfX1 h_x hS inx 3 (by decide) q212 (fun _ h => h) rfl rfl rfl (Nat.le_of_ble_eq_true rfl) dX1_boil_157 (fun H locs hat hz hoq hS => ?_)
  replace h_p := h_p.kept (hoq _ (Ne.symm nxp))
  replace h_x : mAt g ax (.inr (0, [.ref (la.1 0 0), .ref ap, .int (xi 0), .int ((xi 1) - (100 * ((xi 1) / 100))), .int (xi 2), .int (xi 3), .int (xi 4), .int (xi 5), .int (xi 6), .long sm])) H := hat
  replace hw : cw g (fA (xF ax ap la n) sz) la (sc, sw, ar, fd, tr, ld, n) H := cw.kept hw (fun q h9 hf9 => hoq _ (nfx q hf9))
  refine lv_aload_n hx hb dX1_boil_160 rfl (lv_at hl 1 rfl) ?_
  refine mget fx tfX1 h_x 0 (by decide) q209 (fun _ h => h) (v := .ref (la.1 0 0)) rfl dX1_boil_161 ?_
  refine lv_dup hx hb dX1_boil_164 rfl ?_
  refine mgetN fx tfX2 (cw.w hw) 16 (by decide) q152 (fun _ h => h) (v := .int (sc 10)) rfl dX1_boil_165 ?_
  refine lv_bipush (v := 30) hx hb dX1_boil_168 (by decide) ?_
  refine lv_iload_n hx hb dX1_boil_170 rfl (lv_at hl 0 rfl) ?_
  refine lv_imul hx hb dX1_boil_171 ?_
  refine lv_iadd hx hb dX1_boil_172 ?_
  refine mputN fx tfX2 (cw.w hw) hS (cw.inW hw (by decide)) 16 (by decide) q152 (fun _ h => h) rfl rfl rfl (Nat.le_of_ble_eq_true rfl) dX1_boil_173 (fun H locs hat hz hoq hS => ?_)
  replace h_x := h_x.kept (hoq _ (Ne.symm (nfx _ ⟨0, 0, (by show 0 < 7; decide), rfl⟩)))
  replace h_p := h_p.kept (hoq _ (Ne.symm (nfp _ ⟨0, 0, (by show 0 < 7; decide), rfl⟩)))
  replace hw : cw g (fA (xF ax ap la n) sz) la (va_up sc 10 ((sc 10) + (30 * ((xi 1) / 100))), sw, ar, fd, tr, ld, n) H := cw.setW hw hat (fun q _ h9 => hoq q h9)
  refine lv_aload_n hx hb dX1_boil_176 rfl (lv_at hl 1 rfl) ?_
  refine lv_dup hx hb dX1_boil_177 rfl ?_
  refine mget fx tfX1 h_x 4 (by decide) q213 (fun _ h => h) (v := .int (xi 2)) rfl dX1_boil_178 ?_
  refine lv_bipush (v := 70) hx hb dX1_boil_181 (by decide) ?_
  refine lv_iload_n hx hb dX1_boil_183 rfl (lv_at hl 0 rfl) ?_
  refine lv_imul hx hb dX1_boil_184 ?_
  refine lv_iadd hx hb dX1_boil_185 ?_
  refine mput fx tfX1 h_x hS inx 4 (by decide) q213 (fun _ h => h) rfl rfl rfl (Nat.le_of_ble_eq_true rfl) dX1_boil_186 (fun H locs hat hz hoq hS => ?_)
  replace h_p := h_p.kept (hoq _ (Ne.symm nxp))
  replace h_x : mAt g ax (.inr (0, [.ref (la.1 0 0), .ref ap, .int (xi 0), .int ((xi 1) - (100 * ((xi 1) / 100))), .int ((xi 2) + (70 * ((xi 1) / 100))), .int (xi 3), .int (xi 4), .int (xi 5), .int (xi 6), .long sm])) H := hat
  replace hw : cw g (fA (xF ax ap la n) sz) la (va_up sc 10 ((sc 10) + (30 * ((xi 1) / 100))), sw, ar, fd, tr, ld, n) H := cw.kept hw (fun q h9 hf9 => hoq _ (nfx q hf9))
  refine lv_aload_n hx hb dX1_boil_189 rfl (lv_at hl 1 rfl) ?_
  refine mget fx tfX1 h_x 0 (by decide) q209 (fun _ h => h) (v := .ref (la.1 0 0)) rfl dX1_boil_190 ?_
  refine lv_iconst (v := 4) hx hb dX1_boil_193 (by decide) ?_
  refine lv_iload_n hx hb dX1_boil_194 rfl (lv_at hl 0 rfl) ?_
  refine lv_imul hx hb dX1_boil_195 ?_
  have hbk := cw.back hw (fun q h9 => hAs q (Nat.le_trans hS.1 h9))
  refine kV fx (m_W_burn l g _ la (va_up sc 10 ((sc 10) + (30 * ((xi 1) / 100)))) sw ar fd tr ld n (4 * ((xi 1) / 100))) (lw_V q831 q594 q595 q51 q596) hdX2_burn ⟨(Nat.le_of_ble_eq_true rfl), (Nat.le_of_ble_eq_true rfl)⟩ ⟨(Nat.le_of_ble_eq_true rfl), (Nat.le_of_ble_eq_true rfl)⟩ hl.1 hS tfX2.2.1 (cw.w hw) rfl (Nat.le_of_ble_eq_true rfl) (⟨rfl, cw.weaken hw fx.2.2.2.2.2.1⟩) (fun q h9 => hbk q h9) dX1_boil_196 (fun rv9 H locs hQ hz9 hk9 hS => ?_)
  obtain ⟨rfl, hw9⟩ := hQ
  replace h_x := h_x.kept (hk9 _ h_x.lt (fun h9 => h9.elim (fun h8 => nfx _ h8 rfl) (Nat.not_le.mpr h_x.lt)))
  replace h_p := h_p.kept (hk9 _ h_p.lt (fun h9 => h9.elim (fun h8 => nfp _ h8 rfl) (Nat.not_le.mpr h_p.lt)))
  replace hw : cw g (fA (xF ax ap la n) sz) la (cBurn (va_up sc 10 ((sc 10) + (30 * ((xi 1) / 100)))) (4 * ((xi 1) / 100)), sw, ar, fd, tr, ld, n) H := cw.weaken hw9 hbk
  refine W.eq (g2 := F0 m 199 ls [.int (lackC (sc 12) (4 * ((xi 1) / 100)))]) rfl ?_
  exact ri hx hb hr hlocks hS (⟨rfl, hw, h_x, h_p, inx, inp, nxp, nfx, nfp⟩) ⟨(Nat.le_of_ble_eq_true rfl), (Nat.le_of_ble_eq_true rfl)⟩ dX1_boil_199

set_option maxHeartbeats 4000000 in
theorem t_X_boil22 (l : Launch) (hst : l.stackTraces = false) (g : GT) (ax ap : Nat) (la : LT) (sc : Nat → Int32) (sw : Int64) (ar fd tr ld : Nat → Nat → Int32) (n : CN) (xi : Nat → Int32) (sm : Int64) (pd : Nat → Int32) (hc : xi 1 / 100 ≤ 0) : Tn l g yX1_boil cX1_boil 3 ((some .int)) 8 [.ref ax, .int 2] "java/lang/IllegalStateException" (fun H => xw g (bA g) ax ap la (sc, sw, ar, fd, tr, ld, n) xi sm pd H) := by
  refine Tn.start (by decide +kernel) (Nat.le_of_ble_eq_true rfl) ?_
  intro p ev s m below meth c ls H locs hH hx hb hts hown hlocks hml hex hK hP hS hl
  have hxw := hP
  obtain ⟨hw, h_x, h_p, inx, inp, nxp, nfx, nfp⟩ := hxw
  have fx : Fx p s m ([.ref ax, .int 2] : List Value).toArray c cX1_boil RX1 g (fun _ => False) 3 := ⟨hx, hb, hts, hown, hK, fun _ h => h.elim, hml⟩
  have hl : lv_has ls 3 [(0, .ref ax), (1, .int 2)] := hl
  refine lv_iload_n hx hb dX1_boil_0 rfl (lv_at hl 1 rfl) ?_
  refine lv_iconst (v := 3) hx hb dX1_boil_1 (by decide) ?_
  refine kS fx (m_requireIndex l g 2 3 (by decide) (by decide)) (lw_S q696 q697 q50 q698) hdX1_requireIndex ⟨(Nat.le_of_ble_eq_true rfl), (Nat.le_of_ble_eq_true rfl)⟩ ⟨(Nat.le_of_ble_eq_true rfl), (Nat.le_of_ble_eq_true rfl)⟩ hl.1 hS rfl (Nat.le_of_ble_eq_true rfl) trivial (fun _ h => h.elim) dX1_boil_2 (fun rv9 H locs hQ hz9 hk9 hS => ?_)
  obtain ⟨rfl, rfl⟩ := hQ
  refine W.eq (g2 := F0 m 5 ls []) rfl ?_
  refine lv_iload_n hx hb dX1_boil_5 rfl (lv_at hl 1 rfl) ?_
  refine lv_if_ne (tgt := 19) hx hb dX1_boil_6 (by decide) (fun _ => ?_) (fun h9 => absurd h9 (by decide))
  refine lv_iload_n hx hb dX1_boil_19 rfl (lv_at hl 1 rfl) ?_
  refine lv_iconst (v := 1) hx hb dX1_boil_20 (by decide) ?_
  refine lv_icmp_ne (tgt := 31) hx hb dX1_boil_21 (by decide) (fun _ => ?_) (fun h9 => absurd h9 (by decide))
  refine lv_aload_n hx hb dX1_boil_31 rfl (lv_at hl 0 rfl) ?_
  refine mget fx tfX1 h_x 3 (by decide) q212 (fun _ h => h) (v := .int (xi 1)) rfl dX1_boil_32 ?_
  refine lv_bipush (v := 100) hx hb dX1_boil_35 (by decide) ?_
  refine lv_idiv hx hb dX1_boil_37 (by decide) ?_
  refine lv_istore_n (lv' := [(2, .int ((xi 1) / 100)), (0, .ref ax), (1, .int 2)]) hx hb dX1_boil_38 rfl hl (by decide) rfl (fun ls hl => ?_)
  refine lv_iload_n hx hb dX1_boil_39 rfl (lv_at hl 0 rfl) ?_
  refine lv_if_le (tgt := 47) hx hb dX1_boil_40 (by decide) (fun _ => ?_) (fun h9 => absurd hc h9)
  refine lv_iconst (v := 0) hx hb dX1_boil_47 (by decide) ?_
  exact tS fx (t_requireState l hst g 0 rfl) (lw_S q741 q742 q50 q743) hdX1_requireState ⟨(Nat.le_of_ble_eq_true rfl), (Nat.le_of_ble_eq_true rfl)⟩ ⟨(Nat.le_of_ble_eq_true rfl), (Nat.le_of_ble_eq_true rfl)⟩ hl.1 hS rfl (Nat.le_of_ble_eq_true rfl) trivial dX1_boil_48 hex hlocks (Nat.le_of_ble_eq_true rfl) (Nat.le_of_ble_eq_true rfl)

set_option maxHeartbeats 4000000 in
theorem t_X_boil1 (l : Launch) (hst : l.stackTraces = false) (g : GT) (ax ap : Nat) (la : LT) (sc : Nat → Int32) (sw : Int64) (ar fd tr ld : Nat → Nat → Int32) (n : CN) (xi : Nat → Int32) (sm : Int64) (pd : Nat → Int32) (z : Int32) (hok : z < 0 ∨ ¬ z < 3) : Tn l g yX1_boil cX1_boil 3 ((some .int)) 8 [.ref ax, .int z] "java/lang/IndexOutOfBoundsException" (fun H => xw g (bA g) ax ap la (sc, sw, ar, fd, tr, ld, n) xi sm pd H) := by
  refine Tn.start (by decide +kernel) (Nat.le_of_ble_eq_true rfl) ?_
  intro p ev s m below meth c ls H locs hH hx hb hts hown hlocks hml hex hK hP hS hl
  have hxw := hP
  obtain ⟨hw, h_x, h_p, inx, inp, nxp, nfx, nfp⟩ := hxw
  have fx : Fx p s m ([.ref ax, .int z] : List Value).toArray c cX1_boil RX1 g (fun _ => False) 3 := ⟨hx, hb, hts, hown, hK, fun _ h => h.elim, hml⟩
  have hl : lv_has ls 3 [(0, .ref ax), (1, .int z)] := hl
  refine lv_iload_n hx hb dX1_boil_0 rfl (lv_at hl 1 rfl) ?_
  refine lv_iconst (v := 3) hx hb dX1_boil_1 (by decide) ?_
  exact tS fx (t_requireIndex l hst g z 3 hok) (lw_S q696 q697 q50 q698) hdX1_requireIndex ⟨(Nat.le_of_ble_eq_true rfl), (Nat.le_of_ble_eq_true rfl)⟩ ⟨(Nat.le_of_ble_eq_true rfl), (Nat.le_of_ble_eq_true rfl)⟩ hl.1 hS rfl (Nat.le_of_ble_eq_true rfl) trivial dX1_boil_2 hex hlocks (Nat.le_of_ble_eq_true rfl) (Nat.le_of_ble_eq_true rfl)

set_option maxHeartbeats 4000000 in
theorem m_X_sell0 (l : Launch) (g : GT) (sz ax ap : Nat) (la : LT) (sc : Nat → Int32) (sw : Int64) (ar fd tr ld : Nat → Nat → Int32) (n : CN) (xi : Nat → Int32) (sm : Int64) (pd : Nat → Int32) (y : Int32) (hy : ¬ y < 1) (hc : ¬ xi 3 < y) : Cn l g yX1_sell cX1_sell 3 ((some .int)) 2 0 0 [.ref ax, .int 0, .int y] (fA (xF ax ap la n) sz) (fun H => sz = H.size ∧ xw g (bA g) ax ap la (sc, sw, ar, fd, tr, ld, n) xi sm pd H) (fun Hp rv Hq => rv = some (.int (sc 14 + y * 3)) ∧ xw g (fA (xF ax ap la n) sz) ax ap la (va_up (sc) 14 (sc 14 + y * 3), sw, ar, fd, tr, ld, n) (va_up xi 3 (xi 3 - y)) sm pd Hq) := by
  refine Cn.start (plainFor_of_name (by decide +kernel)) (Nat.le_of_ble_eq_true rfl) ?_
  intro p ev s m below meth c ls H locs hH hx hb hr hts hown hlocks hml hnm hK hP hS hl
  obtain ⟨hsz, hxw⟩ := hP
  have hszs : sz = s.heap.size := by rw [hsz, hH]
  have hAs : ∀ q, s.heap.size ≤ q → (fA (xF ax ap la n) sz) q := fun q h => Or.inr (by rw [hszs]; exact h)
  have hAb : ∀ q, (fA (xF ax ap la n) sz) q → bA g q := fun q h => h.elim (hxw.ft q) (fun h => Nat.le_trans hK.2.2.sz (by rw [← hszs]; exact h))
  obtain ⟨hw, h_x, h_p, inx, inp, nxp, nfx, nfp⟩ := hxw.self sz
  have fx : Fx p s m ([.ref ax, .int 0, .int y] : List Value).toArray c cX1_sell RX1 g (fA (xF ax ap la n) sz) 3 := ⟨hx, hb, hts, hown, hK, hAb, hml⟩
  have hl : lv_has ls 3 [(0, .ref ax), (1, .int 0), (2, .int y)] := hl
  refine lv_iload_n hx hb dX1_sell_0 rfl (lv_at hl 1 rfl) ?_
  refine lv_iconst (v := 3) hx hb dX1_sell_1 (by decide) ?_
  refine kS fx (m_requireIndex l g 0 3 (by decide) (by decide)) (lw_S q696 q697 q50 q698) hdX1_requireIndex ⟨(Nat.le_of_ble_eq_true rfl), (Nat.le_of_ble_eq_true rfl)⟩ ⟨(Nat.le_of_ble_eq_true rfl), (Nat.le_of_ble_eq_true rfl)⟩ hl.1 hS rfl (Nat.le_of_ble_eq_true rfl) trivial (fun _ h => h.elim) dX1_sell_2 (fun rv9 H locs hQ hz9 hk9 hS => ?_)
  obtain ⟨rfl, rfl⟩ := hQ
  refine W.eq (g2 := F0 m 5 ls []) rfl ?_
  refine lv_iload_n hx hb dX1_sell_5 rfl (lv_at hl 2 rfl) ?_
  refine lv_iconst (v := 1) hx hb dX1_sell_6 (by decide) ?_
  refine lv_icmp_lt (tgt := 14) hx hb dX1_sell_7 (by decide) (fun h9 => absurd h9 hy) (fun _ => ?_)
  refine lv_iconst (v := 1) hx hb dX1_sell_10 (by decide) ?_
  refine lv_goto (tgt := 15) hx hb dX1_sell_11 (by decide) ?_
  refine kS fx (m_require l g 1 (by decide)) (lw_S q723 q724 q50 q725) hdX1_require ⟨(Nat.le_of_ble_eq_true rfl), (Nat.le_of_ble_eq_true rfl)⟩ ⟨(Nat.le_of_ble_eq_true rfl), (Nat.le_of_ble_eq_true rfl)⟩ hl.1 hS rfl (Nat.le_of_ble_eq_true rfl) trivial (fun _ h => h.elim) dX1_sell_15 (fun rv9 H locs hQ hz9 hk9 hS => ?_)
  obtain ⟨rfl, rfl⟩ := hQ
  refine W.eq (g2 := F0 m 18 ls []) rfl ?_
  refine lv_iload_n hx hb dX1_sell_18 rfl (lv_at hl 2 rfl) ?_
  refine lv_iload_n hx hb dX1_sell_19 rfl (lv_at hl 1 rfl) ?_
  refine lv_if_ne (tgt := 30) hx hb dX1_sell_20 (by decide) (fun h9 => absurd rfl h9) (fun _ => ?_)
  refine lv_aload_n hx hb dX1_sell_23 rfl (lv_at hl 0 rfl) ?_
  refine mget fx tfX1 h_x 5 (by decide) q214 (fun _ h => h) (v := .int (xi 3)) rfl dX1_sell_24 ?_
  refine lv_goto (tgt := 49) hx hb dX1_sell_27 (by decide) ?_
  refine lv_icmp_gt (tgt := 56) hx hb dX1_sell_49 (by decide) (fun h9 => absurd h9 hc) (fun _ => ?_)
  refine lv_iconst (v := 1) hx hb dX1_sell_52 (by decide) ?_
  refine lv_goto (tgt := 57) hx hb dX1_sell_53 (by decide) ?_
  refine kS fx (m_requireState l g 1 (by decide)) (lw_S q741 q742 q50 q743) hdX1_requireState ⟨(Nat.le_of_ble_eq_true rfl), (Nat.le_of_ble_eq_true rfl)⟩ ⟨(Nat.le_of_ble_eq_true rfl), (Nat.le_of_ble_eq_true rfl)⟩ hl.1 hS rfl (Nat.le_of_ble_eq_true rfl) trivial (fun _ h => h.elim) dX1_sell_57 (fun rv9 H locs hQ hz9 hk9 hS => ?_)
  obtain ⟨rfl, rfl⟩ := hQ
  refine W.eq (g2 := F0 m 60 ls []) rfl ?_
  refine lv_iload_n hx hb dX1_sell_60 rfl (lv_at hl 1 rfl) ?_
  refine lv_if_ne (tgt := 77) hx hb dX1_sell_61 (by decide) (fun h9 => absurd rfl h9) (fun _ => ?_)
  refine lv_aload_n hx hb dX1_sell_64 rfl (lv_at hl 0 rfl) ?_
  refine lv_dup hx hb dX1_sell_65 rfl ?_
  refine mget fx tfX1 h_x 5 (by decide) q214 (fun _ h => h) (v := .int (xi 3)) rfl dX1_sell_66 ?_
  refine lv_iload_n hx hb dX1_sell_69 rfl (lv_at hl 2 rfl) ?_
  refine lv_isub hx hb dX1_sell_70 ?_
  refine mput fx tfX1 h_x hS inx 5 (by decide) q214 (fun _ h => h) rfl rfl rfl (Nat.le_of_ble_eq_true rfl) dX1_sell_71 (fun H locs hat hz hoq hS => ?_)
  replace h_p := h_p.kept (hoq _ (Ne.symm nxp))
  replace h_x : mAt g ax (.inr (0, [.ref (la.1 0 0), .ref ap, .int (xi 0), .int (xi 1), .int (xi 2), .int ((xi 3) - y), .int (xi 4), .int (xi 5), .int (xi 6), .long sm])) H := hat
  replace hw : cw g (fA (xF ax ap la n) sz) la (sc, sw, ar, fd, tr, ld, n) H := cw.kept hw (fun q h9 hf9 => hoq _ (nfx q hf9))
  refine lv_goto (tgt := 108) hx hb dX1_sell_74 (by decide) ?_
  refine lv_aload_n hx hb dX1_sell_108 rfl (lv_at hl 0 rfl) ?_
  refine mget fx tfX1 h_x 0 (by decide) q209 (fun _ h => h) (v := .ref (la.1 0 0)) rfl dX1_sell_109 ?_
  refine lv_dup hx hb dX1_sell_112 rfl ?_
  refine mgetN fx tfX2 (cw.w hw) 20 (by decide) q160 (fun _ h => h) (v := .int (sc 14)) rfl dX1_sell_113 ?_
  refine lv_iload_n hx hb dX1_sell_116 rfl (lv_at hl 2 rfl) ?_
  refine lv_iload_n hx hb dX1_sell_117 rfl (lv_at hl 1 rfl) ?_
  refine lv_if_ne (tgt := 125) hx hb dX1_sell_118 (by decide) (fun h9 => absurd rfl h9) (fun _ => ?_)
  refine lv_iconst (v := 3) hx hb dX1_sell_121 (by decide) ?_
  refine lv_goto (tgt := 135) hx hb dX1_sell_122 (by decide) ?_
  refine lv_imul hx hb dX1_sell_135 ?_
  refine lv_iadd hx hb dX1_sell_136 ?_
  refine mputN fx tfX2 (cw.w hw) hS (cw.inW hw (by decide)) 20 (by decide) q160 (fun _ h => h) rfl rfl rfl (Nat.le_of_ble_eq_true rfl) dX1_sell_137 (fun H locs hat hz hoq hS => ?_)
  replace h_x := h_x.kept (hoq _ (Ne.symm (nfx _ ⟨0, 0, (by show 0 < 7; decide), rfl⟩)))
  replace h_p := h_p.kept (hoq _ (Ne.symm (nfp _ ⟨0, 0, (by show 0 < 7; decide), rfl⟩)))
  replace hw : cw g (fA (xF ax ap la n) sz) la (va_up sc 14 ((sc 14) + (y * 3)), sw, ar, fd, tr, ld, n) H := cw.setW hw hat (fun q _ h9 => hoq q h9)
  refine lv_aload_n hx hb dX1_sell_140 rfl (lv_at hl 0 rfl) ?_
  refine mget fx tfX1 h_x 0 (by decide) q209 (fun _ h => h) (v := .ref (la.1 0 0)) rfl dX1_sell_141 ?_
  refine mgetN fx tfX2 (cw.w hw) 20 (by decide) q160 (fun _ h => h) (v := .int ((sc 14) + (y * 3))) rfl dX1_sell_144 ?_
  exact ri hx hb hr hlocks hS (⟨rfl, hw, h_x, h_p, inx, inp, nxp, nfx, nfp⟩) ⟨(Nat.le_of_ble_eq_true rfl), (Nat.le_of_ble_eq_true rfl)⟩ dX1_sell_147

set_option maxHeartbeats 4000000 in
theorem t_X_sell30 (l : Launch) (hst : l.stackTraces = false) (g : GT) (ax ap : Nat) (la : LT) (sc : Nat → Int32) (sw : Int64) (ar fd tr ld : Nat → Nat → Int32) (n : CN) (xi : Nat → Int32) (sm : Int64) (pd : Nat → Int32) (y : Int32) (hy : ¬ y < 1) (hc : xi 3 < y) : Tn l g yX1_sell cX1_sell 3 ((some .int)) 8 [.ref ax, .int 0, .int y] "java/lang/IllegalStateException" (fun H => xw g (bA g) ax ap la (sc, sw, ar, fd, tr, ld, n) xi sm pd H) := by
  refine Tn.start (by decide +kernel) (Nat.le_of_ble_eq_true rfl) ?_
  intro p ev s m below meth c ls H locs hH hx hb hts hown hlocks hml hex hK hP hS hl
  have hxw := hP
  obtain ⟨hw, h_x, h_p, inx, inp, nxp, nfx, nfp⟩ := hxw
  have fx : Fx p s m ([.ref ax, .int 0, .int y] : List Value).toArray c cX1_sell RX1 g (fun _ => False) 3 := ⟨hx, hb, hts, hown, hK, fun _ h => h.elim, hml⟩
  have hl : lv_has ls 3 [(0, .ref ax), (1, .int 0), (2, .int y)] := hl
  refine lv_iload_n hx hb dX1_sell_0 rfl (lv_at hl 1 rfl) ?_
  refine lv_iconst (v := 3) hx hb dX1_sell_1 (by decide) ?_
  refine kS fx (m_requireIndex l g 0 3 (by decide) (by decide)) (lw_S q696 q697 q50 q698) hdX1_requireIndex ⟨(Nat.le_of_ble_eq_true rfl), (Nat.le_of_ble_eq_true rfl)⟩ ⟨(Nat.le_of_ble_eq_true rfl), (Nat.le_of_ble_eq_true rfl)⟩ hl.1 hS rfl (Nat.le_of_ble_eq_true rfl) trivial (fun _ h => h.elim) dX1_sell_2 (fun rv9 H locs hQ hz9 hk9 hS => ?_)
  obtain ⟨rfl, rfl⟩ := hQ
  refine W.eq (g2 := F0 m 5 ls []) rfl ?_
  refine lv_iload_n hx hb dX1_sell_5 rfl (lv_at hl 2 rfl) ?_
  refine lv_iconst (v := 1) hx hb dX1_sell_6 (by decide) ?_
  refine lv_icmp_lt (tgt := 14) hx hb dX1_sell_7 (by decide) (fun h9 => absurd h9 hy) (fun _ => ?_)
  refine lv_iconst (v := 1) hx hb dX1_sell_10 (by decide) ?_
  refine lv_goto (tgt := 15) hx hb dX1_sell_11 (by decide) ?_
  refine kS fx (m_require l g 1 (by decide)) (lw_S q723 q724 q50 q725) hdX1_require ⟨(Nat.le_of_ble_eq_true rfl), (Nat.le_of_ble_eq_true rfl)⟩ ⟨(Nat.le_of_ble_eq_true rfl), (Nat.le_of_ble_eq_true rfl)⟩ hl.1 hS rfl (Nat.le_of_ble_eq_true rfl) trivial (fun _ h => h.elim) dX1_sell_15 (fun rv9 H locs hQ hz9 hk9 hS => ?_)
  obtain ⟨rfl, rfl⟩ := hQ
  refine W.eq (g2 := F0 m 18 ls []) rfl ?_
  refine lv_iload_n hx hb dX1_sell_18 rfl (lv_at hl 2 rfl) ?_
  refine lv_iload_n hx hb dX1_sell_19 rfl (lv_at hl 1 rfl) ?_
  refine lv_if_ne (tgt := 30) hx hb dX1_sell_20 (by decide) (fun h9 => absurd rfl h9) (fun _ => ?_)
  refine lv_aload_n hx hb dX1_sell_23 rfl (lv_at hl 0 rfl) ?_
  refine mget fx tfX1 h_x 5 (by decide) q214 (fun _ h => h) (v := .int (xi 3)) rfl dX1_sell_24 ?_
  refine lv_goto (tgt := 49) hx hb dX1_sell_27 (by decide) ?_
  refine lv_icmp_gt (tgt := 56) hx hb dX1_sell_49 (by decide) (fun _ => ?_) (fun h9 => absurd hc h9)
  refine lv_iconst (v := 0) hx hb dX1_sell_56 (by decide) ?_
  exact tS fx (t_requireState l hst g 0 rfl) (lw_S q741 q742 q50 q743) hdX1_requireState ⟨(Nat.le_of_ble_eq_true rfl), (Nat.le_of_ble_eq_true rfl)⟩ ⟨(Nat.le_of_ble_eq_true rfl), (Nat.le_of_ble_eq_true rfl)⟩ hl.1 hS rfl (Nat.le_of_ble_eq_true rfl) trivial dX1_sell_57 hex hlocks (Nat.le_of_ble_eq_true rfl) (Nat.le_of_ble_eq_true rfl)

set_option maxHeartbeats 4000000 in
theorem m_X_sell1 (l : Launch) (g : GT) (sz ax ap : Nat) (la : LT) (sc : Nat → Int32) (sw : Int64) (ar fd tr ld : Nat → Nat → Int32) (n : CN) (xi : Nat → Int32) (sm : Int64) (pd : Nat → Int32) (y : Int32) (hy : ¬ y < 1) (hc : ¬ xi 4 < y) : Cn l g yX1_sell cX1_sell 3 ((some .int)) 2 0 0 [.ref ax, .int 1, .int y] (fA (xF ax ap la n) sz) (fun H => sz = H.size ∧ xw g (bA g) ax ap la (sc, sw, ar, fd, tr, ld, n) xi sm pd H) (fun Hp rv Hq => rv = some (.int (sc 14 + y * 5)) ∧ xw g (fA (xF ax ap la n) sz) ax ap la (va_up (sc) 14 (sc 14 + y * 5), sw, ar, fd, tr, ld, n) (va_up xi 4 (xi 4 - y)) sm pd Hq) := by
  refine Cn.start (plainFor_of_name (by decide +kernel)) (Nat.le_of_ble_eq_true rfl) ?_
  intro p ev s m below meth c ls H locs hH hx hb hr hts hown hlocks hml hnm hK hP hS hl
  obtain ⟨hsz, hxw⟩ := hP
  have hszs : sz = s.heap.size := by rw [hsz, hH]
  have hAs : ∀ q, s.heap.size ≤ q → (fA (xF ax ap la n) sz) q := fun q h => Or.inr (by rw [hszs]; exact h)
  have hAb : ∀ q, (fA (xF ax ap la n) sz) q → bA g q := fun q h => h.elim (hxw.ft q) (fun h => Nat.le_trans hK.2.2.sz (by rw [← hszs]; exact h))
  obtain ⟨hw, h_x, h_p, inx, inp, nxp, nfx, nfp⟩ := hxw.self sz
  have fx : Fx p s m ([.ref ax, .int 1, .int y] : List Value).toArray c cX1_sell RX1 g (fA (xF ax ap la n) sz) 3 := ⟨hx, hb, hts, hown, hK, hAb, hml⟩
  have hl : lv_has ls 3 [(0, .ref ax), (1, .int 1), (2, .int y)] := hl
  refine lv_iload_n hx hb dX1_sell_0 rfl (lv_at hl 1 rfl) ?_
  refine lv_iconst (v := 3) hx hb dX1_sell_1 (by decide) ?_
  refine kS fx (m_requireIndex l g 1 3 (by decide) (by decide)) (lw_S q696 q697 q50 q698) hdX1_requireIndex ⟨(Nat.le_of_ble_eq_true rfl), (Nat.le_of_ble_eq_true rfl)⟩ ⟨(Nat.le_of_ble_eq_true rfl), (Nat.le_of_ble_eq_true rfl)⟩ hl.1 hS rfl (Nat.le_of_ble_eq_true rfl) trivial (fun _ h => h.elim) dX1_sell_2 (fun rv9 H locs hQ hz9 hk9 hS => ?_)
  obtain ⟨rfl, rfl⟩ := hQ
  refine W.eq (g2 := F0 m 5 ls []) rfl ?_
  refine lv_iload_n hx hb dX1_sell_5 rfl (lv_at hl 2 rfl) ?_
  refine lv_iconst (v := 1) hx hb dX1_sell_6 (by decide) ?_
  refine lv_icmp_lt (tgt := 14) hx hb dX1_sell_7 (by decide) (fun h9 => absurd h9 hy) (fun _ => ?_)
  refine lv_iconst (v := 1) hx hb dX1_sell_10 (by decide) ?_
  refine lv_goto (tgt := 15) hx hb dX1_sell_11 (by decide) ?_
  refine kS fx (m_require l g 1 (by decide)) (lw_S q723 q724 q50 q725) hdX1_require ⟨(Nat.le_of_ble_eq_true rfl), (Nat.le_of_ble_eq_true rfl)⟩ ⟨(Nat.le_of_ble_eq_true rfl), (Nat.le_of_ble_eq_true rfl)⟩ hl.1 hS rfl (Nat.le_of_ble_eq_true rfl) trivial (fun _ h => h.elim) dX1_sell_15 (fun rv9 H locs hQ hz9 hk9 hS => ?_)
  obtain ⟨rfl, rfl⟩ := hQ
  refine W.eq (g2 := F0 m 18 ls []) rfl ?_
  refine lv_iload_n hx hb dX1_sell_18 rfl (lv_at hl 2 rfl) ?_
  refine lv_iload_n hx hb dX1_sell_19 rfl (lv_at hl 1 rfl) ?_
  refine lv_if_ne (tgt := 30) hx hb dX1_sell_20 (by decide) (fun _ => ?_) (fun h9 => absurd h9 (by decide))
  refine lv_iload_n hx hb dX1_sell_30 rfl (lv_at hl 1 rfl) ?_
  refine lv_iconst (v := 1) hx hb dX1_sell_31 (by decide) ?_
  refine lv_icmp_ne (tgt := 42) hx hb dX1_sell_32 (by decide) (fun h9 => absurd rfl h9) (fun _ => ?_)
  refine lv_aload_n hx hb dX1_sell_35 rfl (lv_at hl 0 rfl) ?_
  refine mget fx tfX1 h_x 6 (by decide) q215 (fun _ h => h) (v := .int (xi 4)) rfl dX1_sell_36 ?_
  refine lv_goto (tgt := 49) hx hb dX1_sell_39 (by decide) ?_
  refine lv_icmp_gt (tgt := 56) hx hb dX1_sell_49 (by decide) (fun h9 => absurd h9 hc) (fun _ => ?_)
  refine lv_iconst (v := 1) hx hb dX1_sell_52 (by decide) ?_
  refine lv_goto (tgt := 57) hx hb dX1_sell_53 (by decide) ?_
  refine kS fx (m_requireState l g 1 (by decide)) (lw_S q741 q742 q50 q743) hdX1_requireState ⟨(Nat.le_of_ble_eq_true rfl), (Nat.le_of_ble_eq_true rfl)⟩ ⟨(Nat.le_of_ble_eq_true rfl), (Nat.le_of_ble_eq_true rfl)⟩ hl.1 hS rfl (Nat.le_of_ble_eq_true rfl) trivial (fun _ h => h.elim) dX1_sell_57 (fun rv9 H locs hQ hz9 hk9 hS => ?_)
  obtain ⟨rfl, rfl⟩ := hQ
  refine W.eq (g2 := F0 m 60 ls []) rfl ?_
  refine lv_iload_n hx hb dX1_sell_60 rfl (lv_at hl 1 rfl) ?_
  refine lv_if_ne (tgt := 77) hx hb dX1_sell_61 (by decide) (fun _ => ?_) (fun h9 => absurd h9 (by decide))
  refine lv_iload_n hx hb dX1_sell_77 rfl (lv_at hl 1 rfl) ?_
  refine lv_iconst (v := 1) hx hb dX1_sell_78 (by decide) ?_
  refine lv_icmp_ne (tgt := 95) hx hb dX1_sell_79 (by decide) (fun h9 => absurd rfl h9) (fun _ => ?_)
  refine lv_aload_n hx hb dX1_sell_82 rfl (lv_at hl 0 rfl) ?_
  refine lv_dup hx hb dX1_sell_83 rfl ?_
  refine mget fx tfX1 h_x 6 (by decide) q215 (fun _ h => h) (v := .int (xi 4)) rfl dX1_sell_84 ?_
  refine lv_iload_n hx hb dX1_sell_87 rfl (lv_at hl 2 rfl) ?_
  refine lv_isub hx hb dX1_sell_88 ?_
  refine mput fx tfX1 h_x hS inx 6 (by decide) q215 (fun _ h => h) rfl rfl rfl (Nat.le_of_ble_eq_true rfl) dX1_sell_89 (fun H locs hat hz hoq hS => ?_)
  replace h_p := h_p.kept (hoq _ (Ne.symm nxp))
  replace h_x : mAt g ax (.inr (0, [.ref (la.1 0 0), .ref ap, .int (xi 0), .int (xi 1), .int (xi 2), .int (xi 3), .int ((xi 4) - y), .int (xi 5), .int (xi 6), .long sm])) H := hat
  replace hw : cw g (fA (xF ax ap la n) sz) la (sc, sw, ar, fd, tr, ld, n) H := cw.kept hw (fun q h9 hf9 => hoq _ (nfx q hf9))
  refine lv_goto (tgt := 108) hx hb dX1_sell_92 (by decide) ?_
  refine lv_aload_n hx hb dX1_sell_108 rfl (lv_at hl 0 rfl) ?_
  refine mget fx tfX1 h_x 0 (by decide) q209 (fun _ h => h) (v := .ref (la.1 0 0)) rfl dX1_sell_109 ?_
  refine lv_dup hx hb dX1_sell_112 rfl ?_
  refine mgetN fx tfX2 (cw.w hw) 20 (by decide) q160 (fun _ h => h) (v := .int (sc 14)) rfl dX1_sell_113 ?_
  refine lv_iload_n hx hb dX1_sell_116 rfl (lv_at hl 2 rfl) ?_
  refine lv_iload_n hx hb dX1_sell_117 rfl (lv_at hl 1 rfl) ?_
  refine lv_if_ne (tgt := 125) hx hb dX1_sell_118 (by decide) (fun _ => ?_) (fun h9 => absurd h9 (by decide))
  refine lv_iload_n hx hb dX1_sell_125 rfl (lv_at hl 1 rfl) ?_
  refine lv_iconst (v := 1) hx hb dX1_sell_126 (by decide) ?_
  refine lv_icmp_ne (tgt := 134) hx hb dX1_sell_127 (by decide) (fun h9 => absurd rfl h9) (fun _ => ?_)
  refine lv_iconst (v := 5) hx hb dX1_sell_130 (by decide) ?_
  refine lv_goto (tgt := 135) hx hb dX1_sell_131 (by decide) ?_
  refine lv_imul hx hb dX1_sell_135 ?_
  refine lv_iadd hx hb dX1_sell_136 ?_
  refine mputN fx tfX2 (cw.w hw) hS (cw.inW hw (by decide)) 20 (by decide) q160 (fun _ h => h) rfl rfl rfl (Nat.le_of_ble_eq_true rfl) dX1_sell_137 (fun H locs hat hz hoq hS => ?_)
  replace h_x := h_x.kept (hoq _ (Ne.symm (nfx _ ⟨0, 0, (by show 0 < 7; decide), rfl⟩)))
  replace h_p := h_p.kept (hoq _ (Ne.symm (nfp _ ⟨0, 0, (by show 0 < 7; decide), rfl⟩)))
  replace hw : cw g (fA (xF ax ap la n) sz) la (va_up sc 14 ((sc 14) + (y * 5)), sw, ar, fd, tr, ld, n) H := cw.setW hw hat (fun q _ h9 => hoq q h9)
  refine lv_aload_n hx hb dX1_sell_140 rfl (lv_at hl 0 rfl) ?_
  refine mget fx tfX1 h_x 0 (by decide) q209 (fun _ h => h) (v := .ref (la.1 0 0)) rfl dX1_sell_141 ?_
  refine mgetN fx tfX2 (cw.w hw) 20 (by decide) q160 (fun _ h => h) (v := .int ((sc 14) + (y * 5))) rfl dX1_sell_144 ?_
  exact ri hx hb hr hlocks hS (⟨rfl, hw, h_x, h_p, inx, inp, nxp, nfx, nfp⟩) ⟨(Nat.le_of_ble_eq_true rfl), (Nat.le_of_ble_eq_true rfl)⟩ dX1_sell_147

set_option maxHeartbeats 4000000 in
theorem t_X_sell31 (l : Launch) (hst : l.stackTraces = false) (g : GT) (ax ap : Nat) (la : LT) (sc : Nat → Int32) (sw : Int64) (ar fd tr ld : Nat → Nat → Int32) (n : CN) (xi : Nat → Int32) (sm : Int64) (pd : Nat → Int32) (y : Int32) (hy : ¬ y < 1) (hc : xi 4 < y) : Tn l g yX1_sell cX1_sell 3 ((some .int)) 8 [.ref ax, .int 1, .int y] "java/lang/IllegalStateException" (fun H => xw g (bA g) ax ap la (sc, sw, ar, fd, tr, ld, n) xi sm pd H) := by
  refine Tn.start (by decide +kernel) (Nat.le_of_ble_eq_true rfl) ?_
  intro p ev s m below meth c ls H locs hH hx hb hts hown hlocks hml hex hK hP hS hl
  have hxw := hP
  obtain ⟨hw, h_x, h_p, inx, inp, nxp, nfx, nfp⟩ := hxw
  have fx : Fx p s m ([.ref ax, .int 1, .int y] : List Value).toArray c cX1_sell RX1 g (fun _ => False) 3 := ⟨hx, hb, hts, hown, hK, fun _ h => h.elim, hml⟩
  have hl : lv_has ls 3 [(0, .ref ax), (1, .int 1), (2, .int y)] := hl
  refine lv_iload_n hx hb dX1_sell_0 rfl (lv_at hl 1 rfl) ?_
  refine lv_iconst (v := 3) hx hb dX1_sell_1 (by decide) ?_
  refine kS fx (m_requireIndex l g 1 3 (by decide) (by decide)) (lw_S q696 q697 q50 q698) hdX1_requireIndex ⟨(Nat.le_of_ble_eq_true rfl), (Nat.le_of_ble_eq_true rfl)⟩ ⟨(Nat.le_of_ble_eq_true rfl), (Nat.le_of_ble_eq_true rfl)⟩ hl.1 hS rfl (Nat.le_of_ble_eq_true rfl) trivial (fun _ h => h.elim) dX1_sell_2 (fun rv9 H locs hQ hz9 hk9 hS => ?_)
  obtain ⟨rfl, rfl⟩ := hQ
  refine W.eq (g2 := F0 m 5 ls []) rfl ?_
  refine lv_iload_n hx hb dX1_sell_5 rfl (lv_at hl 2 rfl) ?_
  refine lv_iconst (v := 1) hx hb dX1_sell_6 (by decide) ?_
  refine lv_icmp_lt (tgt := 14) hx hb dX1_sell_7 (by decide) (fun h9 => absurd h9 hy) (fun _ => ?_)
  refine lv_iconst (v := 1) hx hb dX1_sell_10 (by decide) ?_
  refine lv_goto (tgt := 15) hx hb dX1_sell_11 (by decide) ?_
  refine kS fx (m_require l g 1 (by decide)) (lw_S q723 q724 q50 q725) hdX1_require ⟨(Nat.le_of_ble_eq_true rfl), (Nat.le_of_ble_eq_true rfl)⟩ ⟨(Nat.le_of_ble_eq_true rfl), (Nat.le_of_ble_eq_true rfl)⟩ hl.1 hS rfl (Nat.le_of_ble_eq_true rfl) trivial (fun _ h => h.elim) dX1_sell_15 (fun rv9 H locs hQ hz9 hk9 hS => ?_)
  obtain ⟨rfl, rfl⟩ := hQ
  refine W.eq (g2 := F0 m 18 ls []) rfl ?_
  refine lv_iload_n hx hb dX1_sell_18 rfl (lv_at hl 2 rfl) ?_
  refine lv_iload_n hx hb dX1_sell_19 rfl (lv_at hl 1 rfl) ?_
  refine lv_if_ne (tgt := 30) hx hb dX1_sell_20 (by decide) (fun _ => ?_) (fun h9 => absurd h9 (by decide))
  refine lv_iload_n hx hb dX1_sell_30 rfl (lv_at hl 1 rfl) ?_
  refine lv_iconst (v := 1) hx hb dX1_sell_31 (by decide) ?_
  refine lv_icmp_ne (tgt := 42) hx hb dX1_sell_32 (by decide) (fun h9 => absurd rfl h9) (fun _ => ?_)
  refine lv_aload_n hx hb dX1_sell_35 rfl (lv_at hl 0 rfl) ?_
  refine mget fx tfX1 h_x 6 (by decide) q215 (fun _ h => h) (v := .int (xi 4)) rfl dX1_sell_36 ?_
  refine lv_goto (tgt := 49) hx hb dX1_sell_39 (by decide) ?_
  refine lv_icmp_gt (tgt := 56) hx hb dX1_sell_49 (by decide) (fun _ => ?_) (fun h9 => absurd hc h9)
  refine lv_iconst (v := 0) hx hb dX1_sell_56 (by decide) ?_
  exact tS fx (t_requireState l hst g 0 rfl) (lw_S q741 q742 q50 q743) hdX1_requireState ⟨(Nat.le_of_ble_eq_true rfl), (Nat.le_of_ble_eq_true rfl)⟩ ⟨(Nat.le_of_ble_eq_true rfl), (Nat.le_of_ble_eq_true rfl)⟩ hl.1 hS rfl (Nat.le_of_ble_eq_true rfl) trivial dX1_sell_57 hex hlocks (Nat.le_of_ble_eq_true rfl) (Nat.le_of_ble_eq_true rfl)

set_option maxHeartbeats 4000000 in
theorem m_X_sell2 (l : Launch) (g : GT) (sz ax ap : Nat) (la : LT) (sc : Nat → Int32) (sw : Int64) (ar fd tr ld : Nat → Nat → Int32) (n : CN) (xi : Nat → Int32) (sm : Int64) (pd : Nat → Int32) (y : Int32) (hy : ¬ y < 1) (hc : ¬ sc 12 < y) : Cn l g yX1_sell cX1_sell 3 ((some .int)) 2 0 0 [.ref ax, .int 2, .int y] (fA (xF ax ap la n) sz) (fun H => sz = H.size ∧ xw g (bA g) ax ap la (sc, sw, ar, fd, tr, ld, n) xi sm pd H) (fun Hp rv Hq => rv = some (.int (sc 14 + y * 1)) ∧ xw g (fA (xF ax ap la n) sz) ax ap la (va_up (va_up sc 12 (sc 12 - y)) 14 (sc 14 + y * 1), sw, ar, fd, tr, ld, n) xi sm pd Hq) := by
  refine Cn.start (plainFor_of_name (by decide +kernel)) (Nat.le_of_ble_eq_true rfl) ?_
  intro p ev s m below meth c ls H locs hH hx hb hr hts hown hlocks hml hnm hK hP hS hl
  obtain ⟨hsz, hxw⟩ := hP
  have hszs : sz = s.heap.size := by rw [hsz, hH]
  have hAs : ∀ q, s.heap.size ≤ q → (fA (xF ax ap la n) sz) q := fun q h => Or.inr (by rw [hszs]; exact h)
  have hAb : ∀ q, (fA (xF ax ap la n) sz) q → bA g q := fun q h => h.elim (hxw.ft q) (fun h => Nat.le_trans hK.2.2.sz (by rw [← hszs]; exact h))
  obtain ⟨hw, h_x, h_p, inx, inp, nxp, nfx, nfp⟩ := hxw.self sz
  have fx : Fx p s m ([.ref ax, .int 2, .int y] : List Value).toArray c cX1_sell RX1 g (fA (xF ax ap la n) sz) 3 := ⟨hx, hb, hts, hown, hK, hAb, hml⟩
  have hl : lv_has ls 3 [(0, .ref ax), (1, .int 2), (2, .int y)] := hl
  refine lv_iload_n hx hb dX1_sell_0 rfl (lv_at hl 1 rfl) ?_
  refine lv_iconst (v := 3) hx hb dX1_sell_1 (by decide) ?_
  refine kS fx (m_requireIndex l g 2 3 (by decide) (by decide)) (lw_S q696 q697 q50 q698) hdX1_requireIndex ⟨(Nat.le_of_ble_eq_true rfl), (Nat.le_of_ble_eq_true rfl)⟩ ⟨(Nat.le_of_ble_eq_true rfl), (Nat.le_of_ble_eq_true rfl)⟩ hl.1 hS rfl (Nat.le_of_ble_eq_true rfl) trivial (fun _ h => h.elim) dX1_sell_2 (fun rv9 H locs hQ hz9 hk9 hS => ?_)
  obtain ⟨rfl, rfl⟩ := hQ
  refine W.eq (g2 := F0 m 5 ls []) rfl ?_
  refine lv_iload_n hx hb dX1_sell_5 rfl (lv_at hl 2 rfl) ?_
  refine lv_iconst (v := 1) hx hb dX1_sell_6 (by decide) ?_
  refine lv_icmp_lt (tgt := 14) hx hb dX1_sell_7 (by decide) (fun h9 => absurd h9 hy) (fun _ => ?_)
  refine lv_iconst (v := 1) hx hb dX1_sell_10 (by decide) ?_
  refine lv_goto (tgt := 15) hx hb dX1_sell_11 (by decide) ?_
  refine kS fx (m_require l g 1 (by decide)) (lw_S q723 q724 q50 q725) hdX1_require ⟨(Nat.le_of_ble_eq_true rfl), (Nat.le_of_ble_eq_true rfl)⟩ ⟨(Nat.le_of_ble_eq_true rfl), (Nat.le_of_ble_eq_true rfl)⟩ hl.1 hS rfl (Nat.le_of_ble_eq_true rfl) trivial (fun _ h => h.elim) dX1_sell_15 (fun rv9 H locs hQ hz9 hk9 hS => ?_)
  obtain ⟨rfl, rfl⟩ := hQ
  refine W.eq (g2 := F0 m 18 ls []) rfl ?_
  refine lv_iload_n hx hb dX1_sell_18 rfl (lv_at hl 2 rfl) ?_
  refine lv_iload_n hx hb dX1_sell_19 rfl (lv_at hl 1 rfl) ?_
  refine lv_if_ne (tgt := 30) hx hb dX1_sell_20 (by decide) (fun _ => ?_) (fun h9 => absurd h9 (by decide))
  refine lv_iload_n hx hb dX1_sell_30 rfl (lv_at hl 1 rfl) ?_
  refine lv_iconst (v := 1) hx hb dX1_sell_31 (by decide) ?_
  refine lv_icmp_ne (tgt := 42) hx hb dX1_sell_32 (by decide) (fun _ => ?_) (fun h9 => absurd h9 (by decide))
  refine lv_aload_n hx hb dX1_sell_42 rfl (lv_at hl 0 rfl) ?_
  refine mget fx tfX1 h_x 0 (by decide) q209 (fun _ h => h) (v := .ref (la.1 0 0)) rfl dX1_sell_43 ?_
  refine mgetN fx tfX2 (cw.w hw) 18 (by decide) q156 (fun _ h => h) (v := .int (sc 12)) rfl dX1_sell_46 ?_
  refine lv_icmp_gt (tgt := 56) hx hb dX1_sell_49 (by decide) (fun h9 => absurd h9 hc) (fun _ => ?_)
  refine lv_iconst (v := 1) hx hb dX1_sell_52 (by decide) ?_
  refine lv_goto (tgt := 57) hx hb dX1_sell_53 (by decide) ?_
  refine kS fx (m_requireState l g 1 (by decide)) (lw_S q741 q742 q50 q743) hdX1_requireState ⟨(Nat.le_of_ble_eq_true rfl), (Nat.le_of_ble_eq_true rfl)⟩ ⟨(Nat.le_of_ble_eq_true rfl), (Nat.le_of_ble_eq_true rfl)⟩ hl.1 hS rfl (Nat.le_of_ble_eq_true rfl) trivial (fun _ h => h.elim) dX1_sell_57 (fun rv9 H locs hQ hz9 hk9 hS => ?_)
  obtain ⟨rfl, rfl⟩ := hQ
  refine W.eq (g2 := F0 m 60 ls []) rfl ?_
  refine lv_iload_n hx hb dX1_sell_60 rfl (lv_at hl 1 rfl) ?_
  refine lv_if_ne (tgt := 77) hx hb dX1_sell_61 (by decide) (fun _ => ?_) (fun h9 => absurd h9 (by decide))
  refine lv_iload_n hx hb dX1_sell_77 rfl (lv_at hl 1 rfl) ?_
  refine lv_iconst (v := 1) hx hb dX1_sell_78 (by decide) ?_
  refine lv_icmp_ne (tgt := 95) hx hb dX1_sell_79 (by decide) (fun _ => ?_) (fun h9 => absurd h9 (by decide))
  refine lv_aload_n hx hb dX1_sell_95 rfl (lv_at hl 0 rfl) ?_
  refine mget fx tfX1 h_x 0 (by decide) q209 (fun _ h => h) (v := .ref (la.1 0 0)) rfl dX1_sell_96 ?_
  refine lv_dup hx hb dX1_sell_99 rfl ?_
  refine mgetN fx tfX2 (cw.w hw) 18 (by decide) q156 (fun _ h => h) (v := .int (sc 12)) rfl dX1_sell_100 ?_
  refine lv_iload_n hx hb dX1_sell_103 rfl (lv_at hl 2 rfl) ?_
  refine lv_isub hx hb dX1_sell_104 ?_
  refine mputN fx tfX2 (cw.w hw) hS (cw.inW hw (by decide)) 18 (by decide) q156 (fun _ h => h) rfl rfl rfl (Nat.le_of_ble_eq_true rfl) dX1_sell_105 (fun H locs hat hz hoq hS => ?_)
  replace h_x := h_x.kept (hoq _ (Ne.symm (nfx _ ⟨0, 0, (by show 0 < 7; decide), rfl⟩)))
  replace h_p := h_p.kept (hoq _ (Ne.symm (nfp _ ⟨0, 0, (by show 0 < 7; decide), rfl⟩)))
  replace hw : cw g (fA (xF ax ap la n) sz) la (va_up sc 12 ((sc 12) - y), sw, ar, fd, tr, ld, n) H := cw.setW hw hat (fun q _ h9 => hoq q h9)
  refine lv_aload_n hx hb dX1_sell_108 rfl (lv_at hl 0 rfl) ?_
  refine mget fx tfX1 h_x 0 (by decide) q209 (fun _ h => h) (v := .ref (la.1 0 0)) rfl dX1_sell_109 ?_
  refine lv_dup hx hb dX1_sell_112 rfl ?_
  refine mgetN fx tfX2 (cw.w hw) 20 (by decide) q160 (fun _ h => h) (v := .int (sc 14)) rfl dX1_sell_113 ?_
  refine lv_iload_n hx hb dX1_sell_116 rfl (lv_at hl 2 rfl) ?_
  refine lv_iload_n hx hb dX1_sell_117 rfl (lv_at hl 1 rfl) ?_
  refine lv_if_ne (tgt := 125) hx hb dX1_sell_118 (by decide) (fun _ => ?_) (fun h9 => absurd h9 (by decide))
  refine lv_iload_n hx hb dX1_sell_125 rfl (lv_at hl 1 rfl) ?_
  refine lv_iconst (v := 1) hx hb dX1_sell_126 (by decide) ?_
  refine lv_icmp_ne (tgt := 134) hx hb dX1_sell_127 (by decide) (fun _ => ?_) (fun h9 => absurd h9 (by decide))
  refine lv_iconst (v := 1) hx hb dX1_sell_134 (by decide) ?_
  refine lv_imul hx hb dX1_sell_135 ?_
  refine lv_iadd hx hb dX1_sell_136 ?_
  refine mputN fx tfX2 (cw.w hw) hS (cw.inW hw (by decide)) 20 (by decide) q160 (fun _ h => h) rfl rfl rfl (Nat.le_of_ble_eq_true rfl) dX1_sell_137 (fun H locs hat hz hoq hS => ?_)
  replace h_x := h_x.kept (hoq _ (Ne.symm (nfx _ ⟨0, 0, (by show 0 < 7; decide), rfl⟩)))
  replace h_p := h_p.kept (hoq _ (Ne.symm (nfp _ ⟨0, 0, (by show 0 < 7; decide), rfl⟩)))
  replace hw : cw g (fA (xF ax ap la n) sz) la (va_up (va_up sc 12 ((sc 12) - y)) 14 ((sc 14) + (y * 1)), sw, ar, fd, tr, ld, n) H := cw.setW hw hat (fun q _ h9 => hoq q h9)
  refine lv_aload_n hx hb dX1_sell_140 rfl (lv_at hl 0 rfl) ?_
  refine mget fx tfX1 h_x 0 (by decide) q209 (fun _ h => h) (v := .ref (la.1 0 0)) rfl dX1_sell_141 ?_
  refine mgetN fx tfX2 (cw.w hw) 20 (by decide) q160 (fun _ h => h) (v := .int ((sc 14) + (y * 1))) rfl dX1_sell_144 ?_
  exact ri hx hb hr hlocks hS (⟨rfl, hw, h_x, h_p, inx, inp, nxp, nfx, nfp⟩) ⟨(Nat.le_of_ble_eq_true rfl), (Nat.le_of_ble_eq_true rfl)⟩ dX1_sell_147

set_option maxHeartbeats 4000000 in
theorem t_X_sell32 (l : Launch) (hst : l.stackTraces = false) (g : GT) (ax ap : Nat) (la : LT) (sc : Nat → Int32) (sw : Int64) (ar fd tr ld : Nat → Nat → Int32) (n : CN) (xi : Nat → Int32) (sm : Int64) (pd : Nat → Int32) (y : Int32) (hy : ¬ y < 1) (hc : sc 12 < y) : Tn l g yX1_sell cX1_sell 3 ((some .int)) 8 [.ref ax, .int 2, .int y] "java/lang/IllegalStateException" (fun H => xw g (bA g) ax ap la (sc, sw, ar, fd, tr, ld, n) xi sm pd H) := by
  refine Tn.start (by decide +kernel) (Nat.le_of_ble_eq_true rfl) ?_
  intro p ev s m below meth c ls H locs hH hx hb hts hown hlocks hml hex hK hP hS hl
  have hxw := hP
  obtain ⟨hw, h_x, h_p, inx, inp, nxp, nfx, nfp⟩ := hxw
  have fx : Fx p s m ([.ref ax, .int 2, .int y] : List Value).toArray c cX1_sell RX1 g (fun _ => False) 3 := ⟨hx, hb, hts, hown, hK, fun _ h => h.elim, hml⟩
  have hl : lv_has ls 3 [(0, .ref ax), (1, .int 2), (2, .int y)] := hl
  refine lv_iload_n hx hb dX1_sell_0 rfl (lv_at hl 1 rfl) ?_
  refine lv_iconst (v := 3) hx hb dX1_sell_1 (by decide) ?_
  refine kS fx (m_requireIndex l g 2 3 (by decide) (by decide)) (lw_S q696 q697 q50 q698) hdX1_requireIndex ⟨(Nat.le_of_ble_eq_true rfl), (Nat.le_of_ble_eq_true rfl)⟩ ⟨(Nat.le_of_ble_eq_true rfl), (Nat.le_of_ble_eq_true rfl)⟩ hl.1 hS rfl (Nat.le_of_ble_eq_true rfl) trivial (fun _ h => h.elim) dX1_sell_2 (fun rv9 H locs hQ hz9 hk9 hS => ?_)
  obtain ⟨rfl, rfl⟩ := hQ
  refine W.eq (g2 := F0 m 5 ls []) rfl ?_
  refine lv_iload_n hx hb dX1_sell_5 rfl (lv_at hl 2 rfl) ?_
  refine lv_iconst (v := 1) hx hb dX1_sell_6 (by decide) ?_
  refine lv_icmp_lt (tgt := 14) hx hb dX1_sell_7 (by decide) (fun h9 => absurd h9 hy) (fun _ => ?_)
  refine lv_iconst (v := 1) hx hb dX1_sell_10 (by decide) ?_
  refine lv_goto (tgt := 15) hx hb dX1_sell_11 (by decide) ?_
  refine kS fx (m_require l g 1 (by decide)) (lw_S q723 q724 q50 q725) hdX1_require ⟨(Nat.le_of_ble_eq_true rfl), (Nat.le_of_ble_eq_true rfl)⟩ ⟨(Nat.le_of_ble_eq_true rfl), (Nat.le_of_ble_eq_true rfl)⟩ hl.1 hS rfl (Nat.le_of_ble_eq_true rfl) trivial (fun _ h => h.elim) dX1_sell_15 (fun rv9 H locs hQ hz9 hk9 hS => ?_)
  obtain ⟨rfl, rfl⟩ := hQ
  refine W.eq (g2 := F0 m 18 ls []) rfl ?_
  refine lv_iload_n hx hb dX1_sell_18 rfl (lv_at hl 2 rfl) ?_
  refine lv_iload_n hx hb dX1_sell_19 rfl (lv_at hl 1 rfl) ?_
  refine lv_if_ne (tgt := 30) hx hb dX1_sell_20 (by decide) (fun _ => ?_) (fun h9 => absurd h9 (by decide))
  refine lv_iload_n hx hb dX1_sell_30 rfl (lv_at hl 1 rfl) ?_
  refine lv_iconst (v := 1) hx hb dX1_sell_31 (by decide) ?_
  refine lv_icmp_ne (tgt := 42) hx hb dX1_sell_32 (by decide) (fun _ => ?_) (fun h9 => absurd h9 (by decide))
  refine lv_aload_n hx hb dX1_sell_42 rfl (lv_at hl 0 rfl) ?_
  refine mget fx tfX1 h_x 0 (by decide) q209 (fun _ h => h) (v := .ref (la.1 0 0)) rfl dX1_sell_43 ?_
  refine mgetN fx tfX2 (cw.w hw) 18 (by decide) q156 (fun _ h => h) (v := .int (sc 12)) rfl dX1_sell_46 ?_
  refine lv_icmp_gt (tgt := 56) hx hb dX1_sell_49 (by decide) (fun _ => ?_) (fun h9 => absurd hc h9)
  refine lv_iconst (v := 0) hx hb dX1_sell_56 (by decide) ?_
  exact tS fx (t_requireState l hst g 0 rfl) (lw_S q741 q742 q50 q743) hdX1_requireState ⟨(Nat.le_of_ble_eq_true rfl), (Nat.le_of_ble_eq_true rfl)⟩ ⟨(Nat.le_of_ble_eq_true rfl), (Nat.le_of_ble_eq_true rfl)⟩ hl.1 hS rfl (Nat.le_of_ble_eq_true rfl) trivial dX1_sell_57 hex hlocks (Nat.le_of_ble_eq_true rfl) (Nat.le_of_ble_eq_true rfl)

set_option maxHeartbeats 4000000 in
theorem t_X_sell2 (l : Launch) (hst : l.stackTraces = false) (g : GT) (ax ap : Nat) (la : LT) (sc : Nat → Int32) (sw : Int64) (ar fd tr ld : Nat → Nat → Int32) (n : CN) (xi : Nat → Int32) (sm : Int64) (pd : Nat → Int32) (z y : Int32) (h0 : ¬ z < 0) (h1 : z < 3) (hy : y < 1) : Tn l g yX1_sell cX1_sell 3 ((some .int)) 8 [.ref ax, .int z, .int y] "java/lang/IllegalArgumentException" (fun H => xw g (bA g) ax ap la (sc, sw, ar, fd, tr, ld, n) xi sm pd H) := by
  refine Tn.start (by decide +kernel) (Nat.le_of_ble_eq_true rfl) ?_
  intro p ev s m below meth c ls H locs hH hx hb hts hown hlocks hml hex hK hP hS hl
  have hxw := hP
  obtain ⟨hw, h_x, h_p, inx, inp, nxp, nfx, nfp⟩ := hxw
  have fx : Fx p s m ([.ref ax, .int z, .int y] : List Value).toArray c cX1_sell RX1 g (fun _ => False) 3 := ⟨hx, hb, hts, hown, hK, fun _ h => h.elim, hml⟩
  have hl : lv_has ls 3 [(0, .ref ax), (1, .int z), (2, .int y)] := hl
  refine lv_iload_n hx hb dX1_sell_0 rfl (lv_at hl 1 rfl) ?_
  refine lv_iconst (v := 3) hx hb dX1_sell_1 (by decide) ?_
  refine kS fx (m_requireIndex l g z 3 h0 h1) (lw_S q696 q697 q50 q698) hdX1_requireIndex ⟨(Nat.le_of_ble_eq_true rfl), (Nat.le_of_ble_eq_true rfl)⟩ ⟨(Nat.le_of_ble_eq_true rfl), (Nat.le_of_ble_eq_true rfl)⟩ hl.1 hS rfl (Nat.le_of_ble_eq_true rfl) trivial (fun _ h => h.elim) dX1_sell_2 (fun rv9 H locs hQ hz9 hk9 hS => ?_)
  obtain ⟨rfl, rfl⟩ := hQ
  refine W.eq (g2 := F0 m 5 ls []) rfl ?_
  refine lv_iload_n hx hb dX1_sell_5 rfl (lv_at hl 2 rfl) ?_
  refine lv_iconst (v := 1) hx hb dX1_sell_6 (by decide) ?_
  refine lv_icmp_lt (tgt := 14) hx hb dX1_sell_7 (by decide) (fun _ => ?_) (fun h9 => absurd hy h9)
  refine lv_iconst (v := 0) hx hb dX1_sell_14 (by decide) ?_
  exact tS fx (t_require l hst g 0 rfl) (lw_S q723 q724 q50 q725) hdX1_require ⟨(Nat.le_of_ble_eq_true rfl), (Nat.le_of_ble_eq_true rfl)⟩ ⟨(Nat.le_of_ble_eq_true rfl), (Nat.le_of_ble_eq_true rfl)⟩ hl.1 hS rfl (Nat.le_of_ble_eq_true rfl) trivial dX1_sell_15 hex hlocks (Nat.le_of_ble_eq_true rfl) (Nat.le_of_ble_eq_true rfl)

set_option maxHeartbeats 4000000 in
theorem t_X_sell1 (l : Launch) (hst : l.stackTraces = false) (g : GT) (ax ap : Nat) (la : LT) (sc : Nat → Int32) (sw : Int64) (ar fd tr ld : Nat → Nat → Int32) (n : CN) (xi : Nat → Int32) (sm : Int64) (pd : Nat → Int32) (z y : Int32) (hok : z < 0 ∨ ¬ z < 3) : Tn l g yX1_sell cX1_sell 3 ((some .int)) 8 [.ref ax, .int z, .int y] "java/lang/IndexOutOfBoundsException" (fun H => xw g (bA g) ax ap la (sc, sw, ar, fd, tr, ld, n) xi sm pd H) := by
  refine Tn.start (by decide +kernel) (Nat.le_of_ble_eq_true rfl) ?_
  intro p ev s m below meth c ls H locs hH hx hb hts hown hlocks hml hex hK hP hS hl
  have hxw := hP
  obtain ⟨hw, h_x, h_p, inx, inp, nxp, nfx, nfp⟩ := hxw
  have fx : Fx p s m ([.ref ax, .int z, .int y] : List Value).toArray c cX1_sell RX1 g (fun _ => False) 3 := ⟨hx, hb, hts, hown, hK, fun _ h => h.elim, hml⟩
  have hl : lv_has ls 3 [(0, .ref ax), (1, .int z), (2, .int y)] := hl
  refine lv_iload_n hx hb dX1_sell_0 rfl (lv_at hl 1 rfl) ?_
  refine lv_iconst (v := 3) hx hb dX1_sell_1 (by decide) ?_
  exact tS fx (t_requireIndex l hst g z 3 hok) (lw_S q696 q697 q50 q698) hdX1_requireIndex ⟨(Nat.le_of_ble_eq_true rfl), (Nat.le_of_ble_eq_true rfl)⟩ ⟨(Nat.le_of_ble_eq_true rfl), (Nat.le_of_ble_eq_true rfl)⟩ hl.1 hS rfl (Nat.le_of_ble_eq_true rfl) trivial dX1_sell_2 hex hlocks (Nat.le_of_ble_eq_true rfl) (Nat.le_of_ble_eq_true rfl)

def passOk (h wa ra : Int32) : Int32 := if isFromF 1 72 h = 0 then 0 else if isWeatherF wa ra = 0 then 0 else 1
set_option maxHeartbeats 4000000 in
theorem m_X_pass (l : Launch) (g : GT) (sz ax ap : Nat) (la : LT) (sc : Nat → Int32) (sw : Int64) (ar fd tr ld : Nat → Nat → Int32) (n : CN) (xi : Nat → Int32) (sm : Int64) (pd : Nat → Int32) (hn : cN n) (hv : cV n fd tr ld) (h9 : Nat) (wa ra : Int32) (hh : h9 ≤ 72) (hok : ¬ passOk (nI h9) wa ra = 0) : Cn l g yX1_pass cX1_pass 6 ((some .int)) 8 72 864 [.ref ax, .int (nI h9), .int wa, .int ra] (fA (xF ax ap la n) sz) (fun H => sz = H.size ∧ xw g (bA g) ax ap la (sc, sw, ar, fd, tr, ld, n) xi sm pd H) (fun Hp rv Hq => rv = some (.int (cRun n (sc, sw, ar, fd, tr, ld) wa ra h9).2) ∧ xw g (fA (xF ax ap la n) sz) ax ap la (mkC (cRun n (sc, sw, ar, fd, tr, ld) wa ra h9).1 n) xi sm pd Hq) := by
  refine Cn.start (plainFor_of_name (by decide +kernel)) (Nat.le_of_ble_eq_true rfl) ?_
  intro p ev s m below meth c ls H locs hH hx hb hr hts hown hlocks hml hnm hK hP hS hl
  obtain ⟨hsz, hxw⟩ := hP
  have hszs : sz = s.heap.size := by rw [hsz, hH]
  have hAs : ∀ q, s.heap.size ≤ q → (fA (xF ax ap la n) sz) q := fun q h => Or.inr (by rw [hszs]; exact h)
  have hAb : ∀ q, (fA (xF ax ap la n) sz) q → bA g q := fun q h => h.elim (hxw.ft q) (fun h => Nat.le_trans hK.2.2.sz (by rw [← hszs]; exact h))
  obtain ⟨hw, h_x, h_p, inx, inp, nxp, nfx, nfp⟩ := hxw.self sz
  have fx : Fx p s m ([.ref ax, .int (nI h9), .int wa, .int ra] : List Value).toArray c cX1_pass RX1 g (fA (xF ax ap la n) sz) 6 := ⟨hx, hb, hts, hown, hK, hAb, hml⟩
  have hl : lv_has ls 6 [(0, .ref ax), (1, .int (nI h9)), (2, .int wa), (3, .int ra)] := hl
  refine lv_iconst (v := 1) hx hb dX1_pass_0 (by decide) ?_
  refine lv_bipush (v := 72) hx hb dX1_pass_1 (by decide) ?_
  refine lv_iload_n hx hb dX1_pass_3 rfl (lv_at hl 1 rfl) ?_
  refine kS fx (m_isFrom l g 1 72 (nI h9)) (lw_S q720 q721 q50 q722) hdX1_isFrom ⟨(Nat.le_of_ble_eq_true rfl), (Nat.le_of_ble_eq_true rfl)⟩ ⟨(Nat.le_of_ble_eq_true rfl), (Nat.le_of_ble_eq_true rfl)⟩ hl.1 hS rfl (Nat.le_of_ble_eq_true rfl) trivial (fun _ h => h.elim) dX1_pass_4 (fun rv9 H locs hQ hz9 hk9 hS => ?_)
  obtain ⟨rfl, rfl⟩ := hQ
  refine W.eq (g2 := F0 m 7 ls [.int (isFromF 1 72 (nI h9))]) rfl ?_
  have K_3 : ∀ (locs : List Loc) (ls : Array Slot) (v_2 : Int32), v_2 = (if (isFromF 1 72 (nI h9)) = 0 then 0 else (if (isWeatherF wa ra) = 0 then 0 else 1)) → va_S (fA (xF ax ap la n) sz) s.heap H locs → lv_has ls 6 [(0, .ref ax), (1, .int (nI h9)), (2, .int wa), (3, .int ra)] → W p l ev (mR 8 72 864) s m ([.ref ax, .int (nI h9), .int wa, .int ra] : List Value).toArray below meth c H locs 0 0 (MQ below (mQ (fA (xF ax ap la n) sz) (fun Hp rv Hq => rv = some (.int (cRun n (sc, sw, ar, fd, tr, ld) wa ra h9).2) ∧ xw g (fA (xF ax ap la n) sz) ax ap la (mkC (cRun n (sc, sw, ar, fd, tr, ld) wa ra h9).1 n) xi sm pd Hq)) ([.ref ax, .int (nI h9), .int wa, .int ra] : List Value).toArray s 72 864 (fA (xF ax ap la n) sz)) (F0 m 23 ls [.int v_2]) := by
    intro locs ls v_2 hv_2 hS hl
    have bzv_2 : bz v_2 := by rw [hv_2]; (repeat' split) <;> first | exact Or.inl rfl | exact Or.inr rfl
    refine kS fx (m_require l g v_2 (by rw [hv_2]; exact hok)) (lw_S q723 q724 q50 q725) hdX1_require ⟨(Nat.le_of_ble_eq_true rfl), (Nat.le_of_ble_eq_true rfl)⟩ ⟨(Nat.le_of_ble_eq_true rfl), (Nat.le_of_ble_eq_true rfl)⟩ hl.1 hS rfl (Nat.le_of_ble_eq_true rfl) trivial (fun _ h => h.elim) dX1_pass_23 (fun rv9 H locs hQ hz9 hk9 hS => ?_)
    obtain ⟨rfl, rfl⟩ := hQ
    refine W.eq (g2 := F0 m 26 ls []) rfl ?_
    refine lv_iconst (v := 0) hx hb dX1_pass_26 (by decide) ?_
    refine lv_istore (lv' := [(4, .int 0), (0, .ref ax), (1, .int (nI h9)), (2, .int wa), (3, .int ra)]) hx hb dX1_pass_27 hl (by decide) rfl (fun ls hl => ?_)
    refine lv_iconst (v := 0) hx hb dX1_pass_29 (by decide) ?_
    refine lv_istore (lv' := [(5, .int 0), (4, .int 0), (0, .ref ax), (1, .int (nI h9)), (2, .int wa), (3, .int ra)]) hx hb dX1_pass_30 hl (by decide) rfl (fun ls hl => ?_)
    have lp_4 : ∀ (d_5 i : Nat) (H : Heap) (locs : List Loc) (ls : Array Slot), i + d_5 = h9 → va_S (fA (xF ax ap la n) sz) s.heap H locs → mAt g ax (.inr (0, [.ref (la.1 0 0), .ref ap, .int (xi 0), .int (xi 1), .int (xi 2), .int (xi 3), .int (xi 4), .int (xi 5), .int (xi 6), .long sm])) H → mAt g ap (.inl (g.2.1 0, 4, .inl pd)) H → cw g (fA (xF ax ap la n) sz) la (((cRun n (sc, sw, ar, fd, tr, ld) wa ra i).1).1, ((cRun n (sc, sw, ar, fd, tr, ld) wa ra i).1).2.1, ((cRun n (sc, sw, ar, fd, tr, ld) wa ra i).1).2.2.1, ((cRun n (sc, sw, ar, fd, tr, ld) wa ra i).1).2.2.2.1, ((cRun n (sc, sw, ar, fd, tr, ld) wa ra i).1).2.2.2.2.1, ((cRun n (sc, sw, ar, fd, tr, ld) wa ra i).1).2.2.2.2.2, n) H → lv_has ls 6 [(5, .int (nI i)), (4, .int ((cRun n (sc, sw, ar, fd, tr, ld) wa ra i).2)), (0, .ref ax), (1, .int (nI h9)), (2, .int wa), (3, .int ra)] → W p l ev (mR 8 72 864) s m ([.ref ax, .int (nI h9), .int wa, .int ra] : List Value).toArray below meth c H locs i (12 * i) (MQ below (mQ (fA (xF ax ap la n) sz) (fun Hp rv Hq => rv = some (.int (cRun n (sc, sw, ar, fd, tr, ld) wa ra h9).2) ∧ xw g (fA (xF ax ap la n) sz) ax ap la (mkC (cRun n (sc, sw, ar, fd, tr, ld) wa ra h9).1 n) xi sm pd Hq)) ([.ref ax, .int (nI h9), .int wa, .int ra] : List Value).toArray s 72 864 (fA (xF ax ap la n) sz)) (F0 m 32 ls []) := by
      intro d_5
      induction d_5 with
      | zero =>
        intro i H locs ls hid hS h_x h_p hw hl
        obtain rfl : h9 = i := by omega
        refine lv_iload hx hb dX1_pass_32 (lv_at hl 0 rfl) ?_
        refine lv_iload_n hx hb dX1_pass_34 rfl (lv_at hl 3 rfl) ?_
        refine lv_icmp_ge (tgt := 58) hx hb dX1_pass_35 (by decide) (fun _ => ?_) (fun h9 => absurd (nI_le (Nat.le_refl _) (by omega)) h9)
        refine lv_iload hx hb dX1_pass_58 (lv_at hl 1 rfl) ?_
        exact ri hx hb hr hlocks hS (⟨rfl, hw, h_x, h_p, inx, inp, nxp, nfx, nfp⟩) ⟨(by omega), (by omega)⟩ dX1_pass_60
      | succ d_5 ih =>
        intro i H locs ls hid hS h_x h_p hw hl
        have hi_i : i < h9 := by omega
        have hv1 : cV n ((cRun n (sc, sw, ar, fd, tr, ld) wa ra i).1).2.2.2.1 ((cRun n (sc, sw, ar, fd, tr, ld) wa ra i).1).2.2.2.2.1 ((cRun n (sc, sw, ar, fd, tr, ld) wa ra i).1).2.2.2.2.2 := cVS.run (S := (sc, sw, ar, fd, tr, ld)) hn hv i
        refine lv_iload hx hb dX1_pass_32 (lv_at hl 0 rfl) ?_
        refine lv_iload_n hx hb dX1_pass_34 rfl (lv_at hl 3 rfl) ?_
        refine lv_icmp_ge (tgt := 58) hx hb dX1_pass_35 (by decide) (fun h9 => absurd h9 (nI_ge hi_i (by omega))) (fun _ => ?_)
        refine lv_iload hx hb dX1_pass_38 (lv_at hl 1 rfl) ?_
        refine lv_aload_n hx hb dX1_pass_40 rfl (lv_at hl 2 rfl) ?_
        refine mget fx tfX1 h_x 0 (by decide) q209 (fun _ h => h) (v := .ref (la.1 0 0)) rfl dX1_pass_41 ?_
        refine lv_iload_n hx hb dX1_pass_44 rfl (lv_at hl 4 rfl) ?_
        refine lv_iload_n hx hb dX1_pass_45 rfl (lv_at hl 5 rfl) ?_
        have hbk := cw.back hw (fun q h9 => hAs q (Nat.le_trans hS.1 h9))
        have hSb := hS
        refine kV fx (m_W_pass l g _ la (((cRun n (sc, sw, ar, fd, tr, ld) wa ra i).1).1) (((cRun n (sc, sw, ar, fd, tr, ld) wa ra i).1).2.1) (((cRun n (sc, sw, ar, fd, tr, ld) wa ra i).1).2.2.1) (((cRun n (sc, sw, ar, fd, tr, ld) wa ra i).1).2.2.2.1) (((cRun n (sc, sw, ar, fd, tr, ld) wa ra i).1).2.2.2.2.1) (((cRun n (sc, sw, ar, fd, tr, ld) wa ra i).1).2.2.2.2.2) n hn hv1 wa ra) (lw_V q552 q553 q554 q51 q555) hdX2_pass ⟨(Nat.le_of_ble_eq_true rfl), (Nat.le_of_ble_eq_true rfl)⟩ ⟨(by show i + 1 ≤ 72; omega), (by show 12 * i + 12 ≤ 864; omega)⟩ hl.1 hS tfX2.2.1 (cw.w hw) rfl (Nat.le_of_ble_eq_true rfl) (⟨rfl, cw.weaken hw fx.2.2.2.2.2.1⟩) (fun q h9 => hbk q h9) dX1_pass_46 (fun rv9 H locs hQ hz9 hk9 hS => ?_)
        obtain ⟨rfl, hw9⟩ := hQ
        replace h_x := h_x.kept (hk9 _ h_x.lt (fun h9 => h9.elim (fun h8 => nfx _ h8 rfl) (Nat.not_le.mpr h_x.lt)))
        replace h_p := h_p.kept (hk9 _ h_p.lt (fun h9 => h9.elim (fun h8 => nfp _ h8 rfl) (Nat.not_le.mpr h_p.lt)))
        replace hw : cw g (fA (xF ax ap la n) sz) la (((cPass n (((cRun n (sc, sw, ar, fd, tr, ld) wa ra i).1).1, ((cRun n (sc, sw, ar, fd, tr, ld) wa ra i).1).2.1, ((cRun n (sc, sw, ar, fd, tr, ld) wa ra i).1).2.2.1, ((cRun n (sc, sw, ar, fd, tr, ld) wa ra i).1).2.2.2.1, ((cRun n (sc, sw, ar, fd, tr, ld) wa ra i).1).2.2.2.2.1, ((cRun n (sc, sw, ar, fd, tr, ld) wa ra i).1).2.2.2.2.2) wa ra).1).1, ((cPass n (((cRun n (sc, sw, ar, fd, tr, ld) wa ra i).1).1, ((cRun n (sc, sw, ar, fd, tr, ld) wa ra i).1).2.1, ((cRun n (sc, sw, ar, fd, tr, ld) wa ra i).1).2.2.1, ((cRun n (sc, sw, ar, fd, tr, ld) wa ra i).1).2.2.2.1, ((cRun n (sc, sw, ar, fd, tr, ld) wa ra i).1).2.2.2.2.1, ((cRun n (sc, sw, ar, fd, tr, ld) wa ra i).1).2.2.2.2.2) wa ra).1).2.1, ((cPass n (((cRun n (sc, sw, ar, fd, tr, ld) wa ra i).1).1, ((cRun n (sc, sw, ar, fd, tr, ld) wa ra i).1).2.1, ((cRun n (sc, sw, ar, fd, tr, ld) wa ra i).1).2.2.1, ((cRun n (sc, sw, ar, fd, tr, ld) wa ra i).1).2.2.2.1, ((cRun n (sc, sw, ar, fd, tr, ld) wa ra i).1).2.2.2.2.1, ((cRun n (sc, sw, ar, fd, tr, ld) wa ra i).1).2.2.2.2.2) wa ra).1).2.2.1, ((cPass n (((cRun n (sc, sw, ar, fd, tr, ld) wa ra i).1).1, ((cRun n (sc, sw, ar, fd, tr, ld) wa ra i).1).2.1, ((cRun n (sc, sw, ar, fd, tr, ld) wa ra i).1).2.2.1, ((cRun n (sc, sw, ar, fd, tr, ld) wa ra i).1).2.2.2.1, ((cRun n (sc, sw, ar, fd, tr, ld) wa ra i).1).2.2.2.2.1, ((cRun n (sc, sw, ar, fd, tr, ld) wa ra i).1).2.2.2.2.2) wa ra).1).2.2.2.1, ((cPass n (((cRun n (sc, sw, ar, fd, tr, ld) wa ra i).1).1, ((cRun n (sc, sw, ar, fd, tr, ld) wa ra i).1).2.1, ((cRun n (sc, sw, ar, fd, tr, ld) wa ra i).1).2.2.1, ((cRun n (sc, sw, ar, fd, tr, ld) wa ra i).1).2.2.2.1, ((cRun n (sc, sw, ar, fd, tr, ld) wa ra i).1).2.2.2.2.1, ((cRun n (sc, sw, ar, fd, tr, ld) wa ra i).1).2.2.2.2.2) wa ra).1).2.2.2.2.1, ((cPass n (((cRun n (sc, sw, ar, fd, tr, ld) wa ra i).1).1, ((cRun n (sc, sw, ar, fd, tr, ld) wa ra i).1).2.1, ((cRun n (sc, sw, ar, fd, tr, ld) wa ra i).1).2.2.1, ((cRun n (sc, sw, ar, fd, tr, ld) wa ra i).1).2.2.2.1, ((cRun n (sc, sw, ar, fd, tr, ld) wa ra i).1).2.2.2.2.1, ((cRun n (sc, sw, ar, fd, tr, ld) wa ra i).1).2.2.2.2.2) wa ra).1).2.2.2.2.2, n) H := cw.weaken hw9 hbk
        refine W.eq (g2 := F0 m 49 ls [.int ((cPass n (((cRun n (sc, sw, ar, fd, tr, ld) wa ra i).1).1, ((cRun n (sc, sw, ar, fd, tr, ld) wa ra i).1).2.1, ((cRun n (sc, sw, ar, fd, tr, ld) wa ra i).1).2.2.1, ((cRun n (sc, sw, ar, fd, tr, ld) wa ra i).1).2.2.2.1, ((cRun n (sc, sw, ar, fd, tr, ld) wa ra i).1).2.2.2.2.1, ((cRun n (sc, sw, ar, fd, tr, ld) wa ra i).1).2.2.2.2.2) wa ra).2), .int ((cRun n (sc, sw, ar, fd, tr, ld) wa ra i).2)]) rfl ?_
        refine lv_iadd hx hb dX1_pass_49 ?_
        refine lv_istore (lv' := [(4, .int (((cRun n (sc, sw, ar, fd, tr, ld) wa ra i).2) + ((cPass n (((cRun n (sc, sw, ar, fd, tr, ld) wa ra i).1).1, ((cRun n (sc, sw, ar, fd, tr, ld) wa ra i).1).2.1, ((cRun n (sc, sw, ar, fd, tr, ld) wa ra i).1).2.2.1, ((cRun n (sc, sw, ar, fd, tr, ld) wa ra i).1).2.2.2.1, ((cRun n (sc, sw, ar, fd, tr, ld) wa ra i).1).2.2.2.2.1, ((cRun n (sc, sw, ar, fd, tr, ld) wa ra i).1).2.2.2.2.2) wa ra).2))), (5, .int (nI i)), (0, .ref ax), (1, .int (nI h9)), (2, .int wa), (3, .int ra)]) hx hb dX1_pass_50 hl (by decide) rfl (fun ls hl => ?_)
        refine lv_iinc (v := nI (i + 1)) (lv' := [(5, .int (nI (i + 1))), (4, .int (((cRun n (sc, sw, ar, fd, tr, ld) wa ra i).2) + ((cPass n (((cRun n (sc, sw, ar, fd, tr, ld) wa ra i).1).1, ((cRun n (sc, sw, ar, fd, tr, ld) wa ra i).1).2.1, ((cRun n (sc, sw, ar, fd, tr, ld) wa ra i).1).2.2.1, ((cRun n (sc, sw, ar, fd, tr, ld) wa ra i).1).2.2.2.1, ((cRun n (sc, sw, ar, fd, tr, ld) wa ra i).1).2.2.2.2.1, ((cRun n (sc, sw, ar, fd, tr, ld) wa ra i).1).2.2.2.2.2) wa ra).2))), (0, .ref ax), (1, .int (nI h9)), (2, .int wa), (3, .int ra)]) hx hb dX1_pass_52 hl (k := 1) rfl (nI_1 _) (by decide) rfl (fun ls hl => ?_)
        refine lv_goto (tgt := 32) hx hb dX1_pass_55 (by decide) ?_
        have e_6 : (.int (((cRun n (sc, sw, ar, fd, tr, ld) wa ra i).2) + ((cPass n (((cRun n (sc, sw, ar, fd, tr, ld) wa ra i).1).1, ((cRun n (sc, sw, ar, fd, tr, ld) wa ra i).1).2.1, ((cRun n (sc, sw, ar, fd, tr, ld) wa ra i).1).2.2.1, ((cRun n (sc, sw, ar, fd, tr, ld) wa ra i).1).2.2.2.1, ((cRun n (sc, sw, ar, fd, tr, ld) wa ra i).1).2.2.2.2.1, ((cRun n (sc, sw, ar, fd, tr, ld) wa ra i).1).2.2.2.2.2) wa ra).2)) : Value) = .int ((cRun n (sc, sw, ar, fd, tr, ld) wa ra (i + 1)).2) := rfl
        rw [e_6] at hl
        refine W.widen (k := (i + 1)) (n := 12 * (i + 1)) (by omega) (by omega) ?_
        exact ih (i + 1) H locs ls (by omega) hS h_x h_p hw (lv_sub hl [0, 1, 2, 3, 4, 5] rfl)
    refine W.widen (k := 0) (n := 12 * 0) (by omega) (by omega) ?_
    exact lp_4 (h9 - 0) 0 H locs ls (by omega) hS h_x h_p hw (lv_sub hl [0, 1, 2, 3, 4, 5] rfl)
  refine lv_if_eq (tgt := 22) hx hb dX1_pass_7 (by decide) (fun c_1 => ?_) (fun c_1 => ?_)
  · skip
    refine lv_iconst (v := 0) hx hb dX1_pass_22 (by decide) ?_
    exact K_3 _ _ 0 (by rw [if_pos c_1]) hS (lv_sub hl [0, 1, 2, 3] rfl)
  · skip
    refine lv_iload_n hx hb dX1_pass_10 rfl (lv_at hl 2 rfl) ?_
    refine lv_iload_n hx hb dX1_pass_11 rfl (lv_at hl 3 rfl) ?_
    refine kS fx (m_isWeather l g wa ra) (lw_S q867 q868 q50 q869) hdX1_isWeather ⟨(Nat.le_of_ble_eq_true rfl), (Nat.le_of_ble_eq_true rfl)⟩ ⟨(Nat.le_of_ble_eq_true rfl), (Nat.le_of_ble_eq_true rfl)⟩ hl.1 hS rfl (Nat.le_of_ble_eq_true rfl) trivial (fun _ h => h.elim) dX1_pass_12 (fun rv9 H locs hQ hz9 hk9 hS => ?_)
    obtain ⟨rfl, rfl⟩ := hQ
    refine W.eq (g2 := F0 m 15 ls [.int (isWeatherF wa ra)]) rfl ?_
    refine lv_if_eq (tgt := 22) hx hb dX1_pass_15 (by decide) (fun c_7 => ?_) (fun c_7 => ?_)
    · skip
      refine lv_iconst (v := 0) hx hb dX1_pass_22 (by decide) ?_
      exact K_3 _ _ 0 (by rw [if_neg c_1, if_pos c_7]) hS (lv_sub hl [0, 1, 2, 3] rfl)
    · skip
      refine lv_iconst (v := 1) hx hb dX1_pass_18 (by decide) ?_
      refine lv_goto (tgt := 23) hx hb dX1_pass_19 (by decide) ?_
      exact K_3 _ _ 1 (by rw [if_neg c_1, if_neg c_7]) hS (lv_sub hl [0, 1, 2, 3] rfl)

set_option maxHeartbeats 4000000 in
theorem t_X_pass1 (l : Launch) (hst : l.stackTraces = false) (g : GT) (ax ap : Nat) (la : LT) (sc : Nat → Int32) (sw : Int64) (ar fd tr ld : Nat → Nat → Int32) (n : CN) (xi : Nat → Int32) (sm : Int64) (pd : Nat → Int32) (h wa ra : Int32) (hok : passOk h wa ra = 0) : Tn l g yX1_pass cX1_pass 6 ((some .int)) 8 [.ref ax, .int h, .int wa, .int ra] "java/lang/IllegalArgumentException" (fun H => xw g (bA g) ax ap la (sc, sw, ar, fd, tr, ld, n) xi sm pd H) := by
  refine Tn.start (by decide +kernel) (Nat.le_of_ble_eq_true rfl) ?_
  intro p ev s m below meth c ls H locs hH hx hb hts hown hlocks hml hex hK hP hS hl
  have hxw := hP
  obtain ⟨hw, h_x, h_p, inx, inp, nxp, nfx, nfp⟩ := hxw
  have fx : Fx p s m ([.ref ax, .int h, .int wa, .int ra] : List Value).toArray c cX1_pass RX1 g (fun _ => False) 6 := ⟨hx, hb, hts, hown, hK, fun _ h => h.elim, hml⟩
  have hl : lv_has ls 6 [(0, .ref ax), (1, .int h), (2, .int wa), (3, .int ra)] := hl
  refine lv_iconst (v := 1) hx hb dX1_pass_0 (by decide) ?_
  refine lv_bipush (v := 72) hx hb dX1_pass_1 (by decide) ?_
  refine lv_iload_n hx hb dX1_pass_3 rfl (lv_at hl 1 rfl) ?_
  refine kS fx (m_isFrom l g 1 72 h) (lw_S q720 q721 q50 q722) hdX1_isFrom ⟨(Nat.le_of_ble_eq_true rfl), (Nat.le_of_ble_eq_true rfl)⟩ ⟨(Nat.le_of_ble_eq_true rfl), (Nat.le_of_ble_eq_true rfl)⟩ hl.1 hS rfl (Nat.le_of_ble_eq_true rfl) trivial (fun _ h => h.elim) dX1_pass_4 (fun rv9 H locs hQ hz9 hk9 hS => ?_)
  obtain ⟨rfl, rfl⟩ := hQ
  refine W.eq (g2 := F0 m 7 ls [.int (isFromF 1 72 h)]) rfl ?_
  have K_3 : ∀ (locs : List Loc) (ls : Array Slot) (v_2 : Int32), v_2 = (if (isFromF 1 72 h) = 0 then 0 else (if (isWeatherF wa ra) = 0 then 0 else 1)) → va_S (fun _ => False) s.heap H locs → lv_has ls 6 [(0, .ref ax), (1, .int h), (2, .int wa), (3, .int ra)] → W p l ev (mR 8 1 6) s m ([.ref ax, .int h, .int wa, .int ra] : List Value).toArray below meth c H locs 0 0 (tQ below "java/lang/IllegalArgumentException" ([.ref ax, .int h, .int wa, .int ra] : List Value).toArray s) (F0 m 23 ls [.int v_2]) := by
    intro locs ls v_2 hv_2 hS hl
    have bzv_2 : bz v_2 := by rw [hv_2]; (repeat' split) <;> first | exact Or.inl rfl | exact Or.inr rfl
    exact tS fx (t_require l hst g v_2 (by rw [hv_2]; exact hok)) (lw_S q723 q724 q50 q725) hdX1_require ⟨(Nat.le_of_ble_eq_true rfl), (Nat.le_of_ble_eq_true rfl)⟩ ⟨(Nat.le_of_ble_eq_true rfl), (Nat.le_of_ble_eq_true rfl)⟩ hl.1 hS rfl (Nat.le_of_ble_eq_true rfl) trivial dX1_pass_23 hex hlocks (Nat.le_of_ble_eq_true rfl) (Nat.le_of_ble_eq_true rfl)
  refine lv_if_eq (tgt := 22) hx hb dX1_pass_7 (by decide) (fun c_1 => ?_) (fun c_1 => ?_)
  · skip
    refine lv_iconst (v := 0) hx hb dX1_pass_22 (by decide) ?_
    exact K_3 _ _ 0 (by rw [if_pos c_1]) hS (lv_sub hl [0, 1, 2, 3] rfl)
  · skip
    refine lv_iload_n hx hb dX1_pass_10 rfl (lv_at hl 2 rfl) ?_
    refine lv_iload_n hx hb dX1_pass_11 rfl (lv_at hl 3 rfl) ?_
    refine kS fx (m_isWeather l g wa ra) (lw_S q867 q868 q50 q869) hdX1_isWeather ⟨(Nat.le_of_ble_eq_true rfl), (Nat.le_of_ble_eq_true rfl)⟩ ⟨(Nat.le_of_ble_eq_true rfl), (Nat.le_of_ble_eq_true rfl)⟩ hl.1 hS rfl (Nat.le_of_ble_eq_true rfl) trivial (fun _ h => h.elim) dX1_pass_12 (fun rv9 H locs hQ hz9 hk9 hS => ?_)
    obtain ⟨rfl, rfl⟩ := hQ
    refine W.eq (g2 := F0 m 15 ls [.int (isWeatherF wa ra)]) rfl ?_
    refine lv_if_eq (tgt := 22) hx hb dX1_pass_15 (by decide) (fun c_4 => ?_) (fun c_4 => ?_)
    · skip
      refine lv_iconst (v := 0) hx hb dX1_pass_22 (by decide) ?_
      exact K_3 _ _ 0 (by rw [if_neg c_1, if_pos c_4]) hS (lv_sub hl [0, 1, 2, 3] rfl)
    · skip
      refine lv_iconst (v := 1) hx hb dX1_pass_18 (by decide) ?_
      refine lv_goto (tgt := 23) hx hb dX1_pass_19 (by decide) ?_
      exact K_3 _ _ 1 (by rw [if_neg c_1, if_neg c_4]) hS (lv_sub hl [0, 1, 2, 3] rfl)

