/-! CANECRUSH: what one asks -/
set_option maxRecDepth 100000
theorem hdX1_lying : yX1_lying.cls ≠ "java/lang/invoke/MethodHandle" ∧ yX1_lying.cls ≠ "java/lang/invoke/VarHandle" ∧ (parseMethodDescriptor yX1_lying.desc).map (fun d => d.parameters.length) = some 1 := by decide +kernel
theorem hdX1_manyNow : yX1_manyNow.cls ≠ "java/lang/invoke/MethodHandle" ∧ yX1_manyNow.cls ≠ "java/lang/invoke/VarHandle" ∧ (parseMethodDescriptor yX1_manyNow.desc).map (fun d => d.parameters.length) = some 1 := by decide +kernel
theorem hdX1_ofFieldNow : yX1_ofFieldNow.cls ≠ "java/lang/invoke/MethodHandle" ∧ yX1_ofFieldNow.cls ≠ "java/lang/invoke/VarHandle" ∧ (parseMethodDescriptor yX1_ofFieldNow.desc).map (fun d => d.parameters.length) = some 2 := by decide +kernel
theorem hdX1_ofGrowerNow : yX1_ofGrowerNow.cls ≠ "java/lang/invoke/MethodHandle" ∧ yX1_ofGrowerNow.cls ≠ "java/lang/invoke/VarHandle" ∧ (parseMethodDescriptor yX1_ofGrowerNow.desc).map (fun d => d.parameters.length) = some 2 := by decide +kernel
theorem hdX1_ofLoadNow : yX1_ofLoadNow.cls ≠ "java/lang/invoke/MethodHandle" ∧ yX1_ofLoadNow.cls ≠ "java/lang/invoke/VarHandle" ∧ (parseMethodDescriptor yX1_ofLoadNow.desc).map (fun d => d.parameters.length) = some 2 := by decide +kernel
theorem hdX1_ofTruckNow : yX1_ofTruckNow.cls ≠ "java/lang/invoke/MethodHandle" ∧ yX1_ofTruckNow.cls ≠ "java/lang/invoke/VarHandle" ∧ (parseMethodDescriptor yX1_ofTruckNow.desc).map (fun d => d.parameters.length) = some 2 := by decide +kernel
theorem hdX1_requireLoad : yX1_requireLoad.cls ≠ "java/lang/invoke/MethodHandle" ∧ yX1_requireLoad.cls ≠ "java/lang/invoke/VarHandle" ∧ (parseMethodDescriptor yX1_requireLoad.desc).map (fun d => d.parameters.length) = some 1 := by decide +kernel
theorem hdX2_inYard : yX2_inYard.cls ≠ "java/lang/invoke/MethodHandle" ∧ yX2_inYard.cls ≠ "java/lang/invoke/VarHandle" ∧ (parseMethodDescriptor yX2_inYard.desc).map (fun d => d.parameters.length) = some 0 := by decide +kernel
def cLying (ld : Nat → Nat → Int32) (n2 : Nat) (f : Int32) : Int32 := sumI (fun k => if ld k 6 = 0 then (if ld k 0 = f then 1 else 0) else 0) n2
set_option maxHeartbeats 4000000 in
theorem m_X_lying (l : Launch) (g : GT) (ax ap : Nat) (la : LT) (sc : Nat → Int32) (sw : Int64) (ar fd tr ld : Nat → Nat → Int32) (n : CN) (xi : Nat → Int32) (sm : Int64) (pd : Nat → Int32) (hn : cN n) (z : Int32) : Cn l g yX1_lying cX1_lying 4 ((some .int)) 3 0 0 [.ref ax, .int z] (fun _ => False) (fun H => xw g (bA g) ax ap la (sc, sw, ar, fd, tr, ld, n) xi sm pd H) (fun Hp rv Hq => Hp = Hq ∧ rv = some (.int (cLying ld (n 2) z))) := by
  refine Cn.start (plainFor_of_name (by decide +kernel)) (Nat.le_of_ble_eq_true rfl) ?_
  intro p ev s m below meth c ls H locs hH hx hb hr hts hown hlocks hml hnm hK hP hS hl
  have hxw := hP
  obtain ⟨hw, h_x, h_p, inx, inp, nxp, nfx, nfp⟩ := hxw
  have fx : Fx p s m ([.ref ax, .int z] : List Value).toArray c cX1_lying RX1 g (fun _ => False) 4 := ⟨hx, hb, hts, hown, hK, fun _ h => h.elim, hml⟩
  have hl : lv_has ls 4 [(0, .ref ax), (1, .int z)] := hl
  refine lv_iconst (v := 0) hx hb dX1_lying_0 (by decide) ?_
  refine lv_istore_n (lv' := [(2, .int 0), (0, .ref ax), (1, .int z)]) hx hb dX1_lying_1 rfl hl (by decide) rfl (fun ls hl => ?_)
  refine lv_iconst (v := 0) hx hb dX1_lying_2 (by decide) ?_
  refine lv_istore_n (lv' := [(3, .int 0), (2, .int 0), (0, .ref ax), (1, .int z)]) hx hb dX1_lying_3 rfl hl (by decide) rfl (fun ls hl => ?_)
  have lp_1 : ∀ (d_2 i : Nat) (H : Heap) (locs : List Loc) (ls : Array Slot), i + d_2 = n 2 → va_S (fun _ => False) s.heap H locs → H = s.heap → mAt g ax (.inr (0, [.ref (la.1 0 0), .ref ap, .int (xi 0), .int (xi 1), .int (xi 2), .int (xi 3), .int (xi 4), .int (xi 5), .int (xi 6), .long sm])) H → mAt g ap (.inl (g.2.1 0, 4, .inl pd)) H → cw g (bA g) la (sc, sw, ar, fd, tr, ld, n) H → lv_has ls 4 [(3, .int (nI i)), (2, .int (sumI (fun k => if ld k 6 = 0 then (if ld k 0 = z then 1 else 0) else 0) i)), (0, .ref ax), (1, .int z)] → W p l ev (mR 3 0 0) s m ([.ref ax, .int z] : List Value).toArray below meth c H locs 0 0 (MQ below (mQ (fun _ => False) (fun Hp rv Hq => Hp = Hq ∧ rv = some (.int (cLying ld (n 2) z)))) ([.ref ax, .int z] : List Value).toArray s 0 0 (fun _ => False)) (F0 m 4 ls []) := by
    intro d_2
    induction d_2 with
    | zero =>
      intro i H locs ls hid hS hH h_x h_p hw hl
      obtain rfl : n 2 = i := by omega
      refine lv_iload_n hx hb dX1_lying_4 rfl (lv_at hl 0 rfl) ?_
      refine lv_aload_n hx hb dX1_lying_5 rfl (lv_at hl 2 rfl) ?_
      refine mget fx tfX1 h_x 0 (by decide) q209 (fun _ h => h) (v := .ref (la.1 0 0)) rfl dX1_lying_6 ?_
      refine mgetN fx tfX2 (cw.w hw) 2 (by decide) q125 (fun _ h => h) (v := .ref (la.1 0 3)) rfl dX1_lying_9 ?_
      refine kV fx (m_AL_size l g (la.1 0 3) (la.1 1 2) (la.2.2 2) (nI (n 2))) (lw_V q253 q254 q255 q54 q256) hdJ2_size ⟨(Nat.le_of_ble_eq_true rfl), (Nat.le_of_ble_eq_true rfl)⟩ ⟨(Nat.le_of_ble_eq_true rfl), (Nat.le_of_ble_eq_true rfl)⟩ hl.1 hS tfJ2.2.1 (cw.al2 hw) rfl (Nat.le_of_ble_eq_true rfl) (cw.al2 hw) (fun _ h => h.elim) dX1_lying_12 (fun rv9 H locs hQ hz9 hk9 hS => ?_)
      obtain ⟨rfl, rfl⟩ := hQ
      refine W.eq (g2 := F0 m 15 ls [.int (nI (n 2)), .int (nI (n 2))]) rfl ?_
      refine lv_icmp_ge (tgt := 73) hx hb dX1_lying_15 (by decide) (fun _ => ?_) (fun h9 => absurd (nI_le (Nat.le_refl _) hn.h2) h9)
      refine lv_iload_n hx hb dX1_lying_73 rfl (lv_at hl 1 rfl) ?_
      exact ri hx hb hr hlocks hS (⟨hH.symm, rfl⟩) ⟨(Nat.le_of_ble_eq_true rfl), (Nat.le_of_ble_eq_true rfl)⟩ dX1_lying_74
    | succ d_2 ih =>
      intro i H locs ls hid hS hH h_x h_p hw hl
      have hi_i : i < n 2 := by omega
      refine lv_iload_n hx hb dX1_lying_4 rfl (lv_at hl 0 rfl) ?_
      refine lv_aload_n hx hb dX1_lying_5 rfl (lv_at hl 2 rfl) ?_
      refine mget fx tfX1 h_x 0 (by decide) q209 (fun _ h => h) (v := .ref (la.1 0 0)) rfl dX1_lying_6 ?_
      refine mgetN fx tfX2 (cw.w hw) 2 (by decide) q125 (fun _ h => h) (v := .ref (la.1 0 3)) rfl dX1_lying_9 ?_
      refine kV fx (m_AL_size l g (la.1 0 3) (la.1 1 2) (la.2.2 2) (nI (n 2))) (lw_V q253 q254 q255 q54 q256) hdJ2_size ⟨(Nat.le_of_ble_eq_true rfl), (Nat.le_of_ble_eq_true rfl)⟩ ⟨(Nat.le_of_ble_eq_true rfl), (Nat.le_of_ble_eq_true rfl)⟩ hl.1 hS tfJ2.2.1 (cw.al2 hw) rfl (Nat.le_of_ble_eq_true rfl) (cw.al2 hw) (fun _ h => h.elim) dX1_lying_12 (fun rv9 H locs hQ hz9 hk9 hS => ?_)
      obtain ⟨rfl, rfl⟩ := hQ
      refine W.eq (g2 := F0 m 15 ls [.int (nI (n 2)), .int (nI i)]) rfl ?_
      refine lv_icmp_ge (tgt := 73) hx hb dX1_lying_15 (by decide) (fun h9 => absurd h9 (nI_ge hi_i hn.h2)) (fun _ => ?_)
      refine lv_iload_n hx hb dX1_lying_18 rfl (lv_at hl 1 rfl) ?_
      refine lv_aload_n hx hb dX1_lying_19 rfl (lv_at hl 2 rfl) ?_
      refine mget fx tfX1 h_x 0 (by decide) q209 (fun _ h => h) (v := .ref (la.1 0 0)) rfl dX1_lying_20 ?_
      refine mgetN fx tfX2 (cw.w hw) 2 (by decide) q125 (fun _ h => h) (v := .ref (la.1 0 3)) rfl dX1_lying_23 ?_
      refine lv_iload_n hx hb dX1_lying_26 rfl (lv_at hl 0 rfl) ?_
      refine kV fx (m_AL_get l g (la.1 0 3) (la.1 1 2) i (n 2) (la.2.1 2) (la.1 4 i) (la.2.2 2) (elF la.1 n 2) hi_i (cw.get hw (k := 2) (by decide) hi_i).2.1 (cw.get hw (k := 2) (by decide) hi_i).2.2.1 (cw.get hw (k := 2) (by decide) hi_i).2.2.2) (lw_V q286 q263 q264 q54 q265) hdJ2_get ⟨(Nat.le_of_ble_eq_true rfl), (Nat.le_of_ble_eq_true rfl)⟩ ⟨(Nat.le_of_ble_eq_true rfl), (Nat.le_of_ble_eq_true rfl)⟩ hl.1 hS tfJ2.2.1 (cw.al2 hw) rfl (Nat.le_of_ble_eq_true rfl) (⟨(cw.al2 hw), (cw.get hw (k := 2) (by decide) hi_i).1⟩) (fun _ h => h.elim) dX1_lying_27 (fun rv9 H locs hQ hz9 hk9 hS => ?_)
      obtain ⟨rfl, rfl⟩ := hQ
      refine W.eq (g2 := F0 m 30 ls [.ref (la.1 4 i), .int (sumI (fun k => if ld k 6 = 0 then (if ld k 0 = z then 1 else 0) else 0) i)]) rfl ?_
      refine mcast fx tfX9 (cw.l hw hi_i) q292 dX1_lying_30 ?_
      refine mgetN fx tfX9 (cw.l hw hi_i) 6 (by decide) q526 (fun _ h => h) (v := .int (ld i 6)) rfl dX1_lying_33 ?_
      refine lv_if_ne (tgt := 64) hx hb dX1_lying_36 (by decide) (fun c_3 => ?_) (fun c_3 => ?_)
      · skip
        refine lv_iconst (v := 0) hx hb dX1_lying_64 (by decide) ?_
        refine lv_iadd hx hb dX1_lying_65 ?_
        refine lv_istore_n (lv' := [(2, .int ((sumI (fun k => if ld k 6 = 0 then (if ld k 0 = z then 1 else 0) else 0) i) + 0)), (3, .int (nI i)), (0, .ref ax), (1, .int z)]) hx hb dX1_lying_66 rfl hl (by decide) rfl (fun ls hl => ?_)
        refine lv_iinc (v := nI (i + 1)) (lv' := [(3, .int (nI (i + 1))), (2, .int ((sumI (fun k => if ld k 6 = 0 then (if ld k 0 = z then 1 else 0) else 0) i) + 0)), (0, .ref ax), (1, .int z)]) hx hb dX1_lying_67 hl (k := 1) rfl (nI_1 _) (by decide) rfl (fun ls hl => ?_)
        refine lv_goto (tgt := 4) hx hb dX1_lying_70 (by decide) ?_
        have e_4 : (.int ((sumI (fun k => if ld k 6 = 0 then (if ld k 0 = z then 1 else 0) else 0) i) + 0) : Value) = .int (sumI (fun k => if ld k 6 = 0 then (if ld k 0 = z then 1 else 0) else 0) (i + 1)) := (congrArg Value.int (by show _ = sumI (fun k => if ld k 6 = 0 then (if ld k 0 = z then 1 else 0) else 0) i + (if ld i 6 = 0 then (if ld i 0 = z then 1 else 0) else 0); rw [if_neg c_3]))
        rw [e_4] at hl
        exact ih (i + 1) H locs ls (by omega) hS hH h_x h_p hw (lv_sub hl [0, 1, 2, 3] rfl)
      · skip
        refine lv_aload_n hx hb dX1_lying_39 rfl (lv_at hl 2 rfl) ?_
        refine mget fx tfX1 h_x 0 (by decide) q209 (fun _ h => h) (v := .ref (la.1 0 0)) rfl dX1_lying_40 ?_
        refine mgetN fx tfX2 (cw.w hw) 2 (by decide) q125 (fun _ h => h) (v := .ref (la.1 0 3)) rfl dX1_lying_43 ?_
        refine lv_iload_n hx hb dX1_lying_46 rfl (lv_at hl 0 rfl) ?_
        refine kV fx (m_AL_get l g (la.1 0 3) (la.1 1 2) i (n 2) (la.2.1 2) (la.1 4 i) (la.2.2 2) (elF la.1 n 2) hi_i (cw.get hw (k := 2) (by decide) hi_i).2.1 (cw.get hw (k := 2) (by decide) hi_i).2.2.1 (cw.get hw (k := 2) (by decide) hi_i).2.2.2) (lw_V q286 q263 q264 q54 q265) hdJ2_get ⟨(Nat.le_of_ble_eq_true rfl), (Nat.le_of_ble_eq_true rfl)⟩ ⟨(Nat.le_of_ble_eq_true rfl), (Nat.le_of_ble_eq_true rfl)⟩ hl.1 hS tfJ2.2.1 (cw.al2 hw) rfl (Nat.le_of_ble_eq_true rfl) (⟨(cw.al2 hw), (cw.get hw (k := 2) (by decide) hi_i).1⟩) (fun _ h => h.elim) dX1_lying_47 (fun rv9 H locs hQ hz9 hk9 hS => ?_)
        obtain ⟨rfl, rfl⟩ := hQ
        refine W.eq (g2 := F0 m 50 ls [.ref (la.1 4 i), .int (sumI (fun k => if ld k 6 = 0 then (if ld k 0 = z then 1 else 0) else 0) i)]) rfl ?_
        refine mcast fx tfX9 (cw.l hw hi_i) q292 dX1_lying_50 ?_
        refine mgetN fx tfX9 (cw.l hw hi_i) 0 (by decide) q511 (fun _ h => h) (v := .int (ld i 0)) rfl dX1_lying_53 ?_
        refine lv_iload_n hx hb dX1_lying_56 rfl (lv_at hl 3 rfl) ?_
        refine lv_icmp_ne (tgt := 64) hx hb dX1_lying_57 (by decide) (fun c_5 => ?_) (fun c_5 => ?_)
        · skip
          refine lv_iconst (v := 0) hx hb dX1_lying_64 (by decide) ?_
          refine lv_iadd hx hb dX1_lying_65 ?_
          refine lv_istore_n (lv' := [(2, .int ((sumI (fun k => if ld k 6 = 0 then (if ld k 0 = z then 1 else 0) else 0) i) + 0)), (3, .int (nI i)), (0, .ref ax), (1, .int z)]) hx hb dX1_lying_66 rfl hl (by decide) rfl (fun ls hl => ?_)
          refine lv_iinc (v := nI (i + 1)) (lv' := [(3, .int (nI (i + 1))), (2, .int ((sumI (fun k => if ld k 6 = 0 then (if ld k 0 = z then 1 else 0) else 0) i) + 0)), (0, .ref ax), (1, .int z)]) hx hb dX1_lying_67 hl (k := 1) rfl (nI_1 _) (by decide) rfl (fun ls hl => ?_)
          refine lv_goto (tgt := 4) hx hb dX1_lying_70 (by decide) ?_
          have e_6 : (.int ((sumI (fun k => if ld k 6 = 0 then (if ld k 0 = z then 1 else 0) else 0) i) + 0) : Value) = .int (sumI (fun k => if ld k 6 = 0 then (if ld k 0 = z then 1 else 0) else 0) (i + 1)) := (congrArg Value.int (by show _ = sumI (fun k => if ld k 6 = 0 then (if ld k 0 = z then 1 else 0) else 0) i + (if ld i 6 = 0 then (if ld i 0 = z then 1 else 0) else 0); rw [if_pos c_3, if_neg c_5]))
          rw [e_6] at hl
          exact ih (i + 1) H locs ls (by omega) hS hH h_x h_p hw (lv_sub hl [0, 1, 2, 3] rfl)
        · skip
          refine lv_iconst (v := 1) hx hb dX1_lying_60 (by decide) ?_
          refine lv_goto (tgt := 65) hx hb dX1_lying_61 (by decide) ?_
          refine lv_iadd hx hb dX1_lying_65 ?_
          refine lv_istore_n (lv' := [(2, .int ((sumI (fun k => if ld k 6 = 0 then (if ld k 0 = z then 1 else 0) else 0) i) + 1)), (3, .int (nI i)), (0, .ref ax), (1, .int z)]) hx hb dX1_lying_66 rfl hl (by decide) rfl (fun ls hl => ?_)
          refine lv_iinc (v := nI (i + 1)) (lv' := [(3, .int (nI (i + 1))), (2, .int ((sumI (fun k => if ld k 6 = 0 then (if ld k 0 = z then 1 else 0) else 0) i) + 1)), (0, .ref ax), (1, .int z)]) hx hb dX1_lying_67 hl (k := 1) rfl (nI_1 _) (by decide) rfl (fun ls hl => ?_)
          refine lv_goto (tgt := 4) hx hb dX1_lying_70 (by decide) ?_
          have e_7 : (.int ((sumI (fun k => if ld k 6 = 0 then (if ld k 0 = z then 1 else 0) else 0) i) + 1) : Value) = .int (sumI (fun k => if ld k 6 = 0 then (if ld k 0 = z then 1 else 0) else 0) (i + 1)) := (congrArg Value.int (by show _ = sumI (fun k => if ld k 6 = 0 then (if ld k 0 = z then 1 else 0) else 0) i + (if ld i 6 = 0 then (if ld i 0 = z then 1 else 0) else 0); rw [if_pos c_3, if_pos c_5]))
          rw [e_7] at hl
          exact ih (i + 1) H locs ls (by omega) hS hH h_x h_p hw (lv_sub hl [0, 1, 2, 3] rfl)
  exact lp_1 (n 2 - 0) 0 H locs ls (by omega) hS hH h_x h_p hw (lv_sub hl [0, 1, 2, 3] rfl)

def cOfF (fd ld : Nat → Nat → Int32) (n2 i q : Nat) : Int32 := match q with | 0 => fd i 0 | 1 => fd i 1 | 2 => fd i 2 | 3 => fd i 3 | 4 => fd i 4 | 5 => fd i 5 | 6 => fd i 6 | 7 => fd i 7 | 8 => if fd i 8 = 0 then 0 else 1 | 9 => if fd i 9 = 0 then 0 else 1 | 10 => if fd i 10 = 0 then 0 else 1 | _ => cLying ld n2 (nI i)
set_option maxHeartbeats 4000000 in
theorem m_X_ofFieldNow_0 (l : Launch) (g : GT) (ax ap : Nat) (la : LT) (sc : Nat → Int32) (sw : Int64) (ar fd tr ld : Nat → Nat → Int32) (n : CN) (xi : Nat → Int32) (sm : Int64) (pd : Nat → Int32) (hn : cN n) (i : Nat) (hi : i < n 0) : Cn l g yX1_ofFieldNow cX1_ofFieldNow 4 ((some .int)) 4 0 0 [.ref ax, .int (nI i), .int 0] (fun _ => False) (fun H => xw g (bA g) ax ap la (sc, sw, ar, fd, tr, ld, n) xi sm pd H) (fun Hp rv Hq => Hp = Hq ∧ rv = some (.int (fd i 0))) := by
  refine Cn.start (plainFor_of_name (by decide +kernel)) (Nat.le_of_ble_eq_true rfl) ?_
  intro p ev s m below meth c ls H locs hH hx hb hr hts hown hlocks hml hnm hK hP hS hl
  have hxw := hP
  obtain ⟨hw, h_x, h_p, inx, inp, nxp, nfx, nfp⟩ := hxw
  have fx : Fx p s m ([.ref ax, .int (nI i), .int 0] : List Value).toArray c cX1_ofFieldNow RX1 g (fun _ => False) 4 := ⟨hx, hb, hts, hown, hK, fun _ h => h.elim, hml⟩
  have hl : lv_has ls 4 [(0, .ref ax), (1, .int (nI i)), (2, .int 0)] := hl
  refine lv_aload_n hx hb dX1_ofFieldNow_0 rfl (lv_at hl 0 rfl) ?_
  refine mget fx tfX1 h_x 0 (by decide) q209 (fun _ h => h) (v := .ref (la.1 0 0)) rfl dX1_ofFieldNow_1 ?_
  refine mgetN fx tfX2 (cw.w hw) 0 (by decide) q121 (fun _ h => h) (v := .ref (la.1 0 1)) rfl dX1_ofFieldNow_4 ?_
  refine lv_iload_n hx hb dX1_ofFieldNow_7 rfl (lv_at hl 1 rfl) ?_
  refine kV fx (m_AL_get l g (la.1 0 1) (la.1 1 0) i (n 0) (la.2.1 0) (la.1 2 i) (la.2.2 0) (elF la.1 n 0) hi (cw.get hw (k := 0) (by decide) hi).2.1 (cw.get hw (k := 0) (by decide) hi).2.2.1 (cw.get hw (k := 0) (by decide) hi).2.2.2) (lw_V q286 q263 q264 q54 q265) hdJ2_get ⟨(Nat.le_of_ble_eq_true rfl), (Nat.le_of_ble_eq_true rfl)⟩ ⟨(Nat.le_of_ble_eq_true rfl), (Nat.le_of_ble_eq_true rfl)⟩ hl.1 hS tfJ2.2.1 (cw.al0 hw) rfl (Nat.le_of_ble_eq_true rfl) (⟨(cw.al0 hw), (cw.get hw (k := 0) (by decide) hi).1⟩) (fun _ h => h.elim) dX1_ofFieldNow_8 (fun rv9 H locs hQ hz9 hk9 hS => ?_)
  obtain ⟨rfl, rfl⟩ := hQ
  refine W.eq (g2 := F0 m 11 ls [.ref (la.1 2 i)]) rfl ?_
  refine mcast fx tfX5 (cw.f hw hi) q287 dX1_ofFieldNow_11 ?_
  refine lv_astore_n (lv' := [(3, .ref (la.1 2 i)), (0, .ref ax), (1, .int (nI i)), (2, .int 0)]) hx hb dX1_ofFieldNow_14 rfl hl (by decide) rfl (fun ls hl => ?_)
  refine lv_iload_n hx hb dX1_ofFieldNow_15 rfl (lv_at hl 3 rfl) ?_
  refine lv_tableIn (off := 60) (tgt := 76) hx hb dX1_ofFieldNow_16 (by decide) (by decide) (by decide) (by decide) ?_
  refine lv_aload_n hx hb dX1_ofFieldNow_76 rfl (lv_at hl 0 rfl) ?_
  refine mgetN fx tfX5 (cw.f hw hi) 0 (by decide) q309 (fun _ h => h) (v := .int (fd i 0)) rfl dX1_ofFieldNow_77 ?_
  exact ri hx hb hr hlocks hS (⟨hH.symm, rfl⟩) ⟨(Nat.le_of_ble_eq_true rfl), (Nat.le_of_ble_eq_true rfl)⟩ dX1_ofFieldNow_80

set_option maxHeartbeats 4000000 in
theorem m_X_ofFieldNow_1 (l : Launch) (g : GT) (ax ap : Nat) (la : LT) (sc : Nat → Int32) (sw : Int64) (ar fd tr ld : Nat → Nat → Int32) (n : CN) (xi : Nat → Int32) (sm : Int64) (pd : Nat → Int32) (hn : cN n) (i : Nat) (hi : i < n 0) : Cn l g yX1_ofFieldNow cX1_ofFieldNow 4 ((some .int)) 4 0 0 [.ref ax, .int (nI i), .int 1] (fun _ => False) (fun H => xw g (bA g) ax ap la (sc, sw, ar, fd, tr, ld, n) xi sm pd H) (fun Hp rv Hq => Hp = Hq ∧ rv = some (.int (fd i 1))) := by
  refine Cn.start (plainFor_of_name (by decide +kernel)) (Nat.le_of_ble_eq_true rfl) ?_
  intro p ev s m below meth c ls H locs hH hx hb hr hts hown hlocks hml hnm hK hP hS hl
  have hxw := hP
  obtain ⟨hw, h_x, h_p, inx, inp, nxp, nfx, nfp⟩ := hxw
  have fx : Fx p s m ([.ref ax, .int (nI i), .int 1] : List Value).toArray c cX1_ofFieldNow RX1 g (fun _ => False) 4 := ⟨hx, hb, hts, hown, hK, fun _ h => h.elim, hml⟩
  have hl : lv_has ls 4 [(0, .ref ax), (1, .int (nI i)), (2, .int 1)] := hl
  refine lv_aload_n hx hb dX1_ofFieldNow_0 rfl (lv_at hl 0 rfl) ?_
  refine mget fx tfX1 h_x 0 (by decide) q209 (fun _ h => h) (v := .ref (la.1 0 0)) rfl dX1_ofFieldNow_1 ?_
  refine mgetN fx tfX2 (cw.w hw) 0 (by decide) q121 (fun _ h => h) (v := .ref (la.1 0 1)) rfl dX1_ofFieldNow_4 ?_
  refine lv_iload_n hx hb dX1_ofFieldNow_7 rfl (lv_at hl 1 rfl) ?_
  refine kV fx (m_AL_get l g (la.1 0 1) (la.1 1 0) i (n 0) (la.2.1 0) (la.1 2 i) (la.2.2 0) (elF la.1 n 0) hi (cw.get hw (k := 0) (by decide) hi).2.1 (cw.get hw (k := 0) (by decide) hi).2.2.1 (cw.get hw (k := 0) (by decide) hi).2.2.2) (lw_V q286 q263 q264 q54 q265) hdJ2_get ⟨(Nat.le_of_ble_eq_true rfl), (Nat.le_of_ble_eq_true rfl)⟩ ⟨(Nat.le_of_ble_eq_true rfl), (Nat.le_of_ble_eq_true rfl)⟩ hl.1 hS tfJ2.2.1 (cw.al0 hw) rfl (Nat.le_of_ble_eq_true rfl) (⟨(cw.al0 hw), (cw.get hw (k := 0) (by decide) hi).1⟩) (fun _ h => h.elim) dX1_ofFieldNow_8 (fun rv9 H locs hQ hz9 hk9 hS => ?_)
  obtain ⟨rfl, rfl⟩ := hQ
  refine W.eq (g2 := F0 m 11 ls [.ref (la.1 2 i)]) rfl ?_
  refine mcast fx tfX5 (cw.f hw hi) q287 dX1_ofFieldNow_11 ?_
  refine lv_astore_n (lv' := [(3, .ref (la.1 2 i)), (0, .ref ax), (1, .int (nI i)), (2, .int 1)]) hx hb dX1_ofFieldNow_14 rfl hl (by decide) rfl (fun ls hl => ?_)
  refine lv_iload_n hx hb dX1_ofFieldNow_15 rfl (lv_at hl 3 rfl) ?_
  refine lv_tableIn (off := 65) (tgt := 81) hx hb dX1_ofFieldNow_16 (by decide) (by decide) (by decide) (by decide) ?_
  refine lv_aload_n hx hb dX1_ofFieldNow_81 rfl (lv_at hl 0 rfl) ?_
  refine mgetN fx tfX5 (cw.f hw hi) 1 (by decide) q311 (fun _ h => h) (v := .int (fd i 1)) rfl dX1_ofFieldNow_82 ?_
  exact ri hx hb hr hlocks hS (⟨hH.symm, rfl⟩) ⟨(Nat.le_of_ble_eq_true rfl), (Nat.le_of_ble_eq_true rfl)⟩ dX1_ofFieldNow_85

set_option maxHeartbeats 4000000 in
theorem m_X_ofFieldNow_2 (l : Launch) (g : GT) (ax ap : Nat) (la : LT) (sc : Nat → Int32) (sw : Int64) (ar fd tr ld : Nat → Nat → Int32) (n : CN) (xi : Nat → Int32) (sm : Int64) (pd : Nat → Int32) (hn : cN n) (i : Nat) (hi : i < n 0) : Cn l g yX1_ofFieldNow cX1_ofFieldNow 4 ((some .int)) 4 0 0 [.ref ax, .int (nI i), .int 2] (fun _ => False) (fun H => xw g (bA g) ax ap la (sc, sw, ar, fd, tr, ld, n) xi sm pd H) (fun Hp rv Hq => Hp = Hq ∧ rv = some (.int (fd i 2))) := by
  refine Cn.start (plainFor_of_name (by decide +kernel)) (Nat.le_of_ble_eq_true rfl) ?_
  intro p ev s m below meth c ls H locs hH hx hb hr hts hown hlocks hml hnm hK hP hS hl
  have hxw := hP
  obtain ⟨hw, h_x, h_p, inx, inp, nxp, nfx, nfp⟩ := hxw
  have fx : Fx p s m ([.ref ax, .int (nI i), .int 2] : List Value).toArray c cX1_ofFieldNow RX1 g (fun _ => False) 4 := ⟨hx, hb, hts, hown, hK, fun _ h => h.elim, hml⟩
  have hl : lv_has ls 4 [(0, .ref ax), (1, .int (nI i)), (2, .int 2)] := hl
  refine lv_aload_n hx hb dX1_ofFieldNow_0 rfl (lv_at hl 0 rfl) ?_
  refine mget fx tfX1 h_x 0 (by decide) q209 (fun _ h => h) (v := .ref (la.1 0 0)) rfl dX1_ofFieldNow_1 ?_
  refine mgetN fx tfX2 (cw.w hw) 0 (by decide) q121 (fun _ h => h) (v := .ref (la.1 0 1)) rfl dX1_ofFieldNow_4 ?_
  refine lv_iload_n hx hb dX1_ofFieldNow_7 rfl (lv_at hl 1 rfl) ?_
  refine kV fx (m_AL_get l g (la.1 0 1) (la.1 1 0) i (n 0) (la.2.1 0) (la.1 2 i) (la.2.2 0) (elF la.1 n 0) hi (cw.get hw (k := 0) (by decide) hi).2.1 (cw.get hw (k := 0) (by decide) hi).2.2.1 (cw.get hw (k := 0) (by decide) hi).2.2.2) (lw_V q286 q263 q264 q54 q265) hdJ2_get ⟨(Nat.le_of_ble_eq_true rfl), (Nat.le_of_ble_eq_true rfl)⟩ ⟨(Nat.le_of_ble_eq_true rfl), (Nat.le_of_ble_eq_true rfl)⟩ hl.1 hS tfJ2.2.1 (cw.al0 hw) rfl (Nat.le_of_ble_eq_true rfl) (⟨(cw.al0 hw), (cw.get hw (k := 0) (by decide) hi).1⟩) (fun _ h => h.elim) dX1_ofFieldNow_8 (fun rv9 H locs hQ hz9 hk9 hS => ?_)
  obtain ⟨rfl, rfl⟩ := hQ
  refine W.eq (g2 := F0 m 11 ls [.ref (la.1 2 i)]) rfl ?_
  refine mcast fx tfX5 (cw.f hw hi) q287 dX1_ofFieldNow_11 ?_
  refine lv_astore_n (lv' := [(3, .ref (la.1 2 i)), (0, .ref ax), (1, .int (nI i)), (2, .int 2)]) hx hb dX1_ofFieldNow_14 rfl hl (by decide) rfl (fun ls hl => ?_)
  refine lv_iload_n hx hb dX1_ofFieldNow_15 rfl (lv_at hl 3 rfl) ?_
  refine lv_tableIn (off := 70) (tgt := 86) hx hb dX1_ofFieldNow_16 (by decide) (by decide) (by decide) (by decide) ?_
  refine lv_aload_n hx hb dX1_ofFieldNow_86 rfl (lv_at hl 0 rfl) ?_
  refine mgetN fx tfX5 (cw.f hw hi) 2 (by decide) q314 (fun _ h => h) (v := .int (fd i 2)) rfl dX1_ofFieldNow_87 ?_
  exact ri hx hb hr hlocks hS (⟨hH.symm, rfl⟩) ⟨(Nat.le_of_ble_eq_true rfl), (Nat.le_of_ble_eq_true rfl)⟩ dX1_ofFieldNow_90

set_option maxHeartbeats 4000000 in
theorem m_X_ofFieldNow_3 (l : Launch) (g : GT) (ax ap : Nat) (la : LT) (sc : Nat → Int32) (sw : Int64) (ar fd tr ld : Nat → Nat → Int32) (n : CN) (xi : Nat → Int32) (sm : Int64) (pd : Nat → Int32) (hn : cN n) (i : Nat) (hi : i < n 0) : Cn l g yX1_ofFieldNow cX1_ofFieldNow 4 ((some .int)) 4 0 0 [.ref ax, .int (nI i), .int 3] (fun _ => False) (fun H => xw g (bA g) ax ap la (sc, sw, ar, fd, tr, ld, n) xi sm pd H) (fun Hp rv Hq => Hp = Hq ∧ rv = some (.int (fd i 3))) := by
  refine Cn.start (plainFor_of_name (by decide +kernel)) (Nat.le_of_ble_eq_true rfl) ?_
  intro p ev s m below meth c ls H locs hH hx hb hr hts hown hlocks hml hnm hK hP hS hl
  have hxw := hP
  obtain ⟨hw, h_x, h_p, inx, inp, nxp, nfx, nfp⟩ := hxw
  have fx : Fx p s m ([.ref ax, .int (nI i), .int 3] : List Value).toArray c cX1_ofFieldNow RX1 g (fun _ => False) 4 := ⟨hx, hb, hts, hown, hK, fun _ h => h.elim, hml⟩
  have hl : lv_has ls 4 [(0, .ref ax), (1, .int (nI i)), (2, .int 3)] := hl
  refine lv_aload_n hx hb dX1_ofFieldNow_0 rfl (lv_at hl 0 rfl) ?_
  refine mget fx tfX1 h_x 0 (by decide) q209 (fun _ h => h) (v := .ref (la.1 0 0)) rfl dX1_ofFieldNow_1 ?_
  refine mgetN fx tfX2 (cw.w hw) 0 (by decide) q121 (fun _ h => h) (v := .ref (la.1 0 1)) rfl dX1_ofFieldNow_4 ?_
  refine lv_iload_n hx hb dX1_ofFieldNow_7 rfl (lv_at hl 1 rfl) ?_
  refine kV fx (m_AL_get l g (la.1 0 1) (la.1 1 0) i (n 0) (la.2.1 0) (la.1 2 i) (la.2.2 0) (elF la.1 n 0) hi (cw.get hw (k := 0) (by decide) hi).2.1 (cw.get hw (k := 0) (by decide) hi).2.2.1 (cw.get hw (k := 0) (by decide) hi).2.2.2) (lw_V q286 q263 q264 q54 q265) hdJ2_get ⟨(Nat.le_of_ble_eq_true rfl), (Nat.le_of_ble_eq_true rfl)⟩ ⟨(Nat.le_of_ble_eq_true rfl), (Nat.le_of_ble_eq_true rfl)⟩ hl.1 hS tfJ2.2.1 (cw.al0 hw) rfl (Nat.le_of_ble_eq_true rfl) (⟨(cw.al0 hw), (cw.get hw (k := 0) (by decide) hi).1⟩) (fun _ h => h.elim) dX1_ofFieldNow_8 (fun rv9 H locs hQ hz9 hk9 hS => ?_)
  obtain ⟨rfl, rfl⟩ := hQ
  refine W.eq (g2 := F0 m 11 ls [.ref (la.1 2 i)]) rfl ?_
  refine mcast fx tfX5 (cw.f hw hi) q287 dX1_ofFieldNow_11 ?_
  refine lv_astore_n (lv' := [(3, .ref (la.1 2 i)), (0, .ref ax), (1, .int (nI i)), (2, .int 3)]) hx hb dX1_ofFieldNow_14 rfl hl (by decide) rfl (fun ls hl => ?_)
  refine lv_iload_n hx hb dX1_ofFieldNow_15 rfl (lv_at hl 3 rfl) ?_
  refine lv_tableIn (off := 75) (tgt := 91) hx hb dX1_ofFieldNow_16 (by decide) (by decide) (by decide) (by decide) ?_
  refine lv_aload_n hx hb dX1_ofFieldNow_91 rfl (lv_at hl 0 rfl) ?_
  refine mgetN fx tfX5 (cw.f hw hi) 3 (by decide) q316 (fun _ h => h) (v := .int (fd i 3)) rfl dX1_ofFieldNow_92 ?_
  exact ri hx hb hr hlocks hS (⟨hH.symm, rfl⟩) ⟨(Nat.le_of_ble_eq_true rfl), (Nat.le_of_ble_eq_true rfl)⟩ dX1_ofFieldNow_95

set_option maxHeartbeats 4000000 in
theorem m_X_ofFieldNow_4 (l : Launch) (g : GT) (ax ap : Nat) (la : LT) (sc : Nat → Int32) (sw : Int64) (ar fd tr ld : Nat → Nat → Int32) (n : CN) (xi : Nat → Int32) (sm : Int64) (pd : Nat → Int32) (hn : cN n) (i : Nat) (hi : i < n 0) : Cn l g yX1_ofFieldNow cX1_ofFieldNow 4 ((some .int)) 4 0 0 [.ref ax, .int (nI i), .int 4] (fun _ => False) (fun H => xw g (bA g) ax ap la (sc, sw, ar, fd, tr, ld, n) xi sm pd H) (fun Hp rv Hq => Hp = Hq ∧ rv = some (.int (fd i 4))) := by
  refine Cn.start (plainFor_of_name (by decide +kernel)) (Nat.le_of_ble_eq_true rfl) ?_
  intro p ev s m below meth c ls H locs hH hx hb hr hts hown hlocks hml hnm hK hP hS hl
  have hxw := hP
  obtain ⟨hw, h_x, h_p, inx, inp, nxp, nfx, nfp⟩ := hxw
  have fx : Fx p s m ([.ref ax, .int (nI i), .int 4] : List Value).toArray c cX1_ofFieldNow RX1 g (fun _ => False) 4 := ⟨hx, hb, hts, hown, hK, fun _ h => h.elim, hml⟩
  have hl : lv_has ls 4 [(0, .ref ax), (1, .int (nI i)), (2, .int 4)] := hl
  refine lv_aload_n hx hb dX1_ofFieldNow_0 rfl (lv_at hl 0 rfl) ?_
  refine mget fx tfX1 h_x 0 (by decide) q209 (fun _ h => h) (v := .ref (la.1 0 0)) rfl dX1_ofFieldNow_1 ?_
  refine mgetN fx tfX2 (cw.w hw) 0 (by decide) q121 (fun _ h => h) (v := .ref (la.1 0 1)) rfl dX1_ofFieldNow_4 ?_
  refine lv_iload_n hx hb dX1_ofFieldNow_7 rfl (lv_at hl 1 rfl) ?_
  refine kV fx (m_AL_get l g (la.1 0 1) (la.1 1 0) i (n 0) (la.2.1 0) (la.1 2 i) (la.2.2 0) (elF la.1 n 0) hi (cw.get hw (k := 0) (by decide) hi).2.1 (cw.get hw (k := 0) (by decide) hi).2.2.1 (cw.get hw (k := 0) (by decide) hi).2.2.2) (lw_V q286 q263 q264 q54 q265) hdJ2_get ⟨(Nat.le_of_ble_eq_true rfl), (Nat.le_of_ble_eq_true rfl)⟩ ⟨(Nat.le_of_ble_eq_true rfl), (Nat.le_of_ble_eq_true rfl)⟩ hl.1 hS tfJ2.2.1 (cw.al0 hw) rfl (Nat.le_of_ble_eq_true rfl) (⟨(cw.al0 hw), (cw.get hw (k := 0) (by decide) hi).1⟩) (fun _ h => h.elim) dX1_ofFieldNow_8 (fun rv9 H locs hQ hz9 hk9 hS => ?_)
  obtain ⟨rfl, rfl⟩ := hQ
  refine W.eq (g2 := F0 m 11 ls [.ref (la.1 2 i)]) rfl ?_
  refine mcast fx tfX5 (cw.f hw hi) q287 dX1_ofFieldNow_11 ?_
  refine lv_astore_n (lv' := [(3, .ref (la.1 2 i)), (0, .ref ax), (1, .int (nI i)), (2, .int 4)]) hx hb dX1_ofFieldNow_14 rfl hl (by decide) rfl (fun ls hl => ?_)
  refine lv_iload_n hx hb dX1_ofFieldNow_15 rfl (lv_at hl 3 rfl) ?_
  refine lv_tableIn (off := 80) (tgt := 96) hx hb dX1_ofFieldNow_16 (by decide) (by decide) (by decide) (by decide) ?_
  refine lv_aload_n hx hb dX1_ofFieldNow_96 rfl (lv_at hl 0 rfl) ?_
  refine mgetN fx tfX5 (cw.f hw hi) 4 (by decide) q318 (fun _ h => h) (v := .int (fd i 4)) rfl dX1_ofFieldNow_97 ?_
  exact ri hx hb hr hlocks hS (⟨hH.symm, rfl⟩) ⟨(Nat.le_of_ble_eq_true rfl), (Nat.le_of_ble_eq_true rfl)⟩ dX1_ofFieldNow_100

set_option maxHeartbeats 4000000 in
theorem m_X_ofFieldNow_5 (l : Launch) (g : GT) (ax ap : Nat) (la : LT) (sc : Nat → Int32) (sw : Int64) (ar fd tr ld : Nat → Nat → Int32) (n : CN) (xi : Nat → Int32) (sm : Int64) (pd : Nat → Int32) (hn : cN n) (i : Nat) (hi : i < n 0) : Cn l g yX1_ofFieldNow cX1_ofFieldNow 4 ((some .int)) 4 0 0 [.ref ax, .int (nI i), .int 5] (fun _ => False) (fun H => xw g (bA g) ax ap la (sc, sw, ar, fd, tr, ld, n) xi sm pd H) (fun Hp rv Hq => Hp = Hq ∧ rv = some (.int (fd i 5))) := by
  refine Cn.start (plainFor_of_name (by decide +kernel)) (Nat.le_of_ble_eq_true rfl) ?_
  intro p ev s m below meth c ls H locs hH hx hb hr hts hown hlocks hml hnm hK hP hS hl
  have hxw := hP
  obtain ⟨hw, h_x, h_p, inx, inp, nxp, nfx, nfp⟩ := hxw
  have fx : Fx p s m ([.ref ax, .int (nI i), .int 5] : List Value).toArray c cX1_ofFieldNow RX1 g (fun _ => False) 4 := ⟨hx, hb, hts, hown, hK, fun _ h => h.elim, hml⟩
  have hl : lv_has ls 4 [(0, .ref ax), (1, .int (nI i)), (2, .int 5)] := hl
  refine lv_aload_n hx hb dX1_ofFieldNow_0 rfl (lv_at hl 0 rfl) ?_
  refine mget fx tfX1 h_x 0 (by decide) q209 (fun _ h => h) (v := .ref (la.1 0 0)) rfl dX1_ofFieldNow_1 ?_
  refine mgetN fx tfX2 (cw.w hw) 0 (by decide) q121 (fun _ h => h) (v := .ref (la.1 0 1)) rfl dX1_ofFieldNow_4 ?_
  refine lv_iload_n hx hb dX1_ofFieldNow_7 rfl (lv_at hl 1 rfl) ?_
  refine kV fx (m_AL_get l g (la.1 0 1) (la.1 1 0) i (n 0) (la.2.1 0) (la.1 2 i) (la.2.2 0) (elF la.1 n 0) hi (cw.get hw (k := 0) (by decide) hi).2.1 (cw.get hw (k := 0) (by decide) hi).2.2.1 (cw.get hw (k := 0) (by decide) hi).2.2.2) (lw_V q286 q263 q264 q54 q265) hdJ2_get ⟨(Nat.le_of_ble_eq_true rfl), (Nat.le_of_ble_eq_true rfl)⟩ ⟨(Nat.le_of_ble_eq_true rfl), (Nat.le_of_ble_eq_true rfl)⟩ hl.1 hS tfJ2.2.1 (cw.al0 hw) rfl (Nat.le_of_ble_eq_true rfl) (⟨(cw.al0 hw), (cw.get hw (k := 0) (by decide) hi).1⟩) (fun _ h => h.elim) dX1_ofFieldNow_8 (fun rv9 H locs hQ hz9 hk9 hS => ?_)
  obtain ⟨rfl, rfl⟩ := hQ
  refine W.eq (g2 := F0 m 11 ls [.ref (la.1 2 i)]) rfl ?_
  refine mcast fx tfX5 (cw.f hw hi) q287 dX1_ofFieldNow_11 ?_
  refine lv_astore_n (lv' := [(3, .ref (la.1 2 i)), (0, .ref ax), (1, .int (nI i)), (2, .int 5)]) hx hb dX1_ofFieldNow_14 rfl hl (by decide) rfl (fun ls hl => ?_)
  refine lv_iload_n hx hb dX1_ofFieldNow_15 rfl (lv_at hl 3 rfl) ?_
  refine lv_tableIn (off := 85) (tgt := 101) hx hb dX1_ofFieldNow_16 (by decide) (by decide) (by decide) (by decide) ?_
  refine lv_aload_n hx hb dX1_ofFieldNow_101 rfl (lv_at hl 0 rfl) ?_
  refine mgetN fx tfX5 (cw.f hw hi) 5 (by decide) q320 (fun _ h => h) (v := .int (fd i 5)) rfl dX1_ofFieldNow_102 ?_
  exact ri hx hb hr hlocks hS (⟨hH.symm, rfl⟩) ⟨(Nat.le_of_ble_eq_true rfl), (Nat.le_of_ble_eq_true rfl)⟩ dX1_ofFieldNow_105

set_option maxHeartbeats 4000000 in
theorem m_X_ofFieldNow_6 (l : Launch) (g : GT) (ax ap : Nat) (la : LT) (sc : Nat → Int32) (sw : Int64) (ar fd tr ld : Nat → Nat → Int32) (n : CN) (xi : Nat → Int32) (sm : Int64) (pd : Nat → Int32) (hn : cN n) (i : Nat) (hi : i < n 0) : Cn l g yX1_ofFieldNow cX1_ofFieldNow 4 ((some .int)) 4 0 0 [.ref ax, .int (nI i), .int 6] (fun _ => False) (fun H => xw g (bA g) ax ap la (sc, sw, ar, fd, tr, ld, n) xi sm pd H) (fun Hp rv Hq => Hp = Hq ∧ rv = some (.int (fd i 6))) := by
  refine Cn.start (plainFor_of_name (by decide +kernel)) (Nat.le_of_ble_eq_true rfl) ?_
  intro p ev s m below meth c ls H locs hH hx hb hr hts hown hlocks hml hnm hK hP hS hl
  have hxw := hP
  obtain ⟨hw, h_x, h_p, inx, inp, nxp, nfx, nfp⟩ := hxw
  have fx : Fx p s m ([.ref ax, .int (nI i), .int 6] : List Value).toArray c cX1_ofFieldNow RX1 g (fun _ => False) 4 := ⟨hx, hb, hts, hown, hK, fun _ h => h.elim, hml⟩
  have hl : lv_has ls 4 [(0, .ref ax), (1, .int (nI i)), (2, .int 6)] := hl
  refine lv_aload_n hx hb dX1_ofFieldNow_0 rfl (lv_at hl 0 rfl) ?_
  refine mget fx tfX1 h_x 0 (by decide) q209 (fun _ h => h) (v := .ref (la.1 0 0)) rfl dX1_ofFieldNow_1 ?_
  refine mgetN fx tfX2 (cw.w hw) 0 (by decide) q121 (fun _ h => h) (v := .ref (la.1 0 1)) rfl dX1_ofFieldNow_4 ?_
  refine lv_iload_n hx hb dX1_ofFieldNow_7 rfl (lv_at hl 1 rfl) ?_
  refine kV fx (m_AL_get l g (la.1 0 1) (la.1 1 0) i (n 0) (la.2.1 0) (la.1 2 i) (la.2.2 0) (elF la.1 n 0) hi (cw.get hw (k := 0) (by decide) hi).2.1 (cw.get hw (k := 0) (by decide) hi).2.2.1 (cw.get hw (k := 0) (by decide) hi).2.2.2) (lw_V q286 q263 q264 q54 q265) hdJ2_get ⟨(Nat.le_of_ble_eq_true rfl), (Nat.le_of_ble_eq_true rfl)⟩ ⟨(Nat.le_of_ble_eq_true rfl), (Nat.le_of_ble_eq_true rfl)⟩ hl.1 hS tfJ2.2.1 (cw.al0 hw) rfl (Nat.le_of_ble_eq_true rfl) (⟨(cw.al0 hw), (cw.get hw (k := 0) (by decide) hi).1⟩) (fun _ h => h.elim) dX1_ofFieldNow_8 (fun rv9 H locs hQ hz9 hk9 hS => ?_)
  obtain ⟨rfl, rfl⟩ := hQ
  refine W.eq (g2 := F0 m 11 ls [.ref (la.1 2 i)]) rfl ?_
  refine mcast fx tfX5 (cw.f hw hi) q287 dX1_ofFieldNow_11 ?_
  refine lv_astore_n (lv' := [(3, .ref (la.1 2 i)), (0, .ref ax), (1, .int (nI i)), (2, .int 6)]) hx hb dX1_ofFieldNow_14 rfl hl (by decide) rfl (fun ls hl => ?_)
  refine lv_iload_n hx hb dX1_ofFieldNow_15 rfl (lv_at hl 3 rfl) ?_
  refine lv_tableIn (off := 90) (tgt := 106) hx hb dX1_ofFieldNow_16 (by decide) (by decide) (by decide) (by decide) ?_
  refine lv_aload_n hx hb dX1_ofFieldNow_106 rfl (lv_at hl 0 rfl) ?_
  refine mgetN fx tfX5 (cw.f hw hi) 6 (by decide) q322 (fun _ h => h) (v := .int (fd i 6)) rfl dX1_ofFieldNow_107 ?_
  exact ri hx hb hr hlocks hS (⟨hH.symm, rfl⟩) ⟨(Nat.le_of_ble_eq_true rfl), (Nat.le_of_ble_eq_true rfl)⟩ dX1_ofFieldNow_110

set_option maxHeartbeats 4000000 in
theorem m_X_ofFieldNow_7 (l : Launch) (g : GT) (ax ap : Nat) (la : LT) (sc : Nat → Int32) (sw : Int64) (ar fd tr ld : Nat → Nat → Int32) (n : CN) (xi : Nat → Int32) (sm : Int64) (pd : Nat → Int32) (hn : cN n) (i : Nat) (hi : i < n 0) : Cn l g yX1_ofFieldNow cX1_ofFieldNow 4 ((some .int)) 4 0 0 [.ref ax, .int (nI i), .int 7] (fun _ => False) (fun H => xw g (bA g) ax ap la (sc, sw, ar, fd, tr, ld, n) xi sm pd H) (fun Hp rv Hq => Hp = Hq ∧ rv = some (.int (fd i 7))) := by
  refine Cn.start (plainFor_of_name (by decide +kernel)) (Nat.le_of_ble_eq_true rfl) ?_
  intro p ev s m below meth c ls H locs hH hx hb hr hts hown hlocks hml hnm hK hP hS hl
  have hxw := hP
  obtain ⟨hw, h_x, h_p, inx, inp, nxp, nfx, nfp⟩ := hxw
  have fx : Fx p s m ([.ref ax, .int (nI i), .int 7] : List Value).toArray c cX1_ofFieldNow RX1 g (fun _ => False) 4 := ⟨hx, hb, hts, hown, hK, fun _ h => h.elim, hml⟩
  have hl : lv_has ls 4 [(0, .ref ax), (1, .int (nI i)), (2, .int 7)] := hl
  refine lv_aload_n hx hb dX1_ofFieldNow_0 rfl (lv_at hl 0 rfl) ?_
  refine mget fx tfX1 h_x 0 (by decide) q209 (fun _ h => h) (v := .ref (la.1 0 0)) rfl dX1_ofFieldNow_1 ?_
  refine mgetN fx tfX2 (cw.w hw) 0 (by decide) q121 (fun _ h => h) (v := .ref (la.1 0 1)) rfl dX1_ofFieldNow_4 ?_
  refine lv_iload_n hx hb dX1_ofFieldNow_7 rfl (lv_at hl 1 rfl) ?_
  refine kV fx (m_AL_get l g (la.1 0 1) (la.1 1 0) i (n 0) (la.2.1 0) (la.1 2 i) (la.2.2 0) (elF la.1 n 0) hi (cw.get hw (k := 0) (by decide) hi).2.1 (cw.get hw (k := 0) (by decide) hi).2.2.1 (cw.get hw (k := 0) (by decide) hi).2.2.2) (lw_V q286 q263 q264 q54 q265) hdJ2_get ⟨(Nat.le_of_ble_eq_true rfl), (Nat.le_of_ble_eq_true rfl)⟩ ⟨(Nat.le_of_ble_eq_true rfl), (Nat.le_of_ble_eq_true rfl)⟩ hl.1 hS tfJ2.2.1 (cw.al0 hw) rfl (Nat.le_of_ble_eq_true rfl) (⟨(cw.al0 hw), (cw.get hw (k := 0) (by decide) hi).1⟩) (fun _ h => h.elim) dX1_ofFieldNow_8 (fun rv9 H locs hQ hz9 hk9 hS => ?_)
  obtain ⟨rfl, rfl⟩ := hQ
  refine W.eq (g2 := F0 m 11 ls [.ref (la.1 2 i)]) rfl ?_
  refine mcast fx tfX5 (cw.f hw hi) q287 dX1_ofFieldNow_11 ?_
  refine lv_astore_n (lv' := [(3, .ref (la.1 2 i)), (0, .ref ax), (1, .int (nI i)), (2, .int 7)]) hx hb dX1_ofFieldNow_14 rfl hl (by decide) rfl (fun ls hl => ?_)
  refine lv_iload_n hx hb dX1_ofFieldNow_15 rfl (lv_at hl 3 rfl) ?_
  refine lv_tableIn (off := 95) (tgt := 111) hx hb dX1_ofFieldNow_16 (by decide) (by decide) (by decide) (by decide) ?_
  refine lv_aload_n hx hb dX1_ofFieldNow_111 rfl (lv_at hl 0 rfl) ?_
  refine mgetN fx tfX5 (cw.f hw hi) 7 (by decide) q324 (fun _ h => h) (v := .int (fd i 7)) rfl dX1_ofFieldNow_112 ?_
  exact ri hx hb hr hlocks hS (⟨hH.symm, rfl⟩) ⟨(Nat.le_of_ble_eq_true rfl), (Nat.le_of_ble_eq_true rfl)⟩ dX1_ofFieldNow_115

set_option maxHeartbeats 4000000 in
theorem m_X_ofFieldNow_8 (l : Launch) (g : GT) (ax ap : Nat) (la : LT) (sc : Nat → Int32) (sw : Int64) (ar fd tr ld : Nat → Nat → Int32) (n : CN) (xi : Nat → Int32) (sm : Int64) (pd : Nat → Int32) (hn : cN n) (i : Nat) (hi : i < n 0) : Cn l g yX1_ofFieldNow cX1_ofFieldNow 4 ((some .int)) 4 0 0 [.ref ax, .int (nI i), .int 8] (fun _ => False) (fun H => xw g (bA g) ax ap la (sc, sw, ar, fd, tr, ld, n) xi sm pd H) (fun Hp rv Hq => Hp = Hq ∧ rv = some (.int (if fd i 8 = 0 then 0 else 1))) := by
  refine Cn.start (plainFor_of_name (by decide +kernel)) (Nat.le_of_ble_eq_true rfl) ?_
  intro p ev s m below meth c ls H locs hH hx hb hr hts hown hlocks hml hnm hK hP hS hl
  have hxw := hP
  obtain ⟨hw, h_x, h_p, inx, inp, nxp, nfx, nfp⟩ := hxw
  have fx : Fx p s m ([.ref ax, .int (nI i), .int 8] : List Value).toArray c cX1_ofFieldNow RX1 g (fun _ => False) 4 := ⟨hx, hb, hts, hown, hK, fun _ h => h.elim, hml⟩
  have hl : lv_has ls 4 [(0, .ref ax), (1, .int (nI i)), (2, .int 8)] := hl
  refine lv_aload_n hx hb dX1_ofFieldNow_0 rfl (lv_at hl 0 rfl) ?_
  refine mget fx tfX1 h_x 0 (by decide) q209 (fun _ h => h) (v := .ref (la.1 0 0)) rfl dX1_ofFieldNow_1 ?_
  refine mgetN fx tfX2 (cw.w hw) 0 (by decide) q121 (fun _ h => h) (v := .ref (la.1 0 1)) rfl dX1_ofFieldNow_4 ?_
  refine lv_iload_n hx hb dX1_ofFieldNow_7 rfl (lv_at hl 1 rfl) ?_
  refine kV fx (m_AL_get l g (la.1 0 1) (la.1 1 0) i (n 0) (la.2.1 0) (la.1 2 i) (la.2.2 0) (elF la.1 n 0) hi (cw.get hw (k := 0) (by decide) hi).2.1 (cw.get hw (k := 0) (by decide) hi).2.2.1 (cw.get hw (k := 0) (by decide) hi).2.2.2) (lw_V q286 q263 q264 q54 q265) hdJ2_get ⟨(Nat.le_of_ble_eq_true rfl), (Nat.le_of_ble_eq_true rfl)⟩ ⟨(Nat.le_of_ble_eq_true rfl), (Nat.le_of_ble_eq_true rfl)⟩ hl.1 hS tfJ2.2.1 (cw.al0 hw) rfl (Nat.le_of_ble_eq_true rfl) (⟨(cw.al0 hw), (cw.get hw (k := 0) (by decide) hi).1⟩) (fun _ h => h.elim) dX1_ofFieldNow_8 (fun rv9 H locs hQ hz9 hk9 hS => ?_)
  obtain ⟨rfl, rfl⟩ := hQ
  refine W.eq (g2 := F0 m 11 ls [.ref (la.1 2 i)]) rfl ?_
  refine mcast fx tfX5 (cw.f hw hi) q287 dX1_ofFieldNow_11 ?_
  refine lv_astore_n (lv' := [(3, .ref (la.1 2 i)), (0, .ref ax), (1, .int (nI i)), (2, .int 8)]) hx hb dX1_ofFieldNow_14 rfl hl (by decide) rfl (fun ls hl => ?_)
  refine lv_iload_n hx hb dX1_ofFieldNow_15 rfl (lv_at hl 3 rfl) ?_
  refine lv_tableIn (off := 100) (tgt := 116) hx hb dX1_ofFieldNow_16 (by decide) (by decide) (by decide) (by decide) ?_
  refine lv_aload_n hx hb dX1_ofFieldNow_116 rfl (lv_at hl 0 rfl) ?_
  refine mgetN fx tfX5 (cw.f hw hi) 8 (by decide) q327 (fun _ h => h) (v := .int (fd i 8)) rfl dX1_ofFieldNow_117 ?_
  refine lv_if_eq (tgt := 127) hx hb dX1_ofFieldNow_120 (by decide) (fun c_1 => ?_) (fun c_1 => ?_)
  · skip
    refine lv_iconst (v := 0) hx hb dX1_ofFieldNow_127 (by decide) ?_
    exact ri hx hb hr hlocks hS (⟨hH.symm, by rw [if_pos c_1]⟩) ⟨(Nat.le_of_ble_eq_true rfl), (Nat.le_of_ble_eq_true rfl)⟩ dX1_ofFieldNow_128
  · skip
    refine lv_iconst (v := 1) hx hb dX1_ofFieldNow_123 (by decide) ?_
    refine lv_goto (tgt := 128) hx hb dX1_ofFieldNow_124 (by decide) ?_
    exact ri hx hb hr hlocks hS (⟨hH.symm, by rw [if_neg c_1]⟩) ⟨(Nat.le_of_ble_eq_true rfl), (Nat.le_of_ble_eq_true rfl)⟩ dX1_ofFieldNow_128

set_option maxHeartbeats 4000000 in
theorem m_X_ofFieldNow_9 (l : Launch) (g : GT) (ax ap : Nat) (la : LT) (sc : Nat → Int32) (sw : Int64) (ar fd tr ld : Nat → Nat → Int32) (n : CN) (xi : Nat → Int32) (sm : Int64) (pd : Nat → Int32) (hn : cN n) (i : Nat) (hi : i < n 0) : Cn l g yX1_ofFieldNow cX1_ofFieldNow 4 ((some .int)) 4 0 0 [.ref ax, .int (nI i), .int 9] (fun _ => False) (fun H => xw g (bA g) ax ap la (sc, sw, ar, fd, tr, ld, n) xi sm pd H) (fun Hp rv Hq => Hp = Hq ∧ rv = some (.int (if fd i 9 = 0 then 0 else 1))) := by
  refine Cn.start (plainFor_of_name (by decide +kernel)) (Nat.le_of_ble_eq_true rfl) ?_
  intro p ev s m below meth c ls H locs hH hx hb hr hts hown hlocks hml hnm hK hP hS hl
  have hxw := hP
  obtain ⟨hw, h_x, h_p, inx, inp, nxp, nfx, nfp⟩ := hxw
  have fx : Fx p s m ([.ref ax, .int (nI i), .int 9] : List Value).toArray c cX1_ofFieldNow RX1 g (fun _ => False) 4 := ⟨hx, hb, hts, hown, hK, fun _ h => h.elim, hml⟩
  have hl : lv_has ls 4 [(0, .ref ax), (1, .int (nI i)), (2, .int 9)] := hl
  refine lv_aload_n hx hb dX1_ofFieldNow_0 rfl (lv_at hl 0 rfl) ?_
  refine mget fx tfX1 h_x 0 (by decide) q209 (fun _ h => h) (v := .ref (la.1 0 0)) rfl dX1_ofFieldNow_1 ?_
  refine mgetN fx tfX2 (cw.w hw) 0 (by decide) q121 (fun _ h => h) (v := .ref (la.1 0 1)) rfl dX1_ofFieldNow_4 ?_
  refine lv_iload_n hx hb dX1_ofFieldNow_7 rfl (lv_at hl 1 rfl) ?_
  refine kV fx (m_AL_get l g (la.1 0 1) (la.1 1 0) i (n 0) (la.2.1 0) (la.1 2 i) (la.2.2 0) (elF la.1 n 0) hi (cw.get hw (k := 0) (by decide) hi).2.1 (cw.get hw (k := 0) (by decide) hi).2.2.1 (cw.get hw (k := 0) (by decide) hi).2.2.2) (lw_V q286 q263 q264 q54 q265) hdJ2_get ⟨(Nat.le_of_ble_eq_true rfl), (Nat.le_of_ble_eq_true rfl)⟩ ⟨(Nat.le_of_ble_eq_true rfl), (Nat.le_of_ble_eq_true rfl)⟩ hl.1 hS tfJ2.2.1 (cw.al0 hw) rfl (Nat.le_of_ble_eq_true rfl) (⟨(cw.al0 hw), (cw.get hw (k := 0) (by decide) hi).1⟩) (fun _ h => h.elim) dX1_ofFieldNow_8 (fun rv9 H locs hQ hz9 hk9 hS => ?_)
  obtain ⟨rfl, rfl⟩ := hQ
  refine W.eq (g2 := F0 m 11 ls [.ref (la.1 2 i)]) rfl ?_
  refine mcast fx tfX5 (cw.f hw hi) q287 dX1_ofFieldNow_11 ?_
  refine lv_astore_n (lv' := [(3, .ref (la.1 2 i)), (0, .ref ax), (1, .int (nI i)), (2, .int 9)]) hx hb dX1_ofFieldNow_14 rfl hl (by decide) rfl (fun ls hl => ?_)
  refine lv_iload_n hx hb dX1_ofFieldNow_15 rfl (lv_at hl 3 rfl) ?_
  refine lv_tableIn (off := 113) (tgt := 129) hx hb dX1_ofFieldNow_16 (by decide) (by decide) (by decide) (by decide) ?_
  refine lv_aload_n hx hb dX1_ofFieldNow_129 rfl (lv_at hl 0 rfl) ?_
  refine mgetN fx tfX5 (cw.f hw hi) 9 (by decide) q329 (fun _ h => h) (v := .int (fd i 9)) rfl dX1_ofFieldNow_130 ?_
  refine lv_if_eq (tgt := 140) hx hb dX1_ofFieldNow_133 (by decide) (fun c_1 => ?_) (fun c_1 => ?_)
  · skip
    refine lv_iconst (v := 0) hx hb dX1_ofFieldNow_140 (by decide) ?_
    exact ri hx hb hr hlocks hS (⟨hH.symm, by rw [if_pos c_1]⟩) ⟨(Nat.le_of_ble_eq_true rfl), (Nat.le_of_ble_eq_true rfl)⟩ dX1_ofFieldNow_141
  · skip
    refine lv_iconst (v := 1) hx hb dX1_ofFieldNow_136 (by decide) ?_
    refine lv_goto (tgt := 141) hx hb dX1_ofFieldNow_137 (by decide) ?_
    exact ri hx hb hr hlocks hS (⟨hH.symm, by rw [if_neg c_1]⟩) ⟨(Nat.le_of_ble_eq_true rfl), (Nat.le_of_ble_eq_true rfl)⟩ dX1_ofFieldNow_141

set_option maxHeartbeats 4000000 in
theorem m_X_ofFieldNow_10 (l : Launch) (g : GT) (ax ap : Nat) (la : LT) (sc : Nat → Int32) (sw : Int64) (ar fd tr ld : Nat → Nat → Int32) (n : CN) (xi : Nat → Int32) (sm : Int64) (pd : Nat → Int32) (hn : cN n) (i : Nat) (hi : i < n 0) : Cn l g yX1_ofFieldNow cX1_ofFieldNow 4 ((some .int)) 4 0 0 [.ref ax, .int (nI i), .int 10] (fun _ => False) (fun H => xw g (bA g) ax ap la (sc, sw, ar, fd, tr, ld, n) xi sm pd H) (fun Hp rv Hq => Hp = Hq ∧ rv = some (.int (if fd i 10 = 0 then 0 else 1))) := by
  refine Cn.start (plainFor_of_name (by decide +kernel)) (Nat.le_of_ble_eq_true rfl) ?_
  intro p ev s m below meth c ls H locs hH hx hb hr hts hown hlocks hml hnm hK hP hS hl
  have hxw := hP
  obtain ⟨hw, h_x, h_p, inx, inp, nxp, nfx, nfp⟩ := hxw
  have fx : Fx p s m ([.ref ax, .int (nI i), .int 10] : List Value).toArray c cX1_ofFieldNow RX1 g (fun _ => False) 4 := ⟨hx, hb, hts, hown, hK, fun _ h => h.elim, hml⟩
  have hl : lv_has ls 4 [(0, .ref ax), (1, .int (nI i)), (2, .int 10)] := hl
  refine lv_aload_n hx hb dX1_ofFieldNow_0 rfl (lv_at hl 0 rfl) ?_
  refine mget fx tfX1 h_x 0 (by decide) q209 (fun _ h => h) (v := .ref (la.1 0 0)) rfl dX1_ofFieldNow_1 ?_
  refine mgetN fx tfX2 (cw.w hw) 0 (by decide) q121 (fun _ h => h) (v := .ref (la.1 0 1)) rfl dX1_ofFieldNow_4 ?_
  refine lv_iload_n hx hb dX1_ofFieldNow_7 rfl (lv_at hl 1 rfl) ?_
  refine kV fx (m_AL_get l g (la.1 0 1) (la.1 1 0) i (n 0) (la.2.1 0) (la.1 2 i) (la.2.2 0) (elF la.1 n 0) hi (cw.get hw (k := 0) (by decide) hi).2.1 (cw.get hw (k := 0) (by decide) hi).2.2.1 (cw.get hw (k := 0) (by decide) hi).2.2.2) (lw_V q286 q263 q264 q54 q265) hdJ2_get ⟨(Nat.le_of_ble_eq_true rfl), (Nat.le_of_ble_eq_true rfl)⟩ ⟨(Nat.le_of_ble_eq_true rfl), (Nat.le_of_ble_eq_true rfl)⟩ hl.1 hS tfJ2.2.1 (cw.al0 hw) rfl (Nat.le_of_ble_eq_true rfl) (⟨(cw.al0 hw), (cw.get hw (k := 0) (by decide) hi).1⟩) (fun _ h => h.elim) dX1_ofFieldNow_8 (fun rv9 H locs hQ hz9 hk9 hS => ?_)
  obtain ⟨rfl, rfl⟩ := hQ
  refine W.eq (g2 := F0 m 11 ls [.ref (la.1 2 i)]) rfl ?_
  refine mcast fx tfX5 (cw.f hw hi) q287 dX1_ofFieldNow_11 ?_
  refine lv_astore_n (lv' := [(3, .ref (la.1 2 i)), (0, .ref ax), (1, .int (nI i)), (2, .int 10)]) hx hb dX1_ofFieldNow_14 rfl hl (by decide) rfl (fun ls hl => ?_)
  refine lv_iload_n hx hb dX1_ofFieldNow_15 rfl (lv_at hl 3 rfl) ?_
  refine lv_tableIn (off := 126) (tgt := 142) hx hb dX1_ofFieldNow_16 (by decide) (by decide) (by decide) (by decide) ?_
  refine lv_aload_n hx hb dX1_ofFieldNow_142 rfl (lv_at hl 0 rfl) ?_
  refine mgetN fx tfX5 (cw.f hw hi) 10 (by decide) q331 (fun _ h => h) (v := .int (fd i 10)) rfl dX1_ofFieldNow_143 ?_
  refine lv_if_eq (tgt := 153) hx hb dX1_ofFieldNow_146 (by decide) (fun c_1 => ?_) (fun c_1 => ?_)
  · skip
    refine lv_iconst (v := 0) hx hb dX1_ofFieldNow_153 (by decide) ?_
    exact ri hx hb hr hlocks hS (⟨hH.symm, by rw [if_pos c_1]⟩) ⟨(Nat.le_of_ble_eq_true rfl), (Nat.le_of_ble_eq_true rfl)⟩ dX1_ofFieldNow_154
  · skip
    refine lv_iconst (v := 1) hx hb dX1_ofFieldNow_149 (by decide) ?_
    refine lv_goto (tgt := 154) hx hb dX1_ofFieldNow_150 (by decide) ?_
    exact ri hx hb hr hlocks hS (⟨hH.symm, by rw [if_neg c_1]⟩) ⟨(Nat.le_of_ble_eq_true rfl), (Nat.le_of_ble_eq_true rfl)⟩ dX1_ofFieldNow_154

set_option maxHeartbeats 4000000 in
theorem m_X_ofFieldNow_11 (l : Launch) (g : GT) (ax ap : Nat) (la : LT) (sc : Nat → Int32) (sw : Int64) (ar fd tr ld : Nat → Nat → Int32) (n : CN) (xi : Nat → Int32) (sm : Int64) (pd : Nat → Int32) (hn : cN n) (i : Nat) (hi : i < n 0) : Cn l g yX1_ofFieldNow cX1_ofFieldNow 4 ((some .int)) 4 0 0 [.ref ax, .int (nI i), .int 11] (fun _ => False) (fun H => xw g (bA g) ax ap la (sc, sw, ar, fd, tr, ld, n) xi sm pd H) (fun Hp rv Hq => Hp = Hq ∧ rv = some (.int (cLying ld (n 2) (nI i)))) := by
  refine Cn.start (plainFor_of_name (by decide +kernel)) (Nat.le_of_ble_eq_true rfl) ?_
  intro p ev s m below meth c ls H locs hH hx hb hr hts hown hlocks hml hnm hK hP hS hl
  have hxw := hP
  obtain ⟨hw, h_x, h_p, inx, inp, nxp, nfx, nfp⟩ := hxw
  have fx : Fx p s m ([.ref ax, .int (nI i), .int 11] : List Value).toArray c cX1_ofFieldNow RX1 g (fun _ => False) 4 := ⟨hx, hb, hts, hown, hK, fun _ h => h.elim, hml⟩
  have hl : lv_has ls 4 [(0, .ref ax), (1, .int (nI i)), (2, .int 11)] := hl
  refine lv_aload_n hx hb dX1_ofFieldNow_0 rfl (lv_at hl 0 rfl) ?_
  refine mget fx tfX1 h_x 0 (by decide) q209 (fun _ h => h) (v := .ref (la.1 0 0)) rfl dX1_ofFieldNow_1 ?_
  refine mgetN fx tfX2 (cw.w hw) 0 (by decide) q121 (fun _ h => h) (v := .ref (la.1 0 1)) rfl dX1_ofFieldNow_4 ?_
  refine lv_iload_n hx hb dX1_ofFieldNow_7 rfl (lv_at hl 1 rfl) ?_
  refine kV fx (m_AL_get l g (la.1 0 1) (la.1 1 0) i (n 0) (la.2.1 0) (la.1 2 i) (la.2.2 0) (elF la.1 n 0) hi (cw.get hw (k := 0) (by decide) hi).2.1 (cw.get hw (k := 0) (by decide) hi).2.2.1 (cw.get hw (k := 0) (by decide) hi).2.2.2) (lw_V q286 q263 q264 q54 q265) hdJ2_get ⟨(Nat.le_of_ble_eq_true rfl), (Nat.le_of_ble_eq_true rfl)⟩ ⟨(Nat.le_of_ble_eq_true rfl), (Nat.le_of_ble_eq_true rfl)⟩ hl.1 hS tfJ2.2.1 (cw.al0 hw) rfl (Nat.le_of_ble_eq_true rfl) (⟨(cw.al0 hw), (cw.get hw (k := 0) (by decide) hi).1⟩) (fun _ h => h.elim) dX1_ofFieldNow_8 (fun rv9 H locs hQ hz9 hk9 hS => ?_)
  obtain ⟨rfl, rfl⟩ := hQ
  refine W.eq (g2 := F0 m 11 ls [.ref (la.1 2 i)]) rfl ?_
  refine mcast fx tfX5 (cw.f hw hi) q287 dX1_ofFieldNow_11 ?_
  refine lv_astore_n (lv' := [(3, .ref (la.1 2 i)), (0, .ref ax), (1, .int (nI i)), (2, .int 11)]) hx hb dX1_ofFieldNow_14 rfl hl (by decide) rfl (fun ls hl => ?_)
  refine lv_iload_n hx hb dX1_ofFieldNow_15 rfl (lv_at hl 3 rfl) ?_
  refine lv_tableOut (tgt := 155) hx hb dX1_ofFieldNow_16 (by decide) (by decide) ?_
  refine lv_aload_n hx hb dX1_ofFieldNow_155 rfl (lv_at hl 1 rfl) ?_
  refine lv_iload_n hx hb dX1_ofFieldNow_156 rfl (lv_at hl 2 rfl) ?_
  refine kV fx (m_X_lying l g ax ap la sc sw ar fd tr ld n xi sm pd hn (nI i)) (lw_V q288 q290 qs3 q50 q291) hdX1_lying ⟨(Nat.le_of_ble_eq_true rfl), (Nat.le_of_ble_eq_true rfl)⟩ ⟨(Nat.le_of_ble_eq_true rfl), (Nat.le_of_ble_eq_true rfl)⟩ hl.1 hS tfX1.2.1 h_x rfl (Nat.le_of_ble_eq_true rfl) (⟨hw, h_x, h_p, inx, inp, nxp, nfx, nfp⟩) (fun _ h => h.elim) dX1_ofFieldNow_157 (fun rv9 H locs hQ hz9 hk9 hS => ?_)
  obtain ⟨rfl, rfl⟩ := hQ
  refine W.eq (g2 := F0 m 160 ls [.int (cLying ld (n 2) (nI i))]) rfl ?_
  exact ri hx hb hr hlocks hS (⟨hH.symm, rfl⟩) ⟨(Nat.le_of_ble_eq_true rfl), (Nat.le_of_ble_eq_true rfl)⟩ dX1_ofFieldNow_160

theorem m_X_ofFieldNow (l : Launch) (g : GT) (ax ap : Nat) (la : LT) (sc : Nat → Int32) (sw : Int64) (ar fd tr ld : Nat → Nat → Int32) (n : CN) (xi : Nat → Int32) (sm : Int64) (pd : Nat → Int32) (hn : cN n) (i : Nat) (hi : i < n 0) (q : Nat) (hq : q < 12) : Cn l g yX1_ofFieldNow cX1_ofFieldNow 4 ((some .int)) 4 0 0 [.ref ax, .int (nI i), .int (nI q)] (fun _ => False) (fun H => xw g (bA g) ax ap la (sc, sw, ar, fd, tr, ld, n) xi sm pd H) (fun Hp rv Hq => Hp = Hq ∧ rv = some (.int (cOfF fd ld (n 2) i q))) :=
  match q, hq with
  | 0, _ => m_X_ofFieldNow_0 l g ax ap la sc sw ar fd tr ld n xi sm pd hn i hi
  | 1, _ => m_X_ofFieldNow_1 l g ax ap la sc sw ar fd tr ld n xi sm pd hn i hi
  | 2, _ => m_X_ofFieldNow_2 l g ax ap la sc sw ar fd tr ld n xi sm pd hn i hi
  | 3, _ => m_X_ofFieldNow_3 l g ax ap la sc sw ar fd tr ld n xi sm pd hn i hi
  | 4, _ => m_X_ofFieldNow_4 l g ax ap la sc sw ar fd tr ld n xi sm pd hn i hi
  | 5, _ => m_X_ofFieldNow_5 l g ax ap la sc sw ar fd tr ld n xi sm pd hn i hi
  | 6, _ => m_X_ofFieldNow_6 l g ax ap la sc sw ar fd tr ld n xi sm pd hn i hi
  | 7, _ => m_X_ofFieldNow_7 l g ax ap la sc sw ar fd tr ld n xi sm pd hn i hi
  | 8, _ => m_X_ofFieldNow_8 l g ax ap la sc sw ar fd tr ld n xi sm pd hn i hi
  | 9, _ => m_X_ofFieldNow_9 l g ax ap la sc sw ar fd tr ld n xi sm pd hn i hi
  | 10, _ => m_X_ofFieldNow_10 l g ax ap la sc sw ar fd tr ld n xi sm pd hn i hi
  | 11, _ => m_X_ofFieldNow_11 l g ax ap la sc sw ar fd tr ld n xi sm pd hn i hi
  | q + 12, hq => absurd hq (by omega)
def cOfL (ld : Nat → Nat → Int32) (i q : Nat) : Int32 := match q with | 0 => ld i 0 | 1 => ld i 1 | 2 => ld i 5 | 3 => ld i 2 | 4 => ld i 6 | 5 => ld i 4 | _ => ld i 8
set_option maxHeartbeats 4000000 in
theorem m_X_ofLoadNow_0 (l : Launch) (g : GT) (ax ap : Nat) (la : LT) (sc : Nat → Int32) (sw : Int64) (ar fd tr ld : Nat → Nat → Int32) (n : CN) (xi : Nat → Int32) (sm : Int64) (pd : Nat → Int32) (hn : cN n) (i : Nat) (hi : i < n 2) : Cn l g yX1_ofLoadNow cX1_ofLoadNow 4 ((some .int)) 3 0 0 [.ref ax, .int (nI i), .int 0] (fun _ => False) (fun H => xw g (bA g) ax ap la (sc, sw, ar, fd, tr, ld, n) xi sm pd H) (fun Hp rv Hq => Hp = Hq ∧ rv = some (.int (ld i 0))) := by
  refine Cn.start (plainFor_of_name (by decide +kernel)) (Nat.le_of_ble_eq_true rfl) ?_
  intro p ev s m below meth c ls H locs hH hx hb hr hts hown hlocks hml hnm hK hP hS hl
  have hxw := hP
  obtain ⟨hw, h_x, h_p, inx, inp, nxp, nfx, nfp⟩ := hxw
  have fx : Fx p s m ([.ref ax, .int (nI i), .int 0] : List Value).toArray c cX1_ofLoadNow RX1 g (fun _ => False) 4 := ⟨hx, hb, hts, hown, hK, fun _ h => h.elim, hml⟩
  have hl : lv_has ls 4 [(0, .ref ax), (1, .int (nI i)), (2, .int 0)] := hl
  refine lv_aload_n hx hb dX1_ofLoadNow_0 rfl (lv_at hl 0 rfl) ?_
  refine mget fx tfX1 h_x 0 (by decide) q209 (fun _ h => h) (v := .ref (la.1 0 0)) rfl dX1_ofLoadNow_1 ?_
  refine mgetN fx tfX2 (cw.w hw) 2 (by decide) q125 (fun _ h => h) (v := .ref (la.1 0 3)) rfl dX1_ofLoadNow_4 ?_
  refine lv_iload_n hx hb dX1_ofLoadNow_7 rfl (lv_at hl 1 rfl) ?_
  refine kV fx (m_AL_get l g (la.1 0 3) (la.1 1 2) i (n 2) (la.2.1 2) (la.1 4 i) (la.2.2 2) (elF la.1 n 2) hi (cw.get hw (k := 2) (by decide) hi).2.1 (cw.get hw (k := 2) (by decide) hi).2.2.1 (cw.get hw (k := 2) (by decide) hi).2.2.2) (lw_V q286 q263 q264 q54 q265) hdJ2_get ⟨(Nat.le_of_ble_eq_true rfl), (Nat.le_of_ble_eq_true rfl)⟩ ⟨(Nat.le_of_ble_eq_true rfl), (Nat.le_of_ble_eq_true rfl)⟩ hl.1 hS tfJ2.2.1 (cw.al2 hw) rfl (Nat.le_of_ble_eq_true rfl) (⟨(cw.al2 hw), (cw.get hw (k := 2) (by decide) hi).1⟩) (fun _ h => h.elim) dX1_ofLoadNow_8 (fun rv9 H locs hQ hz9 hk9 hS => ?_)
  obtain ⟨rfl, rfl⟩ := hQ
  refine W.eq (g2 := F0 m 11 ls [.ref (la.1 4 i)]) rfl ?_
  refine mcast fx tfX9 (cw.l hw hi) q292 dX1_ofLoadNow_11 ?_
  refine lv_astore_n (lv' := [(3, .ref (la.1 4 i)), (0, .ref ax), (1, .int (nI i)), (2, .int 0)]) hx hb dX1_ofLoadNow_14 rfl hl (by decide) rfl (fun ls hl => ?_)
  refine lv_iload_n hx hb dX1_ofLoadNow_15 rfl (lv_at hl 3 rfl) ?_
  refine lv_tableIn (off := 40) (tgt := 56) hx hb dX1_ofLoadNow_16 (by decide) (by decide) (by decide) (by decide) ?_
  refine lv_aload_n hx hb dX1_ofLoadNow_56 rfl (lv_at hl 0 rfl) ?_
  refine mgetN fx tfX9 (cw.l hw hi) 0 (by decide) q511 (fun _ h => h) (v := .int (ld i 0)) rfl dX1_ofLoadNow_57 ?_
  exact ri hx hb hr hlocks hS (⟨hH.symm, rfl⟩) ⟨(Nat.le_of_ble_eq_true rfl), (Nat.le_of_ble_eq_true rfl)⟩ dX1_ofLoadNow_60

set_option maxHeartbeats 4000000 in
theorem m_X_ofLoadNow_1 (l : Launch) (g : GT) (ax ap : Nat) (la : LT) (sc : Nat → Int32) (sw : Int64) (ar fd tr ld : Nat → Nat → Int32) (n : CN) (xi : Nat → Int32) (sm : Int64) (pd : Nat → Int32) (hn : cN n) (i : Nat) (hi : i < n 2) : Cn l g yX1_ofLoadNow cX1_ofLoadNow 4 ((some .int)) 3 0 0 [.ref ax, .int (nI i), .int 1] (fun _ => False) (fun H => xw g (bA g) ax ap la (sc, sw, ar, fd, tr, ld, n) xi sm pd H) (fun Hp rv Hq => Hp = Hq ∧ rv = some (.int (ld i 1))) := by
  refine Cn.start (plainFor_of_name (by decide +kernel)) (Nat.le_of_ble_eq_true rfl) ?_
  intro p ev s m below meth c ls H locs hH hx hb hr hts hown hlocks hml hnm hK hP hS hl
  have hxw := hP
  obtain ⟨hw, h_x, h_p, inx, inp, nxp, nfx, nfp⟩ := hxw
  have fx : Fx p s m ([.ref ax, .int (nI i), .int 1] : List Value).toArray c cX1_ofLoadNow RX1 g (fun _ => False) 4 := ⟨hx, hb, hts, hown, hK, fun _ h => h.elim, hml⟩
  have hl : lv_has ls 4 [(0, .ref ax), (1, .int (nI i)), (2, .int 1)] := hl
  refine lv_aload_n hx hb dX1_ofLoadNow_0 rfl (lv_at hl 0 rfl) ?_
  refine mget fx tfX1 h_x 0 (by decide) q209 (fun _ h => h) (v := .ref (la.1 0 0)) rfl dX1_ofLoadNow_1 ?_
  refine mgetN fx tfX2 (cw.w hw) 2 (by decide) q125 (fun _ h => h) (v := .ref (la.1 0 3)) rfl dX1_ofLoadNow_4 ?_
  refine lv_iload_n hx hb dX1_ofLoadNow_7 rfl (lv_at hl 1 rfl) ?_
  refine kV fx (m_AL_get l g (la.1 0 3) (la.1 1 2) i (n 2) (la.2.1 2) (la.1 4 i) (la.2.2 2) (elF la.1 n 2) hi (cw.get hw (k := 2) (by decide) hi).2.1 (cw.get hw (k := 2) (by decide) hi).2.2.1 (cw.get hw (k := 2) (by decide) hi).2.2.2) (lw_V q286 q263 q264 q54 q265) hdJ2_get ⟨(Nat.le_of_ble_eq_true rfl), (Nat.le_of_ble_eq_true rfl)⟩ ⟨(Nat.le_of_ble_eq_true rfl), (Nat.le_of_ble_eq_true rfl)⟩ hl.1 hS tfJ2.2.1 (cw.al2 hw) rfl (Nat.le_of_ble_eq_true rfl) (⟨(cw.al2 hw), (cw.get hw (k := 2) (by decide) hi).1⟩) (fun _ h => h.elim) dX1_ofLoadNow_8 (fun rv9 H locs hQ hz9 hk9 hS => ?_)
  obtain ⟨rfl, rfl⟩ := hQ
  refine W.eq (g2 := F0 m 11 ls [.ref (la.1 4 i)]) rfl ?_
  refine mcast fx tfX9 (cw.l hw hi) q292 dX1_ofLoadNow_11 ?_
  refine lv_astore_n (lv' := [(3, .ref (la.1 4 i)), (0, .ref ax), (1, .int (nI i)), (2, .int 1)]) hx hb dX1_ofLoadNow_14 rfl hl (by decide) rfl (fun ls hl => ?_)
  refine lv_iload_n hx hb dX1_ofLoadNow_15 rfl (lv_at hl 3 rfl) ?_
  refine lv_tableIn (off := 45) (tgt := 61) hx hb dX1_ofLoadNow_16 (by decide) (by decide) (by decide) (by decide) ?_
  refine lv_aload_n hx hb dX1_ofLoadNow_61 rfl (lv_at hl 0 rfl) ?_
  refine mgetN fx tfX9 (cw.l hw hi) 1 (by decide) q514 (fun _ h => h) (v := .int (ld i 1)) rfl dX1_ofLoadNow_62 ?_
  exact ri hx hb hr hlocks hS (⟨hH.symm, rfl⟩) ⟨(Nat.le_of_ble_eq_true rfl), (Nat.le_of_ble_eq_true rfl)⟩ dX1_ofLoadNow_65

set_option maxHeartbeats 4000000 in
theorem m_X_ofLoadNow_2 (l : Launch) (g : GT) (ax ap : Nat) (la : LT) (sc : Nat → Int32) (sw : Int64) (ar fd tr ld : Nat → Nat → Int32) (n : CN) (xi : Nat → Int32) (sm : Int64) (pd : Nat → Int32) (hn : cN n) (i : Nat) (hi : i < n 2) : Cn l g yX1_ofLoadNow cX1_ofLoadNow 4 ((some .int)) 3 0 0 [.ref ax, .int (nI i), .int 2] (fun _ => False) (fun H => xw g (bA g) ax ap la (sc, sw, ar, fd, tr, ld, n) xi sm pd H) (fun Hp rv Hq => Hp = Hq ∧ rv = some (.int (ld i 5))) := by
  refine Cn.start (plainFor_of_name (by decide +kernel)) (Nat.le_of_ble_eq_true rfl) ?_
  intro p ev s m below meth c ls H locs hH hx hb hr hts hown hlocks hml hnm hK hP hS hl
  have hxw := hP
  obtain ⟨hw, h_x, h_p, inx, inp, nxp, nfx, nfp⟩ := hxw
  have fx : Fx p s m ([.ref ax, .int (nI i), .int 2] : List Value).toArray c cX1_ofLoadNow RX1 g (fun _ => False) 4 := ⟨hx, hb, hts, hown, hK, fun _ h => h.elim, hml⟩
  have hl : lv_has ls 4 [(0, .ref ax), (1, .int (nI i)), (2, .int 2)] := hl
  refine lv_aload_n hx hb dX1_ofLoadNow_0 rfl (lv_at hl 0 rfl) ?_
  refine mget fx tfX1 h_x 0 (by decide) q209 (fun _ h => h) (v := .ref (la.1 0 0)) rfl dX1_ofLoadNow_1 ?_
  refine mgetN fx tfX2 (cw.w hw) 2 (by decide) q125 (fun _ h => h) (v := .ref (la.1 0 3)) rfl dX1_ofLoadNow_4 ?_
  refine lv_iload_n hx hb dX1_ofLoadNow_7 rfl (lv_at hl 1 rfl) ?_
  refine kV fx (m_AL_get l g (la.1 0 3) (la.1 1 2) i (n 2) (la.2.1 2) (la.1 4 i) (la.2.2 2) (elF la.1 n 2) hi (cw.get hw (k := 2) (by decide) hi).2.1 (cw.get hw (k := 2) (by decide) hi).2.2.1 (cw.get hw (k := 2) (by decide) hi).2.2.2) (lw_V q286 q263 q264 q54 q265) hdJ2_get ⟨(Nat.le_of_ble_eq_true rfl), (Nat.le_of_ble_eq_true rfl)⟩ ⟨(Nat.le_of_ble_eq_true rfl), (Nat.le_of_ble_eq_true rfl)⟩ hl.1 hS tfJ2.2.1 (cw.al2 hw) rfl (Nat.le_of_ble_eq_true rfl) (⟨(cw.al2 hw), (cw.get hw (k := 2) (by decide) hi).1⟩) (fun _ h => h.elim) dX1_ofLoadNow_8 (fun rv9 H locs hQ hz9 hk9 hS => ?_)
  obtain ⟨rfl, rfl⟩ := hQ
  refine W.eq (g2 := F0 m 11 ls [.ref (la.1 4 i)]) rfl ?_
  refine mcast fx tfX9 (cw.l hw hi) q292 dX1_ofLoadNow_11 ?_
  refine lv_astore_n (lv' := [(3, .ref (la.1 4 i)), (0, .ref ax), (1, .int (nI i)), (2, .int 2)]) hx hb dX1_ofLoadNow_14 rfl hl (by decide) rfl (fun ls hl => ?_)
  refine lv_iload_n hx hb dX1_ofLoadNow_15 rfl (lv_at hl 3 rfl) ?_
  refine lv_tableIn (off := 50) (tgt := 66) hx hb dX1_ofLoadNow_16 (by decide) (by decide) (by decide) (by decide) ?_
  refine lv_aload_n hx hb dX1_ofLoadNow_66 rfl (lv_at hl 0 rfl) ?_
  refine mgetN fx tfX9 (cw.l hw hi) 5 (by decide) q523 (fun _ h => h) (v := .int (ld i 5)) rfl dX1_ofLoadNow_67 ?_
  exact ri hx hb hr hlocks hS (⟨hH.symm, rfl⟩) ⟨(Nat.le_of_ble_eq_true rfl), (Nat.le_of_ble_eq_true rfl)⟩ dX1_ofLoadNow_70

set_option maxHeartbeats 4000000 in
theorem m_X_ofLoadNow_3 (l : Launch) (g : GT) (ax ap : Nat) (la : LT) (sc : Nat → Int32) (sw : Int64) (ar fd tr ld : Nat → Nat → Int32) (n : CN) (xi : Nat → Int32) (sm : Int64) (pd : Nat → Int32) (hn : cN n) (i : Nat) (hi : i < n 2) : Cn l g yX1_ofLoadNow cX1_ofLoadNow 4 ((some .int)) 3 0 0 [.ref ax, .int (nI i), .int 3] (fun _ => False) (fun H => xw g (bA g) ax ap la (sc, sw, ar, fd, tr, ld, n) xi sm pd H) (fun Hp rv Hq => Hp = Hq ∧ rv = some (.int (ld i 2))) := by
  refine Cn.start (plainFor_of_name (by decide +kernel)) (Nat.le_of_ble_eq_true rfl) ?_
  intro p ev s m below meth c ls H locs hH hx hb hr hts hown hlocks hml hnm hK hP hS hl
  have hxw := hP
  obtain ⟨hw, h_x, h_p, inx, inp, nxp, nfx, nfp⟩ := hxw
  have fx : Fx p s m ([.ref ax, .int (nI i), .int 3] : List Value).toArray c cX1_ofLoadNow RX1 g (fun _ => False) 4 := ⟨hx, hb, hts, hown, hK, fun _ h => h.elim, hml⟩
  have hl : lv_has ls 4 [(0, .ref ax), (1, .int (nI i)), (2, .int 3)] := hl
  refine lv_aload_n hx hb dX1_ofLoadNow_0 rfl (lv_at hl 0 rfl) ?_
  refine mget fx tfX1 h_x 0 (by decide) q209 (fun _ h => h) (v := .ref (la.1 0 0)) rfl dX1_ofLoadNow_1 ?_
  refine mgetN fx tfX2 (cw.w hw) 2 (by decide) q125 (fun _ h => h) (v := .ref (la.1 0 3)) rfl dX1_ofLoadNow_4 ?_
  refine lv_iload_n hx hb dX1_ofLoadNow_7 rfl (lv_at hl 1 rfl) ?_
  refine kV fx (m_AL_get l g (la.1 0 3) (la.1 1 2) i (n 2) (la.2.1 2) (la.1 4 i) (la.2.2 2) (elF la.1 n 2) hi (cw.get hw (k := 2) (by decide) hi).2.1 (cw.get hw (k := 2) (by decide) hi).2.2.1 (cw.get hw (k := 2) (by decide) hi).2.2.2) (lw_V q286 q263 q264 q54 q265) hdJ2_get ⟨(Nat.le_of_ble_eq_true rfl), (Nat.le_of_ble_eq_true rfl)⟩ ⟨(Nat.le_of_ble_eq_true rfl), (Nat.le_of_ble_eq_true rfl)⟩ hl.1 hS tfJ2.2.1 (cw.al2 hw) rfl (Nat.le_of_ble_eq_true rfl) (⟨(cw.al2 hw), (cw.get hw (k := 2) (by decide) hi).1⟩) (fun _ h => h.elim) dX1_ofLoadNow_8 (fun rv9 H locs hQ hz9 hk9 hS => ?_)
  obtain ⟨rfl, rfl⟩ := hQ
  refine W.eq (g2 := F0 m 11 ls [.ref (la.1 4 i)]) rfl ?_
  refine mcast fx tfX9 (cw.l hw hi) q292 dX1_ofLoadNow_11 ?_
  refine lv_astore_n (lv' := [(3, .ref (la.1 4 i)), (0, .ref ax), (1, .int (nI i)), (2, .int 3)]) hx hb dX1_ofLoadNow_14 rfl hl (by decide) rfl (fun ls hl => ?_)
  refine lv_iload_n hx hb dX1_ofLoadNow_15 rfl (lv_at hl 3 rfl) ?_
  refine lv_tableIn (off := 55) (tgt := 71) hx hb dX1_ofLoadNow_16 (by decide) (by decide) (by decide) (by decide) ?_
  refine lv_aload_n hx hb dX1_ofLoadNow_71 rfl (lv_at hl 0 rfl) ?_
  refine mgetN fx tfX9 (cw.l hw hi) 2 (by decide) q517 (fun _ h => h) (v := .int (ld i 2)) rfl dX1_ofLoadNow_72 ?_
  exact ri hx hb hr hlocks hS (⟨hH.symm, rfl⟩) ⟨(Nat.le_of_ble_eq_true rfl), (Nat.le_of_ble_eq_true rfl)⟩ dX1_ofLoadNow_75

set_option maxHeartbeats 4000000 in
theorem m_X_ofLoadNow_4 (l : Launch) (g : GT) (ax ap : Nat) (la : LT) (sc : Nat → Int32) (sw : Int64) (ar fd tr ld : Nat → Nat → Int32) (n : CN) (xi : Nat → Int32) (sm : Int64) (pd : Nat → Int32) (hn : cN n) (i : Nat) (hi : i < n 2) : Cn l g yX1_ofLoadNow cX1_ofLoadNow 4 ((some .int)) 3 0 0 [.ref ax, .int (nI i), .int 4] (fun _ => False) (fun H => xw g (bA g) ax ap la (sc, sw, ar, fd, tr, ld, n) xi sm pd H) (fun Hp rv Hq => Hp = Hq ∧ rv = some (.int (ld i 6))) := by
  refine Cn.start (plainFor_of_name (by decide +kernel)) (Nat.le_of_ble_eq_true rfl) ?_
  intro p ev s m below meth c ls H locs hH hx hb hr hts hown hlocks hml hnm hK hP hS hl
  have hxw := hP
  obtain ⟨hw, h_x, h_p, inx, inp, nxp, nfx, nfp⟩ := hxw
  have fx : Fx p s m ([.ref ax, .int (nI i), .int 4] : List Value).toArray c cX1_ofLoadNow RX1 g (fun _ => False) 4 := ⟨hx, hb, hts, hown, hK, fun _ h => h.elim, hml⟩
  have hl : lv_has ls 4 [(0, .ref ax), (1, .int (nI i)), (2, .int 4)] := hl
  refine lv_aload_n hx hb dX1_ofLoadNow_0 rfl (lv_at hl 0 rfl) ?_
  refine mget fx tfX1 h_x 0 (by decide) q209 (fun _ h => h) (v := .ref (la.1 0 0)) rfl dX1_ofLoadNow_1 ?_
  refine mgetN fx tfX2 (cw.w hw) 2 (by decide) q125 (fun _ h => h) (v := .ref (la.1 0 3)) rfl dX1_ofLoadNow_4 ?_
  refine lv_iload_n hx hb dX1_ofLoadNow_7 rfl (lv_at hl 1 rfl) ?_
  refine kV fx (m_AL_get l g (la.1 0 3) (la.1 1 2) i (n 2) (la.2.1 2) (la.1 4 i) (la.2.2 2) (elF la.1 n 2) hi (cw.get hw (k := 2) (by decide) hi).2.1 (cw.get hw (k := 2) (by decide) hi).2.2.1 (cw.get hw (k := 2) (by decide) hi).2.2.2) (lw_V q286 q263 q264 q54 q265) hdJ2_get ⟨(Nat.le_of_ble_eq_true rfl), (Nat.le_of_ble_eq_true rfl)⟩ ⟨(Nat.le_of_ble_eq_true rfl), (Nat.le_of_ble_eq_true rfl)⟩ hl.1 hS tfJ2.2.1 (cw.al2 hw) rfl (Nat.le_of_ble_eq_true rfl) (⟨(cw.al2 hw), (cw.get hw (k := 2) (by decide) hi).1⟩) (fun _ h => h.elim) dX1_ofLoadNow_8 (fun rv9 H locs hQ hz9 hk9 hS => ?_)
  obtain ⟨rfl, rfl⟩ := hQ
  refine W.eq (g2 := F0 m 11 ls [.ref (la.1 4 i)]) rfl ?_
  refine mcast fx tfX9 (cw.l hw hi) q292 dX1_ofLoadNow_11 ?_
  refine lv_astore_n (lv' := [(3, .ref (la.1 4 i)), (0, .ref ax), (1, .int (nI i)), (2, .int 4)]) hx hb dX1_ofLoadNow_14 rfl hl (by decide) rfl (fun ls hl => ?_)
  refine lv_iload_n hx hb dX1_ofLoadNow_15 rfl (lv_at hl 3 rfl) ?_
  refine lv_tableIn (off := 60) (tgt := 76) hx hb dX1_ofLoadNow_16 (by decide) (by decide) (by decide) (by decide) ?_
  refine lv_aload_n hx hb dX1_ofLoadNow_76 rfl (lv_at hl 0 rfl) ?_
  refine mgetN fx tfX9 (cw.l hw hi) 6 (by decide) q526 (fun _ h => h) (v := .int (ld i 6)) rfl dX1_ofLoadNow_77 ?_
  exact ri hx hb hr hlocks hS (⟨hH.symm, rfl⟩) ⟨(Nat.le_of_ble_eq_true rfl), (Nat.le_of_ble_eq_true rfl)⟩ dX1_ofLoadNow_80

set_option maxHeartbeats 4000000 in
theorem m_X_ofLoadNow_5 (l : Launch) (g : GT) (ax ap : Nat) (la : LT) (sc : Nat → Int32) (sw : Int64) (ar fd tr ld : Nat → Nat → Int32) (n : CN) (xi : Nat → Int32) (sm : Int64) (pd : Nat → Int32) (hn : cN n) (i : Nat) (hi : i < n 2) : Cn l g yX1_ofLoadNow cX1_ofLoadNow 4 ((some .int)) 3 0 0 [.ref ax, .int (nI i), .int 5] (fun _ => False) (fun H => xw g (bA g) ax ap la (sc, sw, ar, fd, tr, ld, n) xi sm pd H) (fun Hp rv Hq => Hp = Hq ∧ rv = some (.int (ld i 4))) := by
  refine Cn.start (plainFor_of_name (by decide +kernel)) (Nat.le_of_ble_eq_true rfl) ?_
  intro p ev s m below meth c ls H locs hH hx hb hr hts hown hlocks hml hnm hK hP hS hl
  have hxw := hP
  obtain ⟨hw, h_x, h_p, inx, inp, nxp, nfx, nfp⟩ := hxw
  have fx : Fx p s m ([.ref ax, .int (nI i), .int 5] : List Value).toArray c cX1_ofLoadNow RX1 g (fun _ => False) 4 := ⟨hx, hb, hts, hown, hK, fun _ h => h.elim, hml⟩
  have hl : lv_has ls 4 [(0, .ref ax), (1, .int (nI i)), (2, .int 5)] := hl
  refine lv_aload_n hx hb dX1_ofLoadNow_0 rfl (lv_at hl 0 rfl) ?_
  refine mget fx tfX1 h_x 0 (by decide) q209 (fun _ h => h) (v := .ref (la.1 0 0)) rfl dX1_ofLoadNow_1 ?_
  refine mgetN fx tfX2 (cw.w hw) 2 (by decide) q125 (fun _ h => h) (v := .ref (la.1 0 3)) rfl dX1_ofLoadNow_4 ?_
  refine lv_iload_n hx hb dX1_ofLoadNow_7 rfl (lv_at hl 1 rfl) ?_
  refine kV fx (m_AL_get l g (la.1 0 3) (la.1 1 2) i (n 2) (la.2.1 2) (la.1 4 i) (la.2.2 2) (elF la.1 n 2) hi (cw.get hw (k := 2) (by decide) hi).2.1 (cw.get hw (k := 2) (by decide) hi).2.2.1 (cw.get hw (k := 2) (by decide) hi).2.2.2) (lw_V q286 q263 q264 q54 q265) hdJ2_get ⟨(Nat.le_of_ble_eq_true rfl), (Nat.le_of_ble_eq_true rfl)⟩ ⟨(Nat.le_of_ble_eq_true rfl), (Nat.le_of_ble_eq_true rfl)⟩ hl.1 hS tfJ2.2.1 (cw.al2 hw) rfl (Nat.le_of_ble_eq_true rfl) (⟨(cw.al2 hw), (cw.get hw (k := 2) (by decide) hi).1⟩) (fun _ h => h.elim) dX1_ofLoadNow_8 (fun rv9 H locs hQ hz9 hk9 hS => ?_)
  obtain ⟨rfl, rfl⟩ := hQ
  refine W.eq (g2 := F0 m 11 ls [.ref (la.1 4 i)]) rfl ?_
  refine mcast fx tfX9 (cw.l hw hi) q292 dX1_ofLoadNow_11 ?_
  refine lv_astore_n (lv' := [(3, .ref (la.1 4 i)), (0, .ref ax), (1, .int (nI i)), (2, .int 5)]) hx hb dX1_ofLoadNow_14 rfl hl (by decide) rfl (fun ls hl => ?_)
  refine lv_iload_n hx hb dX1_ofLoadNow_15 rfl (lv_at hl 3 rfl) ?_
  refine lv_tableIn (off := 65) (tgt := 81) hx hb dX1_ofLoadNow_16 (by decide) (by decide) (by decide) (by decide) ?_
  refine lv_aload_n hx hb dX1_ofLoadNow_81 rfl (lv_at hl 0 rfl) ?_
  refine mgetN fx tfX9 (cw.l hw hi) 4 (by decide) q520 (fun _ h => h) (v := .int (ld i 4)) rfl dX1_ofLoadNow_82 ?_
  exact ri hx hb hr hlocks hS (⟨hH.symm, rfl⟩) ⟨(Nat.le_of_ble_eq_true rfl), (Nat.le_of_ble_eq_true rfl)⟩ dX1_ofLoadNow_85

set_option maxHeartbeats 4000000 in
theorem m_X_ofLoadNow_6 (l : Launch) (g : GT) (ax ap : Nat) (la : LT) (sc : Nat → Int32) (sw : Int64) (ar fd tr ld : Nat → Nat → Int32) (n : CN) (xi : Nat → Int32) (sm : Int64) (pd : Nat → Int32) (hn : cN n) (i : Nat) (hi : i < n 2) : Cn l g yX1_ofLoadNow cX1_ofLoadNow 4 ((some .int)) 3 0 0 [.ref ax, .int (nI i), .int 6] (fun _ => False) (fun H => xw g (bA g) ax ap la (sc, sw, ar, fd, tr, ld, n) xi sm pd H) (fun Hp rv Hq => Hp = Hq ∧ rv = some (.int (ld i 8))) := by
  refine Cn.start (plainFor_of_name (by decide +kernel)) (Nat.le_of_ble_eq_true rfl) ?_
  intro p ev s m below meth c ls H locs hH hx hb hr hts hown hlocks hml hnm hK hP hS hl
  have hxw := hP
  obtain ⟨hw, h_x, h_p, inx, inp, nxp, nfx, nfp⟩ := hxw
  have fx : Fx p s m ([.ref ax, .int (nI i), .int 6] : List Value).toArray c cX1_ofLoadNow RX1 g (fun _ => False) 4 := ⟨hx, hb, hts, hown, hK, fun _ h => h.elim, hml⟩
  have hl : lv_has ls 4 [(0, .ref ax), (1, .int (nI i)), (2, .int 6)] := hl
  refine lv_aload_n hx hb dX1_ofLoadNow_0 rfl (lv_at hl 0 rfl) ?_
  refine mget fx tfX1 h_x 0 (by decide) q209 (fun _ h => h) (v := .ref (la.1 0 0)) rfl dX1_ofLoadNow_1 ?_
  refine mgetN fx tfX2 (cw.w hw) 2 (by decide) q125 (fun _ h => h) (v := .ref (la.1 0 3)) rfl dX1_ofLoadNow_4 ?_
  refine lv_iload_n hx hb dX1_ofLoadNow_7 rfl (lv_at hl 1 rfl) ?_
  refine kV fx (m_AL_get l g (la.1 0 3) (la.1 1 2) i (n 2) (la.2.1 2) (la.1 4 i) (la.2.2 2) (elF la.1 n 2) hi (cw.get hw (k := 2) (by decide) hi).2.1 (cw.get hw (k := 2) (by decide) hi).2.2.1 (cw.get hw (k := 2) (by decide) hi).2.2.2) (lw_V q286 q263 q264 q54 q265) hdJ2_get ⟨(Nat.le_of_ble_eq_true rfl), (Nat.le_of_ble_eq_true rfl)⟩ ⟨(Nat.le_of_ble_eq_true rfl), (Nat.le_of_ble_eq_true rfl)⟩ hl.1 hS tfJ2.2.1 (cw.al2 hw) rfl (Nat.le_of_ble_eq_true rfl) (⟨(cw.al2 hw), (cw.get hw (k := 2) (by decide) hi).1⟩) (fun _ h => h.elim) dX1_ofLoadNow_8 (fun rv9 H locs hQ hz9 hk9 hS => ?_)
  obtain ⟨rfl, rfl⟩ := hQ
  refine W.eq (g2 := F0 m 11 ls [.ref (la.1 4 i)]) rfl ?_
  refine mcast fx tfX9 (cw.l hw hi) q292 dX1_ofLoadNow_11 ?_
  refine lv_astore_n (lv' := [(3, .ref (la.1 4 i)), (0, .ref ax), (1, .int (nI i)), (2, .int 6)]) hx hb dX1_ofLoadNow_14 rfl hl (by decide) rfl (fun ls hl => ?_)
  refine lv_iload_n hx hb dX1_ofLoadNow_15 rfl (lv_at hl 3 rfl) ?_
  refine lv_tableOut (tgt := 86) hx hb dX1_ofLoadNow_16 (by decide) (by decide) ?_
  refine lv_aload_n hx hb dX1_ofLoadNow_86 rfl (lv_at hl 0 rfl) ?_
  refine mgetN fx tfX9 (cw.l hw hi) 8 (by decide) q531 (fun _ h => h) (v := .int (ld i 8)) rfl dX1_ofLoadNow_87 ?_
  exact ri hx hb hr hlocks hS (⟨hH.symm, rfl⟩) ⟨(Nat.le_of_ble_eq_true rfl), (Nat.le_of_ble_eq_true rfl)⟩ dX1_ofLoadNow_90

theorem m_X_ofLoadNow (l : Launch) (g : GT) (ax ap : Nat) (la : LT) (sc : Nat → Int32) (sw : Int64) (ar fd tr ld : Nat → Nat → Int32) (n : CN) (xi : Nat → Int32) (sm : Int64) (pd : Nat → Int32) (hn : cN n) (i : Nat) (hi : i < n 2) (q : Nat) (hq : q < 7) : Cn l g yX1_ofLoadNow cX1_ofLoadNow 4 ((some .int)) 3 0 0 [.ref ax, .int (nI i), .int (nI q)] (fun _ => False) (fun H => xw g (bA g) ax ap la (sc, sw, ar, fd, tr, ld, n) xi sm pd H) (fun Hp rv Hq => Hp = Hq ∧ rv = some (.int (cOfL ld i q))) :=
  match q, hq with
  | 0, _ => m_X_ofLoadNow_0 l g ax ap la sc sw ar fd tr ld n xi sm pd hn i hi
  | 1, _ => m_X_ofLoadNow_1 l g ax ap la sc sw ar fd tr ld n xi sm pd hn i hi
  | 2, _ => m_X_ofLoadNow_2 l g ax ap la sc sw ar fd tr ld n xi sm pd hn i hi
  | 3, _ => m_X_ofLoadNow_3 l g ax ap la sc sw ar fd tr ld n xi sm pd hn i hi
  | 4, _ => m_X_ofLoadNow_4 l g ax ap la sc sw ar fd tr ld n xi sm pd hn i hi
  | 5, _ => m_X_ofLoadNow_5 l g ax ap la sc sw ar fd tr ld n xi sm pd hn i hi
  | 6, _ => m_X_ofLoadNow_6 l g ax ap la sc sw ar fd tr ld n xi sm pd hn i hi
  | q + 7, hq => absurd hq (by omega)
def cOfT (tr : Nat → Nat → Int32) (i q : Nat) : Int32 := match q with | 0 => tr i 0 | 1 => tr i 1 | 2 => tr i 2 | _ => tr i 3
set_option maxHeartbeats 4000000 in
theorem m_X_ofTruckNow_0 (l : Launch) (g : GT) (ax ap : Nat) (la : LT) (sc : Nat → Int32) (sw : Int64) (ar fd tr ld : Nat → Nat → Int32) (n : CN) (xi : Nat → Int32) (sm : Int64) (pd : Nat → Int32) (hn : cN n) (i : Nat) (hi : i < n 1) : Cn l g yX1_ofTruckNow cX1_ofTruckNow 4 ((some .int)) 3 0 0 [.ref ax, .int (nI i), .int 0] (fun _ => False) (fun H => xw g (bA g) ax ap la (sc, sw, ar, fd, tr, ld, n) xi sm pd H) (fun Hp rv Hq => Hp = Hq ∧ rv = some (.int (tr i 0))) := by
  refine Cn.start (plainFor_of_name (by decide +kernel)) (Nat.le_of_ble_eq_true rfl) ?_
  intro p ev s m below meth c ls H locs hH hx hb hr hts hown hlocks hml hnm hK hP hS hl
  have hxw := hP
  obtain ⟨hw, h_x, h_p, inx, inp, nxp, nfx, nfp⟩ := hxw
  have fx : Fx p s m ([.ref ax, .int (nI i), .int 0] : List Value).toArray c cX1_ofTruckNow RX1 g (fun _ => False) 4 := ⟨hx, hb, hts, hown, hK, fun _ h => h.elim, hml⟩
  have hl : lv_has ls 4 [(0, .ref ax), (1, .int (nI i)), (2, .int 0)] := hl
  refine lv_aload_n hx hb dX1_ofTruckNow_0 rfl (lv_at hl 0 rfl) ?_
  refine mget fx tfX1 h_x 0 (by decide) q209 (fun _ h => h) (v := .ref (la.1 0 0)) rfl dX1_ofTruckNow_1 ?_
  refine mgetN fx tfX2 (cw.w hw) 1 (by decide) q123 (fun _ h => h) (v := .ref (la.1 0 2)) rfl dX1_ofTruckNow_4 ?_
  refine lv_iload_n hx hb dX1_ofTruckNow_7 rfl (lv_at hl 1 rfl) ?_
  refine kV fx (m_AL_get l g (la.1 0 2) (la.1 1 1) i (n 1) (la.2.1 1) (la.1 3 i) (la.2.2 1) (elF la.1 n 1) hi (cw.get hw (k := 1) (by decide) hi).2.1 (cw.get hw (k := 1) (by decide) hi).2.2.1 (cw.get hw (k := 1) (by decide) hi).2.2.2) (lw_V q286 q263 q264 q54 q265) hdJ2_get ⟨(Nat.le_of_ble_eq_true rfl), (Nat.le_of_ble_eq_true rfl)⟩ ⟨(Nat.le_of_ble_eq_true rfl), (Nat.le_of_ble_eq_true rfl)⟩ hl.1 hS tfJ2.2.1 (cw.al1 hw) rfl (Nat.le_of_ble_eq_true rfl) (⟨(cw.al1 hw), (cw.get hw (k := 1) (by decide) hi).1⟩) (fun _ h => h.elim) dX1_ofTruckNow_8 (fun rv9 H locs hQ hz9 hk9 hS => ?_)
  obtain ⟨rfl, rfl⟩ := hQ
  refine W.eq (g2 := F0 m 11 ls [.ref (la.1 3 i)]) rfl ?_
  refine mcast fx tfX7 (cw.t hw hi) q450 dX1_ofTruckNow_11 ?_
  refine lv_astore_n (lv' := [(3, .ref (la.1 3 i)), (0, .ref ax), (1, .int (nI i)), (2, .int 0)]) hx hb dX1_ofTruckNow_14 rfl hl (by decide) rfl (fun ls hl => ?_)
  refine lv_iload_n hx hb dX1_ofTruckNow_15 rfl (lv_at hl 3 rfl) ?_
  refine lv_if_ne (tgt := 26) hx hb dX1_ofTruckNow_16 (by decide) (fun h9 => absurd rfl h9) (fun _ => ?_)
  refine lv_aload_n hx hb dX1_ofTruckNow_19 rfl (lv_at hl 0 rfl) ?_
  refine mgetN fx tfX7 (cw.t hw hi) 0 (by decide) q480 (fun _ h => h) (v := .int (tr i 0)) rfl dX1_ofTruckNow_20 ?_
  refine lv_goto (tgt := 54) hx hb dX1_ofTruckNow_23 (by decide) ?_
  exact ri hx hb hr hlocks hS (⟨hH.symm, rfl⟩) ⟨(Nat.le_of_ble_eq_true rfl), (Nat.le_of_ble_eq_true rfl)⟩ dX1_ofTruckNow_54

set_option maxHeartbeats 4000000 in
theorem m_X_ofTruckNow_1 (l : Launch) (g : GT) (ax ap : Nat) (la : LT) (sc : Nat → Int32) (sw : Int64) (ar fd tr ld : Nat → Nat → Int32) (n : CN) (xi : Nat → Int32) (sm : Int64) (pd : Nat → Int32) (hn : cN n) (i : Nat) (hi : i < n 1) : Cn l g yX1_ofTruckNow cX1_ofTruckNow 4 ((some .int)) 3 0 0 [.ref ax, .int (nI i), .int 1] (fun _ => False) (fun H => xw g (bA g) ax ap la (sc, sw, ar, fd, tr, ld, n) xi sm pd H) (fun Hp rv Hq => Hp = Hq ∧ rv = some (.int (tr i 1))) := by
  refine Cn.start (plainFor_of_name (by decide +kernel)) (Nat.le_of_ble_eq_true rfl) ?_
  intro p ev s m below meth c ls H locs hH hx hb hr hts hown hlocks hml hnm hK hP hS hl
  have hxw := hP
  obtain ⟨hw, h_x, h_p, inx, inp, nxp, nfx, nfp⟩ := hxw
  have fx : Fx p s m ([.ref ax, .int (nI i), .int 1] : List Value).toArray c cX1_ofTruckNow RX1 g (fun _ => False) 4 := ⟨hx, hb, hts, hown, hK, fun _ h => h.elim, hml⟩
  have hl : lv_has ls 4 [(0, .ref ax), (1, .int (nI i)), (2, .int 1)] := hl
  refine lv_aload_n hx hb dX1_ofTruckNow_0 rfl (lv_at hl 0 rfl) ?_
  refine mget fx tfX1 h_x 0 (by decide) q209 (fun _ h => h) (v := .ref (la.1 0 0)) rfl dX1_ofTruckNow_1 ?_
  refine mgetN fx tfX2 (cw.w hw) 1 (by decide) q123 (fun _ h => h) (v := .ref (la.1 0 2)) rfl dX1_ofTruckNow_4 ?_
  refine lv_iload_n hx hb dX1_ofTruckNow_7 rfl (lv_at hl 1 rfl) ?_
  refine kV fx (m_AL_get l g (la.1 0 2) (la.1 1 1) i (n 1) (la.2.1 1) (la.1 3 i) (la.2.2 1) (elF la.1 n 1) hi (cw.get hw (k := 1) (by decide) hi).2.1 (cw.get hw (k := 1) (by decide) hi).2.2.1 (cw.get hw (k := 1) (by decide) hi).2.2.2) (lw_V q286 q263 q264 q54 q265) hdJ2_get ⟨(Nat.le_of_ble_eq_true rfl), (Nat.le_of_ble_eq_true rfl)⟩ ⟨(Nat.le_of_ble_eq_true rfl), (Nat.le_of_ble_eq_true rfl)⟩ hl.1 hS tfJ2.2.1 (cw.al1 hw) rfl (Nat.le_of_ble_eq_true rfl) (⟨(cw.al1 hw), (cw.get hw (k := 1) (by decide) hi).1⟩) (fun _ h => h.elim) dX1_ofTruckNow_8 (fun rv9 H locs hQ hz9 hk9 hS => ?_)
  obtain ⟨rfl, rfl⟩ := hQ
  refine W.eq (g2 := F0 m 11 ls [.ref (la.1 3 i)]) rfl ?_
  refine mcast fx tfX7 (cw.t hw hi) q450 dX1_ofTruckNow_11 ?_
  refine lv_astore_n (lv' := [(3, .ref (la.1 3 i)), (0, .ref ax), (1, .int (nI i)), (2, .int 1)]) hx hb dX1_ofTruckNow_14 rfl hl (by decide) rfl (fun ls hl => ?_)
  refine lv_iload_n hx hb dX1_ofTruckNow_15 rfl (lv_at hl 3 rfl) ?_
  refine lv_if_ne (tgt := 26) hx hb dX1_ofTruckNow_16 (by decide) (fun _ => ?_) (fun h9 => absurd h9 (by decide))
  refine lv_iload_n hx hb dX1_ofTruckNow_26 rfl (lv_at hl 3 rfl) ?_
  refine lv_iconst (v := 1) hx hb dX1_ofTruckNow_27 (by decide) ?_
  refine lv_icmp_ne (tgt := 38) hx hb dX1_ofTruckNow_28 (by decide) (fun h9 => absurd rfl h9) (fun _ => ?_)
  refine lv_aload_n hx hb dX1_ofTruckNow_31 rfl (lv_at hl 0 rfl) ?_
  refine mgetN fx tfX7 (cw.t hw hi) 1 (by decide) q483 (fun _ h => h) (v := .int (tr i 1)) rfl dX1_ofTruckNow_32 ?_
  refine lv_goto (tgt := 54) hx hb dX1_ofTruckNow_35 (by decide) ?_
  exact ri hx hb hr hlocks hS (⟨hH.symm, rfl⟩) ⟨(Nat.le_of_ble_eq_true rfl), (Nat.le_of_ble_eq_true rfl)⟩ dX1_ofTruckNow_54

set_option maxHeartbeats 4000000 in
theorem m_X_ofTruckNow_2 (l : Launch) (g : GT) (ax ap : Nat) (la : LT) (sc : Nat → Int32) (sw : Int64) (ar fd tr ld : Nat → Nat → Int32) (n : CN) (xi : Nat → Int32) (sm : Int64) (pd : Nat → Int32) (hn : cN n) (i : Nat) (hi : i < n 1) : Cn l g yX1_ofTruckNow cX1_ofTruckNow 4 ((some .int)) 3 0 0 [.ref ax, .int (nI i), .int 2] (fun _ => False) (fun H => xw g (bA g) ax ap la (sc, sw, ar, fd, tr, ld, n) xi sm pd H) (fun Hp rv Hq => Hp = Hq ∧ rv = some (.int (tr i 2))) := by
  refine Cn.start (plainFor_of_name (by decide +kernel)) (Nat.le_of_ble_eq_true rfl) ?_
  intro p ev s m below meth c ls H locs hH hx hb hr hts hown hlocks hml hnm hK hP hS hl
  have hxw := hP
  obtain ⟨hw, h_x, h_p, inx, inp, nxp, nfx, nfp⟩ := hxw
  have fx : Fx p s m ([.ref ax, .int (nI i), .int 2] : List Value).toArray c cX1_ofTruckNow RX1 g (fun _ => False) 4 := ⟨hx, hb, hts, hown, hK, fun _ h => h.elim, hml⟩
  have hl : lv_has ls 4 [(0, .ref ax), (1, .int (nI i)), (2, .int 2)] := hl
  refine lv_aload_n hx hb dX1_ofTruckNow_0 rfl (lv_at hl 0 rfl) ?_
  refine mget fx tfX1 h_x 0 (by decide) q209 (fun _ h => h) (v := .ref (la.1 0 0)) rfl dX1_ofTruckNow_1 ?_
  refine mgetN fx tfX2 (cw.w hw) 1 (by decide) q123 (fun _ h => h) (v := .ref (la.1 0 2)) rfl dX1_ofTruckNow_4 ?_
  refine lv_iload_n hx hb dX1_ofTruckNow_7 rfl (lv_at hl 1 rfl) ?_
  refine kV fx (m_AL_get l g (la.1 0 2) (la.1 1 1) i (n 1) (la.2.1 1) (la.1 3 i) (la.2.2 1) (elF la.1 n 1) hi (cw.get hw (k := 1) (by decide) hi).2.1 (cw.get hw (k := 1) (by decide) hi).2.2.1 (cw.get hw (k := 1) (by decide) hi).2.2.2) (lw_V q286 q263 q264 q54 q265) hdJ2_get ⟨(Nat.le_of_ble_eq_true rfl), (Nat.le_of_ble_eq_true rfl)⟩ ⟨(Nat.le_of_ble_eq_true rfl), (Nat.le_of_ble_eq_true rfl)⟩ hl.1 hS tfJ2.2.1 (cw.al1 hw) rfl (Nat.le_of_ble_eq_true rfl) (⟨(cw.al1 hw), (cw.get hw (k := 1) (by decide) hi).1⟩) (fun _ h => h.elim) dX1_ofTruckNow_8 (fun rv9 H locs hQ hz9 hk9 hS => ?_)
  obtain ⟨rfl, rfl⟩ := hQ
  refine W.eq (g2 := F0 m 11 ls [.ref (la.1 3 i)]) rfl ?_
  refine mcast fx tfX7 (cw.t hw hi) q450 dX1_ofTruckNow_11 ?_
  refine lv_astore_n (lv' := [(3, .ref (la.1 3 i)), (0, .ref ax), (1, .int (nI i)), (2, .int 2)]) hx hb dX1_ofTruckNow_14 rfl hl (by decide) rfl (fun ls hl => ?_)
  refine lv_iload_n hx hb dX1_ofTruckNow_15 rfl (lv_at hl 3 rfl) ?_
  refine lv_if_ne (tgt := 26) hx hb dX1_ofTruckNow_16 (by decide) (fun _ => ?_) (fun h9 => absurd h9 (by decide))
  refine lv_iload_n hx hb dX1_ofTruckNow_26 rfl (lv_at hl 3 rfl) ?_
  refine lv_iconst (v := 1) hx hb dX1_ofTruckNow_27 (by decide) ?_
  refine lv_icmp_ne (tgt := 38) hx hb dX1_ofTruckNow_28 (by decide) (fun _ => ?_) (fun h9 => absurd h9 (by decide))
  refine lv_iload_n hx hb dX1_ofTruckNow_38 rfl (lv_at hl 3 rfl) ?_
  refine lv_iconst (v := 2) hx hb dX1_ofTruckNow_39 (by decide) ?_
  refine lv_icmp_ne (tgt := 50) hx hb dX1_ofTruckNow_40 (by decide) (fun h9 => absurd rfl h9) (fun _ => ?_)
  refine lv_aload_n hx hb dX1_ofTruckNow_43 rfl (lv_at hl 0 rfl) ?_
  refine mgetN fx tfX7 (cw.t hw hi) 2 (by decide) q486 (fun _ h => h) (v := .int (tr i 2)) rfl dX1_ofTruckNow_44 ?_
  refine lv_goto (tgt := 54) hx hb dX1_ofTruckNow_47 (by decide) ?_
  exact ri hx hb hr hlocks hS (⟨hH.symm, rfl⟩) ⟨(Nat.le_of_ble_eq_true rfl), (Nat.le_of_ble_eq_true rfl)⟩ dX1_ofTruckNow_54

set_option maxHeartbeats 4000000 in
theorem m_X_ofTruckNow_3 (l : Launch) (g : GT) (ax ap : Nat) (la : LT) (sc : Nat → Int32) (sw : Int64) (ar fd tr ld : Nat → Nat → Int32) (n : CN) (xi : Nat → Int32) (sm : Int64) (pd : Nat → Int32) (hn : cN n) (i : Nat) (hi : i < n 1) : Cn l g yX1_ofTruckNow cX1_ofTruckNow 4 ((some .int)) 3 0 0 [.ref ax, .int (nI i), .int 3] (fun _ => False) (fun H => xw g (bA g) ax ap la (sc, sw, ar, fd, tr, ld, n) xi sm pd H) (fun Hp rv Hq => Hp = Hq ∧ rv = some (.int (tr i 3))) := by
  refine Cn.start (plainFor_of_name (by decide +kernel)) (Nat.le_of_ble_eq_true rfl) ?_
  intro p ev s m below meth c ls H locs hH hx hb hr hts hown hlocks hml hnm hK hP hS hl
  have hxw := hP
  obtain ⟨hw, h_x, h_p, inx, inp, nxp, nfx, nfp⟩ := hxw
  have fx : Fx p s m ([.ref ax, .int (nI i), .int 3] : List Value).toArray c cX1_ofTruckNow RX1 g (fun _ => False) 4 := ⟨hx, hb, hts, hown, hK, fun _ h => h.elim, hml⟩
  have hl : lv_has ls 4 [(0, .ref ax), (1, .int (nI i)), (2, .int 3)] := hl
  refine lv_aload_n hx hb dX1_ofTruckNow_0 rfl (lv_at hl 0 rfl) ?_
  refine mget fx tfX1 h_x 0 (by decide) q209 (fun _ h => h) (v := .ref (la.1 0 0)) rfl dX1_ofTruckNow_1 ?_
  refine mgetN fx tfX2 (cw.w hw) 1 (by decide) q123 (fun _ h => h) (v := .ref (la.1 0 2)) rfl dX1_ofTruckNow_4 ?_
  refine lv_iload_n hx hb dX1_ofTruckNow_7 rfl (lv_at hl 1 rfl) ?_
  refine kV fx (m_AL_get l g (la.1 0 2) (la.1 1 1) i (n 1) (la.2.1 1) (la.1 3 i) (la.2.2 1) (elF la.1 n 1) hi (cw.get hw (k := 1) (by decide) hi).2.1 (cw.get hw (k := 1) (by decide) hi).2.2.1 (cw.get hw (k := 1) (by decide) hi).2.2.2) (lw_V q286 q263 q264 q54 q265) hdJ2_get ⟨(Nat.le_of_ble_eq_true rfl), (Nat.le_of_ble_eq_true rfl)⟩ ⟨(Nat.le_of_ble_eq_true rfl), (Nat.le_of_ble_eq_true rfl)⟩ hl.1 hS tfJ2.2.1 (cw.al1 hw) rfl (Nat.le_of_ble_eq_true rfl) (⟨(cw.al1 hw), (cw.get hw (k := 1) (by decide) hi).1⟩) (fun _ h => h.elim) dX1_ofTruckNow_8 (fun rv9 H locs hQ hz9 hk9 hS => ?_)
  obtain ⟨rfl, rfl⟩ := hQ
  refine W.eq (g2 := F0 m 11 ls [.ref (la.1 3 i)]) rfl ?_
  refine mcast fx tfX7 (cw.t hw hi) q450 dX1_ofTruckNow_11 ?_
  refine lv_astore_n (lv' := [(3, .ref (la.1 3 i)), (0, .ref ax), (1, .int (nI i)), (2, .int 3)]) hx hb dX1_ofTruckNow_14 rfl hl (by decide) rfl (fun ls hl => ?_)
  refine lv_iload_n hx hb dX1_ofTruckNow_15 rfl (lv_at hl 3 rfl) ?_
  refine lv_if_ne (tgt := 26) hx hb dX1_ofTruckNow_16 (by decide) (fun _ => ?_) (fun h9 => absurd h9 (by decide))
  refine lv_iload_n hx hb dX1_ofTruckNow_26 rfl (lv_at hl 3 rfl) ?_
  refine lv_iconst (v := 1) hx hb dX1_ofTruckNow_27 (by decide) ?_
  refine lv_icmp_ne (tgt := 38) hx hb dX1_ofTruckNow_28 (by decide) (fun _ => ?_) (fun h9 => absurd h9 (by decide))
  refine lv_iload_n hx hb dX1_ofTruckNow_38 rfl (lv_at hl 3 rfl) ?_
  refine lv_iconst (v := 2) hx hb dX1_ofTruckNow_39 (by decide) ?_
  refine lv_icmp_ne (tgt := 50) hx hb dX1_ofTruckNow_40 (by decide) (fun _ => ?_) (fun h9 => absurd h9 (by decide))
  refine lv_aload_n hx hb dX1_ofTruckNow_50 rfl (lv_at hl 0 rfl) ?_
  refine mgetN fx tfX7 (cw.t hw hi) 3 (by decide) q489 (fun _ h => h) (v := .int (tr i 3)) rfl dX1_ofTruckNow_51 ?_
  exact ri hx hb hr hlocks hS (⟨hH.symm, rfl⟩) ⟨(Nat.le_of_ble_eq_true rfl), (Nat.le_of_ble_eq_true rfl)⟩ dX1_ofTruckNow_54

theorem m_X_ofTruckNow (l : Launch) (g : GT) (ax ap : Nat) (la : LT) (sc : Nat → Int32) (sw : Int64) (ar fd tr ld : Nat → Nat → Int32) (n : CN) (xi : Nat → Int32) (sm : Int64) (pd : Nat → Int32) (hn : cN n) (i : Nat) (hi : i < n 1) (q : Nat) (hq : q < 4) : Cn l g yX1_ofTruckNow cX1_ofTruckNow 4 ((some .int)) 3 0 0 [.ref ax, .int (nI i), .int (nI q)] (fun _ => False) (fun H => xw g (bA g) ax ap la (sc, sw, ar, fd, tr, ld, n) xi sm pd H) (fun Hp rv Hq => Hp = Hq ∧ rv = some (.int (cOfT tr i q))) :=
  match q, hq with
  | 0, _ => m_X_ofTruckNow_0 l g ax ap la sc sw ar fd tr ld n xi sm pd hn i hi
  | 1, _ => m_X_ofTruckNow_1 l g ax ap la sc sw ar fd tr ld n xi sm pd hn i hi
  | 2, _ => m_X_ofTruckNow_2 l g ax ap la sc sw ar fd tr ld n xi sm pd hn i hi
  | 3, _ => m_X_ofTruckNow_3 l g ax ap la sc sw ar fd tr ld n xi sm pd hn i hi
  | q + 4, hq => absurd hq (by omega)
def cOfG (ar : Nat → Nat → Int32) (pd : Nat → Int32) (i q : Nat) : Int32 := match q with | 0 => ar 0 i | 1 => ar 1 i | 2 => ar 2 i | _ => pd i
set_option maxHeartbeats 4000000 in
theorem m_X_ofGrowerNow_0 (l : Launch) (g : GT) (ax ap : Nat) (la : LT) (sc : Nat → Int32) (sw : Int64) (ar fd tr ld : Nat → Nat → Int32) (n : CN) (xi : Nat → Int32) (sm : Int64) (pd : Nat → Int32) (i : Nat) (hi : i < 4) : Cn l g yX1_ofGrowerNow cX1_ofGrowerNow 3 ((some .int)) 3 0 0 [.ref ax, .int (nI i), .int 0] (fun _ => False) (fun H => xw g (bA g) ax ap la (sc, sw, ar, fd, tr, ld, n) xi sm pd H) (fun Hp rv Hq => Hp = Hq ∧ rv = some (.int (ar 0 i))) := by
  refine Cn.start (plainFor_of_name (by decide +kernel)) (Nat.le_of_ble_eq_true rfl) ?_
  intro p ev s m below meth c ls H locs hH hx hb hr hts hown hlocks hml hnm hK hP hS hl
  have hxw := hP
  obtain ⟨hw, h_x, h_p, inx, inp, nxp, nfx, nfp⟩ := hxw
  have fx : Fx p s m ([.ref ax, .int (nI i), .int 0] : List Value).toArray c cX1_ofGrowerNow RX1 g (fun _ => False) 3 := ⟨hx, hb, hts, hown, hK, fun _ h => h.elim, hml⟩
  have hl : lv_has ls 3 [(0, .ref ax), (1, .int (nI i)), (2, .int 0)] := hl
  refine lv_iload_n hx hb dX1_ofGrowerNow_0 rfl (lv_at hl 2 rfl) ?_
  refine lv_if_ne (tgt := 16) hx hb dX1_ofGrowerNow_1 (by decide) (fun h9 => absurd rfl h9) (fun _ => ?_)
  refine lv_aload_n hx hb dX1_ofGrowerNow_4 rfl (lv_at hl 0 rfl) ?_
  refine mget fx tfX1 h_x 0 (by decide) q209 (fun _ h => h) (v := .ref (la.1 0 0)) rfl dX1_ofGrowerNow_5 ?_
  refine mgetN fx tfX2 (cw.w hw) 3 (by decide) q127 (fun _ h => h) (v := .ref (la.1 0 4)) rfl dX1_ofGrowerNow_8 ?_
  refine lv_iload_n hx hb dX1_ofGrowerNow_11 rfl (lv_at hl 1 rfl) ?_
  refine miald fx (cw.ar0 hw) i rfl hi (by decide) dX1_ofGrowerNow_12 ?_
  refine lv_goto (tgt := 56) hx hb dX1_ofGrowerNow_13 (by decide) ?_
  exact ri hx hb hr hlocks hS (⟨hH.symm, rfl⟩) ⟨(Nat.le_of_ble_eq_true rfl), (Nat.le_of_ble_eq_true rfl)⟩ dX1_ofGrowerNow_56

set_option maxHeartbeats 4000000 in
theorem m_X_ofGrowerNow_1 (l : Launch) (g : GT) (ax ap : Nat) (la : LT) (sc : Nat → Int32) (sw : Int64) (ar fd tr ld : Nat → Nat → Int32) (n : CN) (xi : Nat → Int32) (sm : Int64) (pd : Nat → Int32) (i : Nat) (hi : i < 4) : Cn l g yX1_ofGrowerNow cX1_ofGrowerNow 3 ((some .int)) 3 0 0 [.ref ax, .int (nI i), .int 1] (fun _ => False) (fun H => xw g (bA g) ax ap la (sc, sw, ar, fd, tr, ld, n) xi sm pd H) (fun Hp rv Hq => Hp = Hq ∧ rv = some (.int (ar 1 i))) := by
  refine Cn.start (plainFor_of_name (by decide +kernel)) (Nat.le_of_ble_eq_true rfl) ?_
  intro p ev s m below meth c ls H locs hH hx hb hr hts hown hlocks hml hnm hK hP hS hl
  have hxw := hP
  obtain ⟨hw, h_x, h_p, inx, inp, nxp, nfx, nfp⟩ := hxw
  have fx : Fx p s m ([.ref ax, .int (nI i), .int 1] : List Value).toArray c cX1_ofGrowerNow RX1 g (fun _ => False) 3 := ⟨hx, hb, hts, hown, hK, fun _ h => h.elim, hml⟩
  have hl : lv_has ls 3 [(0, .ref ax), (1, .int (nI i)), (2, .int 1)] := hl
  refine lv_iload_n hx hb dX1_ofGrowerNow_0 rfl (lv_at hl 2 rfl) ?_
  refine lv_if_ne (tgt := 16) hx hb dX1_ofGrowerNow_1 (by decide) (fun _ => ?_) (fun h9 => absurd h9 (by decide))
  refine lv_iload_n hx hb dX1_ofGrowerNow_16 rfl (lv_at hl 2 rfl) ?_
  refine lv_iconst (v := 1) hx hb dX1_ofGrowerNow_17 (by decide) ?_
  refine lv_icmp_ne (tgt := 33) hx hb dX1_ofGrowerNow_18 (by decide) (fun h9 => absurd rfl h9) (fun _ => ?_)
  refine lv_aload_n hx hb dX1_ofGrowerNow_21 rfl (lv_at hl 0 rfl) ?_
  refine mget fx tfX1 h_x 0 (by decide) q209 (fun _ h => h) (v := .ref (la.1 0 0)) rfl dX1_ofGrowerNow_22 ?_
  refine mgetN fx tfX2 (cw.w hw) 4 (by decide) q129 (fun _ h => h) (v := .ref (la.1 0 5)) rfl dX1_ofGrowerNow_25 ?_
  refine lv_iload_n hx hb dX1_ofGrowerNow_28 rfl (lv_at hl 1 rfl) ?_
  refine miald fx (cw.ar1 hw) i rfl hi (by decide) dX1_ofGrowerNow_29 ?_
  refine lv_goto (tgt := 56) hx hb dX1_ofGrowerNow_30 (by decide) ?_
  exact ri hx hb hr hlocks hS (⟨hH.symm, rfl⟩) ⟨(Nat.le_of_ble_eq_true rfl), (Nat.le_of_ble_eq_true rfl)⟩ dX1_ofGrowerNow_56

set_option maxHeartbeats 4000000 in
theorem m_X_ofGrowerNow_2 (l : Launch) (g : GT) (ax ap : Nat) (la : LT) (sc : Nat → Int32) (sw : Int64) (ar fd tr ld : Nat → Nat → Int32) (n : CN) (xi : Nat → Int32) (sm : Int64) (pd : Nat → Int32) (i : Nat) (hi : i < 4) : Cn l g yX1_ofGrowerNow cX1_ofGrowerNow 3 ((some .int)) 3 0 0 [.ref ax, .int (nI i), .int 2] (fun _ => False) (fun H => xw g (bA g) ax ap la (sc, sw, ar, fd, tr, ld, n) xi sm pd H) (fun Hp rv Hq => Hp = Hq ∧ rv = some (.int (ar 2 i))) := by
  refine Cn.start (plainFor_of_name (by decide +kernel)) (Nat.le_of_ble_eq_true rfl) ?_
  intro p ev s m below meth c ls H locs hH hx hb hr hts hown hlocks hml hnm hK hP hS hl
  have hxw := hP
  obtain ⟨hw, h_x, h_p, inx, inp, nxp, nfx, nfp⟩ := hxw
  have fx : Fx p s m ([.ref ax, .int (nI i), .int 2] : List Value).toArray c cX1_ofGrowerNow RX1 g (fun _ => False) 3 := ⟨hx, hb, hts, hown, hK, fun _ h => h.elim, hml⟩
  have hl : lv_has ls 3 [(0, .ref ax), (1, .int (nI i)), (2, .int 2)] := hl
  refine lv_iload_n hx hb dX1_ofGrowerNow_0 rfl (lv_at hl 2 rfl) ?_
  refine lv_if_ne (tgt := 16) hx hb dX1_ofGrowerNow_1 (by decide) (fun _ => ?_) (fun h9 => absurd h9 (by decide))
  refine lv_iload_n hx hb dX1_ofGrowerNow_16 rfl (lv_at hl 2 rfl) ?_
  refine lv_iconst (v := 1) hx hb dX1_ofGrowerNow_17 (by decide) ?_
  refine lv_icmp_ne (tgt := 33) hx hb dX1_ofGrowerNow_18 (by decide) (fun _ => ?_) (fun h9 => absurd h9 (by decide))
  refine lv_iload_n hx hb dX1_ofGrowerNow_33 rfl (lv_at hl 2 rfl) ?_
  refine lv_iconst (v := 2) hx hb dX1_ofGrowerNow_34 (by decide) ?_
  refine lv_icmp_ne (tgt := 50) hx hb dX1_ofGrowerNow_35 (by decide) (fun h9 => absurd rfl h9) (fun _ => ?_)
  refine lv_aload_n hx hb dX1_ofGrowerNow_38 rfl (lv_at hl 0 rfl) ?_
  refine mget fx tfX1 h_x 0 (by decide) q209 (fun _ h => h) (v := .ref (la.1 0 0)) rfl dX1_ofGrowerNow_39 ?_
  refine mgetN fx tfX2 (cw.w hw) 5 (by decide) q131 (fun _ h => h) (v := .ref (la.1 0 6)) rfl dX1_ofGrowerNow_42 ?_
  refine lv_iload_n hx hb dX1_ofGrowerNow_45 rfl (lv_at hl 1 rfl) ?_
  refine miald fx (cw.ar2 hw) i rfl hi (by decide) dX1_ofGrowerNow_46 ?_
  refine lv_goto (tgt := 56) hx hb dX1_ofGrowerNow_47 (by decide) ?_
  exact ri hx hb hr hlocks hS (⟨hH.symm, rfl⟩) ⟨(Nat.le_of_ble_eq_true rfl), (Nat.le_of_ble_eq_true rfl)⟩ dX1_ofGrowerNow_56

set_option maxHeartbeats 4000000 in
theorem m_X_ofGrowerNow_3 (l : Launch) (g : GT) (ax ap : Nat) (la : LT) (sc : Nat → Int32) (sw : Int64) (ar fd tr ld : Nat → Nat → Int32) (n : CN) (xi : Nat → Int32) (sm : Int64) (pd : Nat → Int32) (i : Nat) (hi : i < 4) : Cn l g yX1_ofGrowerNow cX1_ofGrowerNow 3 ((some .int)) 3 0 0 [.ref ax, .int (nI i), .int 3] (fun _ => False) (fun H => xw g (bA g) ax ap la (sc, sw, ar, fd, tr, ld, n) xi sm pd H) (fun Hp rv Hq => Hp = Hq ∧ rv = some (.int (pd i))) := by
  refine Cn.start (plainFor_of_name (by decide +kernel)) (Nat.le_of_ble_eq_true rfl) ?_
  intro p ev s m below meth c ls H locs hH hx hb hr hts hown hlocks hml hnm hK hP hS hl
  have hxw := hP
  obtain ⟨hw, h_x, h_p, inx, inp, nxp, nfx, nfp⟩ := hxw
  have fx : Fx p s m ([.ref ax, .int (nI i), .int 3] : List Value).toArray c cX1_ofGrowerNow RX1 g (fun _ => False) 3 := ⟨hx, hb, hts, hown, hK, fun _ h => h.elim, hml⟩
  have hl : lv_has ls 3 [(0, .ref ax), (1, .int (nI i)), (2, .int 3)] := hl
  refine lv_iload_n hx hb dX1_ofGrowerNow_0 rfl (lv_at hl 2 rfl) ?_
  refine lv_if_ne (tgt := 16) hx hb dX1_ofGrowerNow_1 (by decide) (fun _ => ?_) (fun h9 => absurd h9 (by decide))
  refine lv_iload_n hx hb dX1_ofGrowerNow_16 rfl (lv_at hl 2 rfl) ?_
  refine lv_iconst (v := 1) hx hb dX1_ofGrowerNow_17 (by decide) ?_
  refine lv_icmp_ne (tgt := 33) hx hb dX1_ofGrowerNow_18 (by decide) (fun _ => ?_) (fun h9 => absurd h9 (by decide))
  refine lv_iload_n hx hb dX1_ofGrowerNow_33 rfl (lv_at hl 2 rfl) ?_
  refine lv_iconst (v := 2) hx hb dX1_ofGrowerNow_34 (by decide) ?_
  refine lv_icmp_ne (tgt := 50) hx hb dX1_ofGrowerNow_35 (by decide) (fun _ => ?_) (fun h9 => absurd h9 (by decide))
  refine lv_aload_n hx hb dX1_ofGrowerNow_50 rfl (lv_at hl 0 rfl) ?_
  refine mget fx tfX1 h_x 1 (by decide) q210 (fun _ h => h) (v := .ref ap) rfl dX1_ofGrowerNow_51 ?_
  refine lv_iload_n hx hb dX1_ofGrowerNow_54 rfl (lv_at hl 1 rfl) ?_
  refine miald fx h_p i rfl hi (by decide) dX1_ofGrowerNow_55 ?_
  exact ri hx hb hr hlocks hS (⟨hH.symm, rfl⟩) ⟨(Nat.le_of_ble_eq_true rfl), (Nat.le_of_ble_eq_true rfl)⟩ dX1_ofGrowerNow_56

theorem m_X_ofGrowerNow (l : Launch) (g : GT) (ax ap : Nat) (la : LT) (sc : Nat → Int32) (sw : Int64) (ar fd tr ld : Nat → Nat → Int32) (n : CN) (xi : Nat → Int32) (sm : Int64) (pd : Nat → Int32) (i : Nat) (hi : i < 4) (q : Nat) (hq : q < 4) : Cn l g yX1_ofGrowerNow cX1_ofGrowerNow 3 ((some .int)) 3 0 0 [.ref ax, .int (nI i), .int (nI q)] (fun _ => False) (fun H => xw g (bA g) ax ap la (sc, sw, ar, fd, tr, ld, n) xi sm pd H) (fun Hp rv Hq => Hp = Hq ∧ rv = some (.int (cOfG ar pd i q))) :=
  match q, hq with
  | 0, _ => m_X_ofGrowerNow_0 l g ax ap la sc sw ar fd tr ld n xi sm pd i hi
  | 1, _ => m_X_ofGrowerNow_1 l g ax ap la sc sw ar fd tr ld n xi sm pd i hi
  | 2, _ => m_X_ofGrowerNow_2 l g ax ap la sc sw ar fd tr ld n xi sm pd i hi
  | 3, _ => m_X_ofGrowerNow_3 l g ax ap la sc sw ar fd tr ld n xi sm pd i hi
  | q + 4, hq => absurd hq (by omega)
def cMany (sc : Nat → Int32) (ld : Nat → Nat → Int32) (n : CN) (xi : Nat → Int32) (q : Nat) : Int32 := match q with | 0 => sc 0 | 1 => nI (n 0) | 2 => nI (n 1) | 3 => nI (n 2) | 4 => cInYard ld (n 2) | 5 => sc 2 | 6 => sc 5 | 7 => sc 6 | 8 => sc 10 | 9 => xi 0 | 10 => xi 1 | 11 => xi 2 | 12 => xi 3 | 13 => xi 4 | 14 => xi 5 | 15 => sc 12 | 16 => sc 13 | 17 => sc 14 | 18 => sc 11 | _ => xi 6
set_option maxHeartbeats 4000000 in
theorem m_X_manyNow_0 (l : Launch) (g : GT) (ax ap : Nat) (la : LT) (sc : Nat → Int32) (sw : Int64) (ar fd tr ld : Nat → Nat → Int32) (n : CN) (xi : Nat → Int32) (sm : Int64) (pd : Nat → Int32) (hn : cN n) : Cn l g yX1_manyNow cX1_manyNow 2 ((some .int)) 4 0 0 [.ref ax, .int 0] (fun _ => False) (fun H => xw g (bA g) ax ap la (sc, sw, ar, fd, tr, ld, n) xi sm pd H) (fun Hp rv Hq => Hp = Hq ∧ rv = some (.int (sc 0))) := by
  refine Cn.start (plainFor_of_name (by decide +kernel)) (Nat.le_of_ble_eq_true rfl) ?_
  intro p ev s m below meth c ls H locs hH hx hb hr hts hown hlocks hml hnm hK hP hS hl
  have hxw := hP
  obtain ⟨hw, h_x, h_p, inx, inp, nxp, nfx, nfp⟩ := hxw
  have fx : Fx p s m ([.ref ax, .int 0] : List Value).toArray c cX1_manyNow RX1 g (fun _ => False) 2 := ⟨hx, hb, hts, hown, hK, fun _ h => h.elim, hml⟩
  have hl : lv_has ls 2 [(0, .ref ax), (1, .int 0)] := hl
  refine lv_iload_n hx hb dX1_manyNow_0 rfl (lv_at hl 1 rfl) ?_
  refine lv_tableIn (off := 91) (tgt := 92) hx hb dX1_manyNow_1 (by decide) (by decide) (by decide) (by decide) ?_
  refine lv_aload_n hx hb dX1_manyNow_92 rfl (lv_at hl 0 rfl) ?_
  refine mget fx tfX1 h_x 0 (by decide) q209 (fun _ h => h) (v := .ref (la.1 0 0)) rfl dX1_manyNow_93 ?_
  refine mgetN fx tfX2 (cw.w hw) 6 (by decide) q133 (fun _ h => h) (v := .int (sc 0)) rfl dX1_manyNow_96 ?_
  exact ri hx hb hr hlocks hS (⟨hH.symm, rfl⟩) ⟨(Nat.le_of_ble_eq_true rfl), (Nat.le_of_ble_eq_true rfl)⟩ dX1_manyNow_99

set_option maxHeartbeats 4000000 in
theorem m_X_manyNow_1 (l : Launch) (g : GT) (ax ap : Nat) (la : LT) (sc : Nat → Int32) (sw : Int64) (ar fd tr ld : Nat → Nat → Int32) (n : CN) (xi : Nat → Int32) (sm : Int64) (pd : Nat → Int32) (hn : cN n) : Cn l g yX1_manyNow cX1_manyNow 2 ((some .int)) 4 0 0 [.ref ax, .int 1] (fun _ => False) (fun H => xw g (bA g) ax ap la (sc, sw, ar, fd, tr, ld, n) xi sm pd H) (fun Hp rv Hq => Hp = Hq ∧ rv = some (.int (nI (n 0)))) := by
  refine Cn.start (plainFor_of_name (by decide +kernel)) (Nat.le_of_ble_eq_true rfl) ?_
  intro p ev s m below meth c ls H locs hH hx hb hr hts hown hlocks hml hnm hK hP hS hl
  have hxw := hP
  obtain ⟨hw, h_x, h_p, inx, inp, nxp, nfx, nfp⟩ := hxw
  have fx : Fx p s m ([.ref ax, .int 1] : List Value).toArray c cX1_manyNow RX1 g (fun _ => False) 2 := ⟨hx, hb, hts, hown, hK, fun _ h => h.elim, hml⟩
  have hl : lv_has ls 2 [(0, .ref ax), (1, .int 1)] := hl
  refine lv_iload_n hx hb dX1_manyNow_0 rfl (lv_at hl 1 rfl) ?_
  refine lv_tableIn (off := 99) (tgt := 100) hx hb dX1_manyNow_1 (by decide) (by decide) (by decide) (by decide) ?_
  refine lv_aload_n hx hb dX1_manyNow_100 rfl (lv_at hl 0 rfl) ?_
  refine mget fx tfX1 h_x 0 (by decide) q209 (fun _ h => h) (v := .ref (la.1 0 0)) rfl dX1_manyNow_101 ?_
  refine mgetN fx tfX2 (cw.w hw) 0 (by decide) q121 (fun _ h => h) (v := .ref (la.1 0 1)) rfl dX1_manyNow_104 ?_
  refine kV fx (m_AL_size l g (la.1 0 1) (la.1 1 0) (la.2.2 0) (nI (n 0))) (lw_V q253 q254 q255 q54 q256) hdJ2_size ⟨(Nat.le_of_ble_eq_true rfl), (Nat.le_of_ble_eq_true rfl)⟩ ⟨(Nat.le_of_ble_eq_true rfl), (Nat.le_of_ble_eq_true rfl)⟩ hl.1 hS tfJ2.2.1 (cw.al0 hw) rfl (Nat.le_of_ble_eq_true rfl) (cw.al0 hw) (fun _ h => h.elim) dX1_manyNow_107 (fun rv9 H locs hQ hz9 hk9 hS => ?_)
  obtain ⟨rfl, rfl⟩ := hQ
  refine W.eq (g2 := F0 m 110 ls [.int (nI (n 0))]) rfl ?_
  exact ri hx hb hr hlocks hS (⟨hH.symm, rfl⟩) ⟨(Nat.le_of_ble_eq_true rfl), (Nat.le_of_ble_eq_true rfl)⟩ dX1_manyNow_110

set_option maxHeartbeats 4000000 in
theorem m_X_manyNow_2 (l : Launch) (g : GT) (ax ap : Nat) (la : LT) (sc : Nat → Int32) (sw : Int64) (ar fd tr ld : Nat → Nat → Int32) (n : CN) (xi : Nat → Int32) (sm : Int64) (pd : Nat → Int32) (hn : cN n) : Cn l g yX1_manyNow cX1_manyNow 2 ((some .int)) 4 0 0 [.ref ax, .int 2] (fun _ => False) (fun H => xw g (bA g) ax ap la (sc, sw, ar, fd, tr, ld, n) xi sm pd H) (fun Hp rv Hq => Hp = Hq ∧ rv = some (.int (nI (n 1)))) := by
  refine Cn.start (plainFor_of_name (by decide +kernel)) (Nat.le_of_ble_eq_true rfl) ?_
  intro p ev s m below meth c ls H locs hH hx hb hr hts hown hlocks hml hnm hK hP hS hl
  have hxw := hP
  obtain ⟨hw, h_x, h_p, inx, inp, nxp, nfx, nfp⟩ := hxw
  have fx : Fx p s m ([.ref ax, .int 2] : List Value).toArray c cX1_manyNow RX1 g (fun _ => False) 2 := ⟨hx, hb, hts, hown, hK, fun _ h => h.elim, hml⟩
  have hl : lv_has ls 2 [(0, .ref ax), (1, .int 2)] := hl
  refine lv_iload_n hx hb dX1_manyNow_0 rfl (lv_at hl 1 rfl) ?_
  refine lv_tableIn (off := 110) (tgt := 111) hx hb dX1_manyNow_1 (by decide) (by decide) (by decide) (by decide) ?_
  refine lv_aload_n hx hb dX1_manyNow_111 rfl (lv_at hl 0 rfl) ?_
  refine mget fx tfX1 h_x 0 (by decide) q209 (fun _ h => h) (v := .ref (la.1 0 0)) rfl dX1_manyNow_112 ?_
  refine mgetN fx tfX2 (cw.w hw) 1 (by decide) q123 (fun _ h => h) (v := .ref (la.1 0 2)) rfl dX1_manyNow_115 ?_
  refine kV fx (m_AL_size l g (la.1 0 2) (la.1 1 1) (la.2.2 1) (nI (n 1))) (lw_V q253 q254 q255 q54 q256) hdJ2_size ⟨(Nat.le_of_ble_eq_true rfl), (Nat.le_of_ble_eq_true rfl)⟩ ⟨(Nat.le_of_ble_eq_true rfl), (Nat.le_of_ble_eq_true rfl)⟩ hl.1 hS tfJ2.2.1 (cw.al1 hw) rfl (Nat.le_of_ble_eq_true rfl) (cw.al1 hw) (fun _ h => h.elim) dX1_manyNow_118 (fun rv9 H locs hQ hz9 hk9 hS => ?_)
  obtain ⟨rfl, rfl⟩ := hQ
  refine W.eq (g2 := F0 m 121 ls [.int (nI (n 1))]) rfl ?_
  exact ri hx hb hr hlocks hS (⟨hH.symm, rfl⟩) ⟨(Nat.le_of_ble_eq_true rfl), (Nat.le_of_ble_eq_true rfl)⟩ dX1_manyNow_121

set_option maxHeartbeats 4000000 in
theorem m_X_manyNow_3 (l : Launch) (g : GT) (ax ap : Nat) (la : LT) (sc : Nat → Int32) (sw : Int64) (ar fd tr ld : Nat → Nat → Int32) (n : CN) (xi : Nat → Int32) (sm : Int64) (pd : Nat → Int32) (hn : cN n) : Cn l g yX1_manyNow cX1_manyNow 2 ((some .int)) 4 0 0 [.ref ax, .int 3] (fun _ => False) (fun H => xw g (bA g) ax ap la (sc, sw, ar, fd, tr, ld, n) xi sm pd H) (fun Hp rv Hq => Hp = Hq ∧ rv = some (.int (nI (n 2)))) := by
  refine Cn.start (plainFor_of_name (by decide +kernel)) (Nat.le_of_ble_eq_true rfl) ?_
  intro p ev s m below meth c ls H locs hH hx hb hr hts hown hlocks hml hnm hK hP hS hl
  have hxw := hP
  obtain ⟨hw, h_x, h_p, inx, inp, nxp, nfx, nfp⟩ := hxw
  have fx : Fx p s m ([.ref ax, .int 3] : List Value).toArray c cX1_manyNow RX1 g (fun _ => False) 2 := ⟨hx, hb, hts, hown, hK, fun _ h => h.elim, hml⟩
  have hl : lv_has ls 2 [(0, .ref ax), (1, .int 3)] := hl
  refine lv_iload_n hx hb dX1_manyNow_0 rfl (lv_at hl 1 rfl) ?_
  refine lv_tableIn (off := 121) (tgt := 122) hx hb dX1_manyNow_1 (by decide) (by decide) (by decide) (by decide) ?_
  refine lv_aload_n hx hb dX1_manyNow_122 rfl (lv_at hl 0 rfl) ?_
  refine mget fx tfX1 h_x 0 (by decide) q209 (fun _ h => h) (v := .ref (la.1 0 0)) rfl dX1_manyNow_123 ?_
  refine mgetN fx tfX2 (cw.w hw) 2 (by decide) q125 (fun _ h => h) (v := .ref (la.1 0 3)) rfl dX1_manyNow_126 ?_
  refine kV fx (m_AL_size l g (la.1 0 3) (la.1 1 2) (la.2.2 2) (nI (n 2))) (lw_V q253 q254 q255 q54 q256) hdJ2_size ⟨(Nat.le_of_ble_eq_true rfl), (Nat.le_of_ble_eq_true rfl)⟩ ⟨(Nat.le_of_ble_eq_true rfl), (Nat.le_of_ble_eq_true rfl)⟩ hl.1 hS tfJ2.2.1 (cw.al2 hw) rfl (Nat.le_of_ble_eq_true rfl) (cw.al2 hw) (fun _ h => h.elim) dX1_manyNow_129 (fun rv9 H locs hQ hz9 hk9 hS => ?_)
  obtain ⟨rfl, rfl⟩ := hQ
  refine W.eq (g2 := F0 m 132 ls [.int (nI (n 2))]) rfl ?_
  exact ri hx hb hr hlocks hS (⟨hH.symm, rfl⟩) ⟨(Nat.le_of_ble_eq_true rfl), (Nat.le_of_ble_eq_true rfl)⟩ dX1_manyNow_132

set_option maxHeartbeats 4000000 in
theorem m_X_manyNow_4 (l : Launch) (g : GT) (ax ap : Nat) (la : LT) (sc : Nat → Int32) (sw : Int64) (ar fd tr ld : Nat → Nat → Int32) (n : CN) (xi : Nat → Int32) (sm : Int64) (pd : Nat → Int32) (hn : cN n) : Cn l g yX1_manyNow cX1_manyNow 2 ((some .int)) 4 0 0 [.ref ax, .int 4] (fun _ => False) (fun H => xw g (bA g) ax ap la (sc, sw, ar, fd, tr, ld, n) xi sm pd H) (fun Hp rv Hq => Hp = Hq ∧ rv = some (.int (cInYard ld (n 2)))) := by
  refine Cn.start (plainFor_of_name (by decide +kernel)) (Nat.le_of_ble_eq_true rfl) ?_
  intro p ev s m below meth c ls H locs hH hx hb hr hts hown hlocks hml hnm hK hP hS hl
  have hxw := hP
  obtain ⟨hw, h_x, h_p, inx, inp, nxp, nfx, nfp⟩ := hxw
  have fx : Fx p s m ([.ref ax, .int 4] : List Value).toArray c cX1_manyNow RX1 g (fun _ => False) 2 := ⟨hx, hb, hts, hown, hK, fun _ h => h.elim, hml⟩
  have hl : lv_has ls 2 [(0, .ref ax), (1, .int 4)] := hl
  refine lv_iload_n hx hb dX1_manyNow_0 rfl (lv_at hl 1 rfl) ?_
  refine lv_tableIn (off := 132) (tgt := 133) hx hb dX1_manyNow_1 (by decide) (by decide) (by decide) (by decide) ?_
  refine lv_aload_n hx hb dX1_manyNow_133 rfl (lv_at hl 0 rfl) ?_
  refine mget fx tfX1 h_x 0 (by decide) q209 (fun _ h => h) (v := .ref (la.1 0 0)) rfl dX1_manyNow_134 ?_
  refine kV fx (m_W_inYard l g la sc sw ar fd tr ld n hn) (lw_V q257 q258 q259 q51 q260) hdX2_inYard ⟨(Nat.le_of_ble_eq_true rfl), (Nat.le_of_ble_eq_true rfl)⟩ ⟨(Nat.le_of_ble_eq_true rfl), (Nat.le_of_ble_eq_true rfl)⟩ hl.1 hS tfX2.2.1 (cw.w hw) rfl (Nat.le_of_ble_eq_true rfl) hw (fun _ h => h.elim) dX1_manyNow_137 (fun rv9 H locs hQ hz9 hk9 hS => ?_)
  obtain ⟨rfl, rfl⟩ := hQ
  refine W.eq (g2 := F0 m 140 ls [.int (cInYard ld (n 2))]) rfl ?_
  exact ri hx hb hr hlocks hS (⟨hH.symm, rfl⟩) ⟨(Nat.le_of_ble_eq_true rfl), (Nat.le_of_ble_eq_true rfl)⟩ dX1_manyNow_140

set_option maxHeartbeats 4000000 in
theorem m_X_manyNow_5 (l : Launch) (g : GT) (ax ap : Nat) (la : LT) (sc : Nat → Int32) (sw : Int64) (ar fd tr ld : Nat → Nat → Int32) (n : CN) (xi : Nat → Int32) (sm : Int64) (pd : Nat → Int32) (hn : cN n) : Cn l g yX1_manyNow cX1_manyNow 2 ((some .int)) 4 0 0 [.ref ax, .int 5] (fun _ => False) (fun H => xw g (bA g) ax ap la (sc, sw, ar, fd, tr, ld, n) xi sm pd H) (fun Hp rv Hq => Hp = Hq ∧ rv = some (.int (sc 2))) := by
  refine Cn.start (plainFor_of_name (by decide +kernel)) (Nat.le_of_ble_eq_true rfl) ?_
  intro p ev s m below meth c ls H locs hH hx hb hr hts hown hlocks hml hnm hK hP hS hl
  have hxw := hP
  obtain ⟨hw, h_x, h_p, inx, inp, nxp, nfx, nfp⟩ := hxw
  have fx : Fx p s m ([.ref ax, .int 5] : List Value).toArray c cX1_manyNow RX1 g (fun _ => False) 2 := ⟨hx, hb, hts, hown, hK, fun _ h => h.elim, hml⟩
  have hl : lv_has ls 2 [(0, .ref ax), (1, .int 5)] := hl
  refine lv_iload_n hx hb dX1_manyNow_0 rfl (lv_at hl 1 rfl) ?_
  refine lv_tableIn (off := 140) (tgt := 141) hx hb dX1_manyNow_1 (by decide) (by decide) (by decide) (by decide) ?_
  refine lv_aload_n hx hb dX1_manyNow_141 rfl (lv_at hl 0 rfl) ?_
  refine mget fx tfX1 h_x 0 (by decide) q209 (fun _ h => h) (v := .ref (la.1 0 0)) rfl dX1_manyNow_142 ?_
  refine mgetN fx tfX2 (cw.w hw) 8 (by decide) q136 (fun _ h => h) (v := .int (sc 2)) rfl dX1_manyNow_145 ?_
  exact ri hx hb hr hlocks hS (⟨hH.symm, rfl⟩) ⟨(Nat.le_of_ble_eq_true rfl), (Nat.le_of_ble_eq_true rfl)⟩ dX1_manyNow_148

set_option maxHeartbeats 4000000 in
theorem m_X_manyNow_6 (l : Launch) (g : GT) (ax ap : Nat) (la : LT) (sc : Nat → Int32) (sw : Int64) (ar fd tr ld : Nat → Nat → Int32) (n : CN) (xi : Nat → Int32) (sm : Int64) (pd : Nat → Int32) (hn : cN n) : Cn l g yX1_manyNow cX1_manyNow 2 ((some .int)) 4 0 0 [.ref ax, .int 6] (fun _ => False) (fun H => xw g (bA g) ax ap la (sc, sw, ar, fd, tr, ld, n) xi sm pd H) (fun Hp rv Hq => Hp = Hq ∧ rv = some (.int (sc 5))) := by
  refine Cn.start (plainFor_of_name (by decide +kernel)) (Nat.le_of_ble_eq_true rfl) ?_
  intro p ev s m below meth c ls H locs hH hx hb hr hts hown hlocks hml hnm hK hP hS hl
  have hxw := hP
  obtain ⟨hw, h_x, h_p, inx, inp, nxp, nfx, nfp⟩ := hxw
  have fx : Fx p s m ([.ref ax, .int 6] : List Value).toArray c cX1_manyNow RX1 g (fun _ => False) 2 := ⟨hx, hb, hts, hown, hK, fun _ h => h.elim, hml⟩
  have hl : lv_has ls 2 [(0, .ref ax), (1, .int 6)] := hl
  refine lv_iload_n hx hb dX1_manyNow_0 rfl (lv_at hl 1 rfl) ?_
  refine lv_tableIn (off := 148) (tgt := 149) hx hb dX1_manyNow_1 (by decide) (by decide) (by decide) (by decide) ?_
  refine lv_aload_n hx hb dX1_manyNow_149 rfl (lv_at hl 0 rfl) ?_
  refine mget fx tfX1 h_x 0 (by decide) q209 (fun _ h => h) (v := .ref (la.1 0 0)) rfl dX1_manyNow_150 ?_
  refine mgetN fx tfX2 (cw.w hw) 11 (by decide) q142 (fun _ h => h) (v := .int (sc 5)) rfl dX1_manyNow_153 ?_
  exact ri hx hb hr hlocks hS (⟨hH.symm, rfl⟩) ⟨(Nat.le_of_ble_eq_true rfl), (Nat.le_of_ble_eq_true rfl)⟩ dX1_manyNow_156

set_option maxHeartbeats 4000000 in
theorem m_X_manyNow_7 (l : Launch) (g : GT) (ax ap : Nat) (la : LT) (sc : Nat → Int32) (sw : Int64) (ar fd tr ld : Nat → Nat → Int32) (n : CN) (xi : Nat → Int32) (sm : Int64) (pd : Nat → Int32) (hn : cN n) : Cn l g yX1_manyNow cX1_manyNow 2 ((some .int)) 4 0 0 [.ref ax, .int 7] (fun _ => False) (fun H => xw g (bA g) ax ap la (sc, sw, ar, fd, tr, ld, n) xi sm pd H) (fun Hp rv Hq => Hp = Hq ∧ rv = some (.int (sc 6))) := by
  refine Cn.start (plainFor_of_name (by decide +kernel)) (Nat.le_of_ble_eq_true rfl) ?_
  intro p ev s m below meth c ls H locs hH hx hb hr hts hown hlocks hml hnm hK hP hS hl
  have hxw := hP
  obtain ⟨hw, h_x, h_p, inx, inp, nxp, nfx, nfp⟩ := hxw
  have fx : Fx p s m ([.ref ax, .int 7] : List Value).toArray c cX1_manyNow RX1 g (fun _ => False) 2 := ⟨hx, hb, hts, hown, hK, fun _ h => h.elim, hml⟩
  have hl : lv_has ls 2 [(0, .ref ax), (1, .int 7)] := hl
  refine lv_iload_n hx hb dX1_manyNow_0 rfl (lv_at hl 1 rfl) ?_
  refine lv_tableIn (off := 156) (tgt := 157) hx hb dX1_manyNow_1 (by decide) (by decide) (by decide) (by decide) ?_
  refine lv_aload_n hx hb dX1_manyNow_157 rfl (lv_at hl 0 rfl) ?_
  refine mget fx tfX1 h_x 0 (by decide) q209 (fun _ h => h) (v := .ref (la.1 0 0)) rfl dX1_manyNow_158 ?_
  refine mgetN fx tfX2 (cw.w hw) 12 (by decide) q144 (fun _ h => h) (v := .int (sc 6)) rfl dX1_manyNow_161 ?_
  exact ri hx hb hr hlocks hS (⟨hH.symm, rfl⟩) ⟨(Nat.le_of_ble_eq_true rfl), (Nat.le_of_ble_eq_true rfl)⟩ dX1_manyNow_164

set_option maxHeartbeats 4000000 in
theorem m_X_manyNow_8 (l : Launch) (g : GT) (ax ap : Nat) (la : LT) (sc : Nat → Int32) (sw : Int64) (ar fd tr ld : Nat → Nat → Int32) (n : CN) (xi : Nat → Int32) (sm : Int64) (pd : Nat → Int32) (hn : cN n) : Cn l g yX1_manyNow cX1_manyNow 2 ((some .int)) 4 0 0 [.ref ax, .int 8] (fun _ => False) (fun H => xw g (bA g) ax ap la (sc, sw, ar, fd, tr, ld, n) xi sm pd H) (fun Hp rv Hq => Hp = Hq ∧ rv = some (.int (sc 10))) := by
  refine Cn.start (plainFor_of_name (by decide +kernel)) (Nat.le_of_ble_eq_true rfl) ?_
  intro p ev s m below meth c ls H locs hH hx hb hr hts hown hlocks hml hnm hK hP hS hl
  have hxw := hP
  obtain ⟨hw, h_x, h_p, inx, inp, nxp, nfx, nfp⟩ := hxw
  have fx : Fx p s m ([.ref ax, .int 8] : List Value).toArray c cX1_manyNow RX1 g (fun _ => False) 2 := ⟨hx, hb, hts, hown, hK, fun _ h => h.elim, hml⟩
  have hl : lv_has ls 2 [(0, .ref ax), (1, .int 8)] := hl
  refine lv_iload_n hx hb dX1_manyNow_0 rfl (lv_at hl 1 rfl) ?_
  refine lv_tableIn (off := 164) (tgt := 165) hx hb dX1_manyNow_1 (by decide) (by decide) (by decide) (by decide) ?_
  refine lv_aload_n hx hb dX1_manyNow_165 rfl (lv_at hl 0 rfl) ?_
  refine mget fx tfX1 h_x 0 (by decide) q209 (fun _ h => h) (v := .ref (la.1 0 0)) rfl dX1_manyNow_166 ?_
  refine mgetN fx tfX2 (cw.w hw) 16 (by decide) q152 (fun _ h => h) (v := .int (sc 10)) rfl dX1_manyNow_169 ?_
  exact ri hx hb hr hlocks hS (⟨hH.symm, rfl⟩) ⟨(Nat.le_of_ble_eq_true rfl), (Nat.le_of_ble_eq_true rfl)⟩ dX1_manyNow_172

set_option maxHeartbeats 4000000 in
theorem m_X_manyNow_9 (l : Launch) (g : GT) (ax ap : Nat) (la : LT) (sc : Nat → Int32) (sw : Int64) (ar fd tr ld : Nat → Nat → Int32) (n : CN) (xi : Nat → Int32) (sm : Int64) (pd : Nat → Int32) (hn : cN n) : Cn l g yX1_manyNow cX1_manyNow 2 ((some .int)) 4 0 0 [.ref ax, .int 9] (fun _ => False) (fun H => xw g (bA g) ax ap la (sc, sw, ar, fd, tr, ld, n) xi sm pd H) (fun Hp rv Hq => Hp = Hq ∧ rv = some (.int (xi 0))) := by
  refine Cn.start (plainFor_of_name (by decide +kernel)) (Nat.le_of_ble_eq_true rfl) ?_
  intro p ev s m below meth c ls H locs hH hx hb hr hts hown hlocks hml hnm hK hP hS hl
  have hxw := hP
  obtain ⟨hw, h_x, h_p, inx, inp, nxp, nfx, nfp⟩ := hxw
  have fx : Fx p s m ([.ref ax, .int 9] : List Value).toArray c cX1_manyNow RX1 g (fun _ => False) 2 := ⟨hx, hb, hts, hown, hK, fun _ h => h.elim, hml⟩
  have hl : lv_has ls 2 [(0, .ref ax), (1, .int 9)] := hl
  refine lv_iload_n hx hb dX1_manyNow_0 rfl (lv_at hl 1 rfl) ?_
  refine lv_tableIn (off := 172) (tgt := 173) hx hb dX1_manyNow_1 (by decide) (by decide) (by decide) (by decide) ?_
  refine lv_aload_n hx hb dX1_manyNow_173 rfl (lv_at hl 0 rfl) ?_
  refine mget fx tfX1 h_x 2 (by decide) q211 (fun _ h => h) (v := .int (xi 0)) rfl dX1_manyNow_174 ?_
  exact ri hx hb hr hlocks hS (⟨hH.symm, rfl⟩) ⟨(Nat.le_of_ble_eq_true rfl), (Nat.le_of_ble_eq_true rfl)⟩ dX1_manyNow_177

set_option maxHeartbeats 4000000 in
theorem m_X_manyNow_10 (l : Launch) (g : GT) (ax ap : Nat) (la : LT) (sc : Nat → Int32) (sw : Int64) (ar fd tr ld : Nat → Nat → Int32) (n : CN) (xi : Nat → Int32) (sm : Int64) (pd : Nat → Int32) (hn : cN n) : Cn l g yX1_manyNow cX1_manyNow 2 ((some .int)) 4 0 0 [.ref ax, .int 10] (fun _ => False) (fun H => xw g (bA g) ax ap la (sc, sw, ar, fd, tr, ld, n) xi sm pd H) (fun Hp rv Hq => Hp = Hq ∧ rv = some (.int (xi 1))) := by
  refine Cn.start (plainFor_of_name (by decide +kernel)) (Nat.le_of_ble_eq_true rfl) ?_
  intro p ev s m below meth c ls H locs hH hx hb hr hts hown hlocks hml hnm hK hP hS hl
  have hxw := hP
  obtain ⟨hw, h_x, h_p, inx, inp, nxp, nfx, nfp⟩ := hxw
  have fx : Fx p s m ([.ref ax, .int 10] : List Value).toArray c cX1_manyNow RX1 g (fun _ => False) 2 := ⟨hx, hb, hts, hown, hK, fun _ h => h.elim, hml⟩
  have hl : lv_has ls 2 [(0, .ref ax), (1, .int 10)] := hl
  refine lv_iload_n hx hb dX1_manyNow_0 rfl (lv_at hl 1 rfl) ?_
  refine lv_tableIn (off := 177) (tgt := 178) hx hb dX1_manyNow_1 (by decide) (by decide) (by decide) (by decide) ?_
  refine lv_aload_n hx hb dX1_manyNow_178 rfl (lv_at hl 0 rfl) ?_
  refine mget fx tfX1 h_x 3 (by decide) q212 (fun _ h => h) (v := .int (xi 1)) rfl dX1_manyNow_179 ?_
  exact ri hx hb hr hlocks hS (⟨hH.symm, rfl⟩) ⟨(Nat.le_of_ble_eq_true rfl), (Nat.le_of_ble_eq_true rfl)⟩ dX1_manyNow_182

set_option maxHeartbeats 4000000 in
theorem m_X_manyNow_11 (l : Launch) (g : GT) (ax ap : Nat) (la : LT) (sc : Nat → Int32) (sw : Int64) (ar fd tr ld : Nat → Nat → Int32) (n : CN) (xi : Nat → Int32) (sm : Int64) (pd : Nat → Int32) (hn : cN n) : Cn l g yX1_manyNow cX1_manyNow 2 ((some .int)) 4 0 0 [.ref ax, .int 11] (fun _ => False) (fun H => xw g (bA g) ax ap la (sc, sw, ar, fd, tr, ld, n) xi sm pd H) (fun Hp rv Hq => Hp = Hq ∧ rv = some (.int (xi 2))) := by
  refine Cn.start (plainFor_of_name (by decide +kernel)) (Nat.le_of_ble_eq_true rfl) ?_
  intro p ev s m below meth c ls H locs hH hx hb hr hts hown hlocks hml hnm hK hP hS hl
  have hxw := hP
  obtain ⟨hw, h_x, h_p, inx, inp, nxp, nfx, nfp⟩ := hxw
  have fx : Fx p s m ([.ref ax, .int 11] : List Value).toArray c cX1_manyNow RX1 g (fun _ => False) 2 := ⟨hx, hb, hts, hown, hK, fun _ h => h.elim, hml⟩
  have hl : lv_has ls 2 [(0, .ref ax), (1, .int 11)] := hl
  refine lv_iload_n hx hb dX1_manyNow_0 rfl (lv_at hl 1 rfl) ?_
  refine lv_tableIn (off := 182) (tgt := 183) hx hb dX1_manyNow_1 (by decide) (by decide) (by decide) (by decide) ?_
  refine lv_aload_n hx hb dX1_manyNow_183 rfl (lv_at hl 0 rfl) ?_
  refine mget fx tfX1 h_x 4 (by decide) q213 (fun _ h => h) (v := .int (xi 2)) rfl dX1_manyNow_184 ?_
  exact ri hx hb hr hlocks hS (⟨hH.symm, rfl⟩) ⟨(Nat.le_of_ble_eq_true rfl), (Nat.le_of_ble_eq_true rfl)⟩ dX1_manyNow_187

set_option maxHeartbeats 4000000 in
theorem m_X_manyNow_12 (l : Launch) (g : GT) (ax ap : Nat) (la : LT) (sc : Nat → Int32) (sw : Int64) (ar fd tr ld : Nat → Nat → Int32) (n : CN) (xi : Nat → Int32) (sm : Int64) (pd : Nat → Int32) (hn : cN n) : Cn l g yX1_manyNow cX1_manyNow 2 ((some .int)) 4 0 0 [.ref ax, .int 12] (fun _ => False) (fun H => xw g (bA g) ax ap la (sc, sw, ar, fd, tr, ld, n) xi sm pd H) (fun Hp rv Hq => Hp = Hq ∧ rv = some (.int (xi 3))) := by
  refine Cn.start (plainFor_of_name (by decide +kernel)) (Nat.le_of_ble_eq_true rfl) ?_
  intro p ev s m below meth c ls H locs hH hx hb hr hts hown hlocks hml hnm hK hP hS hl
  have hxw := hP
  obtain ⟨hw, h_x, h_p, inx, inp, nxp, nfx, nfp⟩ := hxw
  have fx : Fx p s m ([.ref ax, .int 12] : List Value).toArray c cX1_manyNow RX1 g (fun _ => False) 2 := ⟨hx, hb, hts, hown, hK, fun _ h => h.elim, hml⟩
  have hl : lv_has ls 2 [(0, .ref ax), (1, .int 12)] := hl
  refine lv_iload_n hx hb dX1_manyNow_0 rfl (lv_at hl 1 rfl) ?_
  refine lv_tableIn (off := 187) (tgt := 188) hx hb dX1_manyNow_1 (by decide) (by decide) (by decide) (by decide) ?_
  refine lv_aload_n hx hb dX1_manyNow_188 rfl (lv_at hl 0 rfl) ?_
  refine mget fx tfX1 h_x 5 (by decide) q214 (fun _ h => h) (v := .int (xi 3)) rfl dX1_manyNow_189 ?_
  exact ri hx hb hr hlocks hS (⟨hH.symm, rfl⟩) ⟨(Nat.le_of_ble_eq_true rfl), (Nat.le_of_ble_eq_true rfl)⟩ dX1_manyNow_192

set_option maxHeartbeats 4000000 in
theorem m_X_manyNow_13 (l : Launch) (g : GT) (ax ap : Nat) (la : LT) (sc : Nat → Int32) (sw : Int64) (ar fd tr ld : Nat → Nat → Int32) (n : CN) (xi : Nat → Int32) (sm : Int64) (pd : Nat → Int32) (hn : cN n) : Cn l g yX1_manyNow cX1_manyNow 2 ((some .int)) 4 0 0 [.ref ax, .int 13] (fun _ => False) (fun H => xw g (bA g) ax ap la (sc, sw, ar, fd, tr, ld, n) xi sm pd H) (fun Hp rv Hq => Hp = Hq ∧ rv = some (.int (xi 4))) := by
  refine Cn.start (plainFor_of_name (by decide +kernel)) (Nat.le_of_ble_eq_true rfl) ?_
  intro p ev s m below meth c ls H locs hH hx hb hr hts hown hlocks hml hnm hK hP hS hl
  have hxw := hP
  obtain ⟨hw, h_x, h_p, inx, inp, nxp, nfx, nfp⟩ := hxw
  have fx : Fx p s m ([.ref ax, .int 13] : List Value).toArray c cX1_manyNow RX1 g (fun _ => False) 2 := ⟨hx, hb, hts, hown, hK, fun _ h => h.elim, hml⟩
  have hl : lv_has ls 2 [(0, .ref ax), (1, .int 13)] := hl
  refine lv_iload_n hx hb dX1_manyNow_0 rfl (lv_at hl 1 rfl) ?_
  refine lv_tableIn (off := 192) (tgt := 193) hx hb dX1_manyNow_1 (by decide) (by decide) (by decide) (by decide) ?_
  refine lv_aload_n hx hb dX1_manyNow_193 rfl (lv_at hl 0 rfl) ?_
  refine mget fx tfX1 h_x 6 (by decide) q215 (fun _ h => h) (v := .int (xi 4)) rfl dX1_manyNow_194 ?_
  exact ri hx hb hr hlocks hS (⟨hH.symm, rfl⟩) ⟨(Nat.le_of_ble_eq_true rfl), (Nat.le_of_ble_eq_true rfl)⟩ dX1_manyNow_197

set_option maxHeartbeats 4000000 in
theorem m_X_manyNow_14 (l : Launch) (g : GT) (ax ap : Nat) (la : LT) (sc : Nat → Int32) (sw : Int64) (ar fd tr ld : Nat → Nat → Int32) (n : CN) (xi : Nat → Int32) (sm : Int64) (pd : Nat → Int32) (hn : cN n) : Cn l g yX1_manyNow cX1_manyNow 2 ((some .int)) 4 0 0 [.ref ax, .int 14] (fun _ => False) (fun H => xw g (bA g) ax ap la (sc, sw, ar, fd, tr, ld, n) xi sm pd H) (fun Hp rv Hq => Hp = Hq ∧ rv = some (.int (xi 5))) := by
  refine Cn.start (plainFor_of_name (by decide +kernel)) (Nat.le_of_ble_eq_true rfl) ?_
  intro p ev s m below meth c ls H locs hH hx hb hr hts hown hlocks hml hnm hK hP hS hl
  have hxw := hP
  obtain ⟨hw, h_x, h_p, inx, inp, nxp, nfx, nfp⟩ := hxw
  have fx : Fx p s m ([.ref ax, .int 14] : List Value).toArray c cX1_manyNow RX1 g (fun _ => False) 2 := ⟨hx, hb, hts, hown, hK, fun _ h => h.elim, hml⟩
  have hl : lv_has ls 2 [(0, .ref ax), (1, .int 14)] := hl
  refine lv_iload_n hx hb dX1_manyNow_0 rfl (lv_at hl 1 rfl) ?_
  refine lv_tableIn (off := 197) (tgt := 198) hx hb dX1_manyNow_1 (by decide) (by decide) (by decide) (by decide) ?_
  refine lv_aload_n hx hb dX1_manyNow_198 rfl (lv_at hl 0 rfl) ?_
  refine mget fx tfX1 h_x 7 (by decide) q216 (fun _ h => h) (v := .int (xi 5)) rfl dX1_manyNow_199 ?_
  exact ri hx hb hr hlocks hS (⟨hH.symm, rfl⟩) ⟨(Nat.le_of_ble_eq_true rfl), (Nat.le_of_ble_eq_true rfl)⟩ dX1_manyNow_202

set_option maxHeartbeats 4000000 in
theorem m_X_manyNow_15 (l : Launch) (g : GT) (ax ap : Nat) (la : LT) (sc : Nat → Int32) (sw : Int64) (ar fd tr ld : Nat → Nat → Int32) (n : CN) (xi : Nat → Int32) (sm : Int64) (pd : Nat → Int32) (hn : cN n) : Cn l g yX1_manyNow cX1_manyNow 2 ((some .int)) 4 0 0 [.ref ax, .int 15] (fun _ => False) (fun H => xw g (bA g) ax ap la (sc, sw, ar, fd, tr, ld, n) xi sm pd H) (fun Hp rv Hq => Hp = Hq ∧ rv = some (.int (sc 12))) := by
  refine Cn.start (plainFor_of_name (by decide +kernel)) (Nat.le_of_ble_eq_true rfl) ?_
  intro p ev s m below meth c ls H locs hH hx hb hr hts hown hlocks hml hnm hK hP hS hl
  have hxw := hP
  obtain ⟨hw, h_x, h_p, inx, inp, nxp, nfx, nfp⟩ := hxw
  have fx : Fx p s m ([.ref ax, .int 15] : List Value).toArray c cX1_manyNow RX1 g (fun _ => False) 2 := ⟨hx, hb, hts, hown, hK, fun _ h => h.elim, hml⟩
  have hl : lv_has ls 2 [(0, .ref ax), (1, .int 15)] := hl
  refine lv_iload_n hx hb dX1_manyNow_0 rfl (lv_at hl 1 rfl) ?_
  refine lv_tableIn (off := 202) (tgt := 203) hx hb dX1_manyNow_1 (by decide) (by decide) (by decide) (by decide) ?_
  refine lv_aload_n hx hb dX1_manyNow_203 rfl (lv_at hl 0 rfl) ?_
  refine mget fx tfX1 h_x 0 (by decide) q209 (fun _ h => h) (v := .ref (la.1 0 0)) rfl dX1_manyNow_204 ?_
  refine mgetN fx tfX2 (cw.w hw) 18 (by decide) q156 (fun _ h => h) (v := .int (sc 12)) rfl dX1_manyNow_207 ?_
  exact ri hx hb hr hlocks hS (⟨hH.symm, rfl⟩) ⟨(Nat.le_of_ble_eq_true rfl), (Nat.le_of_ble_eq_true rfl)⟩ dX1_manyNow_210

set_option maxHeartbeats 4000000 in
theorem m_X_manyNow_16 (l : Launch) (g : GT) (ax ap : Nat) (la : LT) (sc : Nat → Int32) (sw : Int64) (ar fd tr ld : Nat → Nat → Int32) (n : CN) (xi : Nat → Int32) (sm : Int64) (pd : Nat → Int32) (hn : cN n) : Cn l g yX1_manyNow cX1_manyNow 2 ((some .int)) 4 0 0 [.ref ax, .int 16] (fun _ => False) (fun H => xw g (bA g) ax ap la (sc, sw, ar, fd, tr, ld, n) xi sm pd H) (fun Hp rv Hq => Hp = Hq ∧ rv = some (.int (sc 13))) := by
  refine Cn.start (plainFor_of_name (by decide +kernel)) (Nat.le_of_ble_eq_true rfl) ?_
  intro p ev s m below meth c ls H locs hH hx hb hr hts hown hlocks hml hnm hK hP hS hl
  have hxw := hP
  obtain ⟨hw, h_x, h_p, inx, inp, nxp, nfx, nfp⟩ := hxw
  have fx : Fx p s m ([.ref ax, .int 16] : List Value).toArray c cX1_manyNow RX1 g (fun _ => False) 2 := ⟨hx, hb, hts, hown, hK, fun _ h => h.elim, hml⟩
  have hl : lv_has ls 2 [(0, .ref ax), (1, .int 16)] := hl
  refine lv_iload_n hx hb dX1_manyNow_0 rfl (lv_at hl 1 rfl) ?_
  refine lv_tableIn (off := 210) (tgt := 211) hx hb dX1_manyNow_1 (by decide) (by decide) (by decide) (by decide) ?_
  refine lv_aload_n hx hb dX1_manyNow_211 rfl (lv_at hl 0 rfl) ?_
  refine mget fx tfX1 h_x 0 (by decide) q209 (fun _ h => h) (v := .ref (la.1 0 0)) rfl dX1_manyNow_212 ?_
  refine mgetN fx tfX2 (cw.w hw) 19 (by decide) q158 (fun _ h => h) (v := .int (sc 13)) rfl dX1_manyNow_215 ?_
  exact ri hx hb hr hlocks hS (⟨hH.symm, rfl⟩) ⟨(Nat.le_of_ble_eq_true rfl), (Nat.le_of_ble_eq_true rfl)⟩ dX1_manyNow_218

set_option maxHeartbeats 4000000 in
theorem m_X_manyNow_17 (l : Launch) (g : GT) (ax ap : Nat) (la : LT) (sc : Nat → Int32) (sw : Int64) (ar fd tr ld : Nat → Nat → Int32) (n : CN) (xi : Nat → Int32) (sm : Int64) (pd : Nat → Int32) (hn : cN n) : Cn l g yX1_manyNow cX1_manyNow 2 ((some .int)) 4 0 0 [.ref ax, .int 17] (fun _ => False) (fun H => xw g (bA g) ax ap la (sc, sw, ar, fd, tr, ld, n) xi sm pd H) (fun Hp rv Hq => Hp = Hq ∧ rv = some (.int (sc 14))) := by
  refine Cn.start (plainFor_of_name (by decide +kernel)) (Nat.le_of_ble_eq_true rfl) ?_
  intro p ev s m below meth c ls H locs hH hx hb hr hts hown hlocks hml hnm hK hP hS hl
  have hxw := hP
  obtain ⟨hw, h_x, h_p, inx, inp, nxp, nfx, nfp⟩ := hxw
  have fx : Fx p s m ([.ref ax, .int 17] : List Value).toArray c cX1_manyNow RX1 g (fun _ => False) 2 := ⟨hx, hb, hts, hown, hK, fun _ h => h.elim, hml⟩
  have hl : lv_has ls 2 [(0, .ref ax), (1, .int 17)] := hl
  refine lv_iload_n hx hb dX1_manyNow_0 rfl (lv_at hl 1 rfl) ?_
  refine lv_tableIn (off := 218) (tgt := 219) hx hb dX1_manyNow_1 (by decide) (by decide) (by decide) (by decide) ?_
  refine lv_aload_n hx hb dX1_manyNow_219 rfl (lv_at hl 0 rfl) ?_
  refine mget fx tfX1 h_x 0 (by decide) q209 (fun _ h => h) (v := .ref (la.1 0 0)) rfl dX1_manyNow_220 ?_
  refine mgetN fx tfX2 (cw.w hw) 20 (by decide) q160 (fun _ h => h) (v := .int (sc 14)) rfl dX1_manyNow_223 ?_
  exact ri hx hb hr hlocks hS (⟨hH.symm, rfl⟩) ⟨(Nat.le_of_ble_eq_true rfl), (Nat.le_of_ble_eq_true rfl)⟩ dX1_manyNow_226

set_option maxHeartbeats 4000000 in
theorem m_X_manyNow_18 (l : Launch) (g : GT) (ax ap : Nat) (la : LT) (sc : Nat → Int32) (sw : Int64) (ar fd tr ld : Nat → Nat → Int32) (n : CN) (xi : Nat → Int32) (sm : Int64) (pd : Nat → Int32) (hn : cN n) : Cn l g yX1_manyNow cX1_manyNow 2 ((some .int)) 4 0 0 [.ref ax, .int 18] (fun _ => False) (fun H => xw g (bA g) ax ap la (sc, sw, ar, fd, tr, ld, n) xi sm pd H) (fun Hp rv Hq => Hp = Hq ∧ rv = some (.int (sc 11))) := by
  refine Cn.start (plainFor_of_name (by decide +kernel)) (Nat.le_of_ble_eq_true rfl) ?_
  intro p ev s m below meth c ls H locs hH hx hb hr hts hown hlocks hml hnm hK hP hS hl
  have hxw := hP
  obtain ⟨hw, h_x, h_p, inx, inp, nxp, nfx, nfp⟩ := hxw
  have fx : Fx p s m ([.ref ax, .int 18] : List Value).toArray c cX1_manyNow RX1 g (fun _ => False) 2 := ⟨hx, hb, hts, hown, hK, fun _ h => h.elim, hml⟩
  have hl : lv_has ls 2 [(0, .ref ax), (1, .int 18)] := hl
  refine lv_iload_n hx hb dX1_manyNow_0 rfl (lv_at hl 1 rfl) ?_
  refine lv_tableIn (off := 226) (tgt := 227) hx hb dX1_manyNow_1 (by decide) (by decide) (by decide) (by decide) ?_
  refine lv_aload_n hx hb dX1_manyNow_227 rfl (lv_at hl 0 rfl) ?_
  refine mget fx tfX1 h_x 0 (by decide) q209 (fun _ h => h) (v := .ref (la.1 0 0)) rfl dX1_manyNow_228 ?_
  refine mgetN fx tfX2 (cw.w hw) 17 (by decide) q154 (fun _ h => h) (v := .int (sc 11)) rfl dX1_manyNow_231 ?_
  exact ri hx hb hr hlocks hS (⟨hH.symm, rfl⟩) ⟨(Nat.le_of_ble_eq_true rfl), (Nat.le_of_ble_eq_true rfl)⟩ dX1_manyNow_234

set_option maxHeartbeats 4000000 in
theorem m_X_manyNow_19 (l : Launch) (g : GT) (ax ap : Nat) (la : LT) (sc : Nat → Int32) (sw : Int64) (ar fd tr ld : Nat → Nat → Int32) (n : CN) (xi : Nat → Int32) (sm : Int64) (pd : Nat → Int32) (hn : cN n) : Cn l g yX1_manyNow cX1_manyNow 2 ((some .int)) 4 0 0 [.ref ax, .int 19] (fun _ => False) (fun H => xw g (bA g) ax ap la (sc, sw, ar, fd, tr, ld, n) xi sm pd H) (fun Hp rv Hq => Hp = Hq ∧ rv = some (.int (xi 6))) := by
  refine Cn.start (plainFor_of_name (by decide +kernel)) (Nat.le_of_ble_eq_true rfl) ?_
  intro p ev s m below meth c ls H locs hH hx hb hr hts hown hlocks hml hnm hK hP hS hl
  have hxw := hP
  obtain ⟨hw, h_x, h_p, inx, inp, nxp, nfx, nfp⟩ := hxw
  have fx : Fx p s m ([.ref ax, .int 19] : List Value).toArray c cX1_manyNow RX1 g (fun _ => False) 2 := ⟨hx, hb, hts, hown, hK, fun _ h => h.elim, hml⟩
  have hl : lv_has ls 2 [(0, .ref ax), (1, .int 19)] := hl
  refine lv_iload_n hx hb dX1_manyNow_0 rfl (lv_at hl 1 rfl) ?_
  refine lv_tableOut (tgt := 235) hx hb dX1_manyNow_1 (by decide) (by decide) ?_
  refine lv_aload_n hx hb dX1_manyNow_235 rfl (lv_at hl 0 rfl) ?_
  refine mget fx tfX1 h_x 8 (by decide) q217 (fun _ h => h) (v := .int (xi 6)) rfl dX1_manyNow_236 ?_
  exact ri hx hb hr hlocks hS (⟨hH.symm, rfl⟩) ⟨(Nat.le_of_ble_eq_true rfl), (Nat.le_of_ble_eq_true rfl)⟩ dX1_manyNow_239

theorem m_X_manyNow (l : Launch) (g : GT) (ax ap : Nat) (la : LT) (sc : Nat → Int32) (sw : Int64) (ar fd tr ld : Nat → Nat → Int32) (n : CN) (xi : Nat → Int32) (sm : Int64) (pd : Nat → Int32) (hn : cN n) (q : Nat) (hq : q < 20) : Cn l g yX1_manyNow cX1_manyNow 2 ((some .int)) 4 0 0 [.ref ax, .int (nI q)] (fun _ => False) (fun H => xw g (bA g) ax ap la (sc, sw, ar, fd, tr, ld, n) xi sm pd H) (fun Hp rv Hq => Hp = Hq ∧ rv = some (.int (cMany sc ld n xi q))) :=
  match q, hq with
  | 0, _ => m_X_manyNow_0 l g ax ap la sc sw ar fd tr ld n xi sm pd hn
  | 1, _ => m_X_manyNow_1 l g ax ap la sc sw ar fd tr ld n xi sm pd hn
  | 2, _ => m_X_manyNow_2 l g ax ap la sc sw ar fd tr ld n xi sm pd hn
  | 3, _ => m_X_manyNow_3 l g ax ap la sc sw ar fd tr ld n xi sm pd hn
  | 4, _ => m_X_manyNow_4 l g ax ap la sc sw ar fd tr ld n xi sm pd hn
  | 5, _ => m_X_manyNow_5 l g ax ap la sc sw ar fd tr ld n xi sm pd hn
  | 6, _ => m_X_manyNow_6 l g ax ap la sc sw ar fd tr ld n xi sm pd hn
  | 7, _ => m_X_manyNow_7 l g ax ap la sc sw ar fd tr ld n xi sm pd hn
  | 8, _ => m_X_manyNow_8 l g ax ap la sc sw ar fd tr ld n xi sm pd hn
  | 9, _ => m_X_manyNow_9 l g ax ap la sc sw ar fd tr ld n xi sm pd hn
  | 10, _ => m_X_manyNow_10 l g ax ap la sc sw ar fd tr ld n xi sm pd hn
  | 11, _ => m_X_manyNow_11 l g ax ap la sc sw ar fd tr ld n xi sm pd hn
  | 12, _ => m_X_manyNow_12 l g ax ap la sc sw ar fd tr ld n xi sm pd hn
  | 13, _ => m_X_manyNow_13 l g ax ap la sc sw ar fd tr ld n xi sm pd hn
  | 14, _ => m_X_manyNow_14 l g ax ap la sc sw ar fd tr ld n xi sm pd hn
  | 15, _ => m_X_manyNow_15 l g ax ap la sc sw ar fd tr ld n xi sm pd hn
  | 16, _ => m_X_manyNow_16 l g ax ap la sc sw ar fd tr ld n xi sm pd hn
  | 17, _ => m_X_manyNow_17 l g ax ap la sc sw ar fd tr ld n xi sm pd hn
  | 18, _ => m_X_manyNow_18 l g ax ap la sc sw ar fd tr ld n xi sm pd hn
  | 19, _ => m_X_manyNow_19 l g ax ap la sc sw ar fd tr ld n xi sm pd hn
  | q + 20, hq => absurd hq (by omega)
set_option maxHeartbeats 4000000 in
theorem m_X_ofField (l : Launch) (g : GT) (ax ap : Nat) (la : LT) (sc : Nat → Int32) (sw : Int64) (ar fd tr ld : Nat → Nat → Int32) (n : CN) (xi : Nat → Int32) (sm : Int64) (pd : Nat → Int32) (hn : cN n) (i q : Nat) (hi : i < n 0) (hq : q < 12) (hok : ¬ isFromF 0 11 (nI q) = 0) : Cn l g yX1_ofField cX1_ofField 3 ((some .int)) 5 0 0 [.ref ax, .int (nI i), .int (nI q)] (fun _ => False) (fun H => xw g (bA g) ax ap la (sc, sw, ar, fd, tr, ld, n) xi sm pd H) (fun Hp rv Hq => Hp = Hq ∧ rv = some (.int (cOfF fd ld (n 2) i q))) := by
  refine Cn.start (plainFor_of_name (by decide +kernel)) (Nat.le_of_ble_eq_true rfl) ?_
  intro p ev s m below meth c ls H locs hH hx hb hr hts hown hlocks hml hnm hK hP hS hl
  have hxw := hP
  obtain ⟨hw, h_x, h_p, inx, inp, nxp, nfx, nfp⟩ := hxw
  have fx : Fx p s m ([.ref ax, .int (nI i), .int (nI q)] : List Value).toArray c cX1_ofField RX1 g (fun _ => False) 3 := ⟨hx, hb, hts, hown, hK, fun _ h => h.elim, hml⟩
  have hl : lv_has ls 3 [(0, .ref ax), (1, .int (nI i)), (2, .int (nI q))] := hl
  refine lv_aload_n hx hb dX1_ofField_0 rfl (lv_at hl 0 rfl) ?_
  refine lv_iload_n hx hb dX1_ofField_1 rfl (lv_at hl 1 rfl) ?_
  refine kV fx (m_X_fieldAt l g ax ap la sc sw ar fd tr ld n xi sm pd hn i hi) (lw_V q775 q777 qs23 q50 q778) hdX1_fieldAt ⟨(Nat.le_of_ble_eq_true rfl), (Nat.le_of_ble_eq_true rfl)⟩ ⟨(Nat.le_of_ble_eq_true rfl), (Nat.le_of_ble_eq_true rfl)⟩ hl.1 hS tfX1.2.1 h_x rfl (Nat.le_of_ble_eq_true rfl) (⟨hw, h_x, h_p, inx, inp, nxp, nfx, nfp⟩) (fun _ h => h.elim) dX1_ofField_2 (fun rv9 H locs hQ hz9 hk9 hS => ?_)
  obtain ⟨rfl, rfl⟩ := hQ
  refine W.eq (g2 := F0 m 5 ls [.ref (la.1 2 i)]) rfl ?_
  refine lv_pop hx hb dX1_ofField_5 rfl ?_
  refine lv_iconst (v := 0) hx hb dX1_ofField_6 (by decide) ?_
  refine lv_bipush (v := 11) hx hb dX1_ofField_7 (by decide) ?_
  refine lv_iload_n hx hb dX1_ofField_9 rfl (lv_at hl 2 rfl) ?_
  refine kS fx (m_isFrom l g 0 11 (nI q)) (lw_S q720 q721 q50 q722) hdX1_isFrom ⟨(Nat.le_of_ble_eq_true rfl), (Nat.le_of_ble_eq_true rfl)⟩ ⟨(Nat.le_of_ble_eq_true rfl), (Nat.le_of_ble_eq_true rfl)⟩ hl.1 hS rfl (Nat.le_of_ble_eq_true rfl) trivial (fun _ h => h.elim) dX1_ofField_10 (fun rv9 H locs hQ hz9 hk9 hS => ?_)
  obtain ⟨rfl, rfl⟩ := hQ
  refine W.eq (g2 := F0 m 13 ls [.int (isFromF 0 11 (nI q))]) rfl ?_
  refine kS fx (m_require l g (isFromF 0 11 (nI q)) hok) (lw_S q723 q724 q50 q725) hdX1_require ⟨(Nat.le_of_ble_eq_true rfl), (Nat.le_of_ble_eq_true rfl)⟩ ⟨(Nat.le_of_ble_eq_true rfl), (Nat.le_of_ble_eq_true rfl)⟩ hl.1 hS rfl (Nat.le_of_ble_eq_true rfl) trivial (fun _ h => h.elim) dX1_ofField_13 (fun rv9 H locs hQ hz9 hk9 hS => ?_)
  obtain ⟨rfl, rfl⟩ := hQ
  refine W.eq (g2 := F0 m 16 ls []) rfl ?_
  refine lv_aload_n hx hb dX1_ofField_16 rfl (lv_at hl 0 rfl) ?_
  refine lv_iload_n hx hb dX1_ofField_17 rfl (lv_at hl 1 rfl) ?_
  refine lv_iload_n hx hb dX1_ofField_18 rfl (lv_at hl 2 rfl) ?_
  refine kV fx (m_X_ofFieldNow l g ax ap la sc sw ar fd tr ld n xi sm pd hn i hi q hq) (lw_V q282 q284 qs2 q50 q285) hdX1_ofFieldNow ⟨(Nat.le_of_ble_eq_true rfl), (Nat.le_of_ble_eq_true rfl)⟩ ⟨(Nat.le_of_ble_eq_true rfl), (Nat.le_of_ble_eq_true rfl)⟩ hl.1 hS tfX1.2.1 h_x rfl (Nat.le_of_ble_eq_true rfl) (⟨hw, h_x, h_p, inx, inp, nxp, nfx, nfp⟩) (fun _ h => h.elim) dX1_ofField_19 (fun rv9 H locs hQ hz9 hk9 hS => ?_)
  obtain ⟨rfl, rfl⟩ := hQ
  refine W.eq (g2 := F0 m 22 ls [.int (cOfF fd ld (n 2) i q)]) rfl ?_
  exact ri hx hb hr hlocks hS (⟨hH.symm, rfl⟩) ⟨(Nat.le_of_ble_eq_true rfl), (Nat.le_of_ble_eq_true rfl)⟩ dX1_ofField_22

set_option maxHeartbeats 4000000 in
theorem m_X_ofLoad (l : Launch) (g : GT) (ax ap : Nat) (la : LT) (sc : Nat → Int32) (sw : Int64) (ar fd tr ld : Nat → Nat → Int32) (n : CN) (xi : Nat → Int32) (sm : Int64) (pd : Nat → Int32) (hn : cN n) (i q : Nat) (hi : i < n 2) (hq : q < 7) (hok : ¬ isFromF 0 6 (nI q) = 0) : Cn l g yX1_ofLoad cX1_ofLoad 3 ((some .int)) 4 0 0 [.ref ax, .int (nI i), .int (nI q)] (fun _ => False) (fun H => xw g (bA g) ax ap la (sc, sw, ar, fd, tr, ld, n) xi sm pd H) (fun Hp rv Hq => Hp = Hq ∧ rv = some (.int (cOfL ld i q))) := by
  refine Cn.start (plainFor_of_name (by decide +kernel)) (Nat.le_of_ble_eq_true rfl) ?_
  intro p ev s m below meth c ls H locs hH hx hb hr hts hown hlocks hml hnm hK hP hS hl
  have hxw := hP
  obtain ⟨hw, h_x, h_p, inx, inp, nxp, nfx, nfp⟩ := hxw
  have fx : Fx p s m ([.ref ax, .int (nI i), .int (nI q)] : List Value).toArray c cX1_ofLoad RX1 g (fun _ => False) 3 := ⟨hx, hb, hts, hown, hK, fun _ h => h.elim, hml⟩
  have hl : lv_has ls 3 [(0, .ref ax), (1, .int (nI i)), (2, .int (nI q))] := hl
  refine lv_aload_n hx hb dX1_ofLoad_0 rfl (lv_at hl 0 rfl) ?_
  refine lv_iload_n hx hb dX1_ofLoad_1 rfl (lv_at hl 1 rfl) ?_
  refine kV fx (m_X_requireLoad l g ax ap la sc sw ar fd tr ld n xi sm pd hn i hi) (lw_V q884 q886 qs25 q50 q887) hdX1_requireLoad ⟨(Nat.le_of_ble_eq_true rfl), (Nat.le_of_ble_eq_true rfl)⟩ ⟨(Nat.le_of_ble_eq_true rfl), (Nat.le_of_ble_eq_true rfl)⟩ hl.1 hS tfX1.2.1 h_x rfl (Nat.le_of_ble_eq_true rfl) (⟨hw, h_x, h_p, inx, inp, nxp, nfx, nfp⟩) (fun _ h => h.elim) dX1_ofLoad_2 (fun rv9 H locs hQ hz9 hk9 hS => ?_)
  obtain ⟨rfl, rfl⟩ := hQ
  refine W.eq (g2 := F0 m 5 ls []) rfl ?_
  refine lv_iconst (v := 0) hx hb dX1_ofLoad_5 (by decide) ?_
  refine lv_bipush (v := 6) hx hb dX1_ofLoad_6 (by decide) ?_
  refine lv_iload_n hx hb dX1_ofLoad_8 rfl (lv_at hl 2 rfl) ?_
  refine kS fx (m_isFrom l g 0 6 (nI q)) (lw_S q720 q721 q50 q722) hdX1_isFrom ⟨(Nat.le_of_ble_eq_true rfl), (Nat.le_of_ble_eq_true rfl)⟩ ⟨(Nat.le_of_ble_eq_true rfl), (Nat.le_of_ble_eq_true rfl)⟩ hl.1 hS rfl (Nat.le_of_ble_eq_true rfl) trivial (fun _ h => h.elim) dX1_ofLoad_9 (fun rv9 H locs hQ hz9 hk9 hS => ?_)
  obtain ⟨rfl, rfl⟩ := hQ
  refine W.eq (g2 := F0 m 12 ls [.int (isFromF 0 6 (nI q))]) rfl ?_
  refine kS fx (m_require l g (isFromF 0 6 (nI q)) hok) (lw_S q723 q724 q50 q725) hdX1_require ⟨(Nat.le_of_ble_eq_true rfl), (Nat.le_of_ble_eq_true rfl)⟩ ⟨(Nat.le_of_ble_eq_true rfl), (Nat.le_of_ble_eq_true rfl)⟩ hl.1 hS rfl (Nat.le_of_ble_eq_true rfl) trivial (fun _ h => h.elim) dX1_ofLoad_12 (fun rv9 H locs hQ hz9 hk9 hS => ?_)
  obtain ⟨rfl, rfl⟩ := hQ
  refine W.eq (g2 := F0 m 15 ls []) rfl ?_
  refine lv_aload_n hx hb dX1_ofLoad_15 rfl (lv_at hl 0 rfl) ?_
  refine lv_iload_n hx hb dX1_ofLoad_16 rfl (lv_at hl 1 rfl) ?_
  refine lv_iload_n hx hb dX1_ofLoad_17 rfl (lv_at hl 2 rfl) ?_
  refine kV fx (m_X_ofLoadNow l g ax ap la sc sw ar fd tr ld n xi sm pd hn i hi q hq) (lw_V q442 q444 qs9 q50 q445) hdX1_ofLoadNow ⟨(Nat.le_of_ble_eq_true rfl), (Nat.le_of_ble_eq_true rfl)⟩ ⟨(Nat.le_of_ble_eq_true rfl), (Nat.le_of_ble_eq_true rfl)⟩ hl.1 hS tfX1.2.1 h_x rfl (Nat.le_of_ble_eq_true rfl) (⟨hw, h_x, h_p, inx, inp, nxp, nfx, nfp⟩) (fun _ h => h.elim) dX1_ofLoad_18 (fun rv9 H locs hQ hz9 hk9 hS => ?_)
  obtain ⟨rfl, rfl⟩ := hQ
  refine W.eq (g2 := F0 m 21 ls [.int (cOfL ld i q)]) rfl ?_
  exact ri hx hb hr hlocks hS (⟨hH.symm, rfl⟩) ⟨(Nat.le_of_ble_eq_true rfl), (Nat.le_of_ble_eq_true rfl)⟩ dX1_ofLoad_21

set_option maxHeartbeats 4000000 in
theorem m_X_ofTruck (l : Launch) (g : GT) (ax ap : Nat) (la : LT) (sc : Nat → Int32) (sw : Int64) (ar fd tr ld : Nat → Nat → Int32) (n : CN) (xi : Nat → Int32) (sm : Int64) (pd : Nat → Int32) (hn : cN n) (i q : Nat) (hi : i < n 1) (hq : q < 4) (hok : ¬ isFromF 0 3 (nI q) = 0) : Cn l g yX1_ofTruck cX1_ofTruck 3 ((some .int)) 4 0 0 [.ref ax, .int (nI i), .int (nI q)] (fun _ => False) (fun H => xw g (bA g) ax ap la (sc, sw, ar, fd, tr, ld, n) xi sm pd H) (fun Hp rv Hq => Hp = Hq ∧ rv = some (.int (cOfT tr i q))) := by
  refine Cn.start (plainFor_of_name (by decide +kernel)) (Nat.le_of_ble_eq_true rfl) ?_
  intro p ev s m below meth c ls H locs hH hx hb hr hts hown hlocks hml hnm hK hP hS hl
  have hxw := hP
  obtain ⟨hw, h_x, h_p, inx, inp, nxp, nfx, nfp⟩ := hxw
  have fx : Fx p s m ([.ref ax, .int (nI i), .int (nI q)] : List Value).toArray c cX1_ofTruck RX1 g (fun _ => False) 3 := ⟨hx, hb, hts, hown, hK, fun _ h => h.elim, hml⟩
  have hl : lv_has ls 3 [(0, .ref ax), (1, .int (nI i)), (2, .int (nI q))] := hl
  refine lv_aload_n hx hb dX1_ofTruck_0 rfl (lv_at hl 0 rfl) ?_
  refine lv_iload_n hx hb dX1_ofTruck_1 rfl (lv_at hl 1 rfl) ?_
  refine kV fx (m_X_truckAt l g ax ap la sc sw ar fd tr ld n xi sm pd hn i hi) (lw_V q812 q814 qs24 q50 q815) hdX1_truckAt ⟨(Nat.le_of_ble_eq_true rfl), (Nat.le_of_ble_eq_true rfl)⟩ ⟨(Nat.le_of_ble_eq_true rfl), (Nat.le_of_ble_eq_true rfl)⟩ hl.1 hS tfX1.2.1 h_x rfl (Nat.le_of_ble_eq_true rfl) (⟨hw, h_x, h_p, inx, inp, nxp, nfx, nfp⟩) (fun _ h => h.elim) dX1_ofTruck_2 (fun rv9 H locs hQ hz9 hk9 hS => ?_)
  obtain ⟨rfl, rfl⟩ := hQ
  refine W.eq (g2 := F0 m 5 ls [.ref (la.1 3 i)]) rfl ?_
  refine lv_pop hx hb dX1_ofTruck_5 rfl ?_
  refine lv_iconst (v := 0) hx hb dX1_ofTruck_6 (by decide) ?_
  refine lv_iconst (v := 3) hx hb dX1_ofTruck_7 (by decide) ?_
  refine lv_iload_n hx hb dX1_ofTruck_8 rfl (lv_at hl 2 rfl) ?_
  refine kS fx (m_isFrom l g 0 3 (nI q)) (lw_S q720 q721 q50 q722) hdX1_isFrom ⟨(Nat.le_of_ble_eq_true rfl), (Nat.le_of_ble_eq_true rfl)⟩ ⟨(Nat.le_of_ble_eq_true rfl), (Nat.le_of_ble_eq_true rfl)⟩ hl.1 hS rfl (Nat.le_of_ble_eq_true rfl) trivial (fun _ h => h.elim) dX1_ofTruck_9 (fun rv9 H locs hQ hz9 hk9 hS => ?_)
  obtain ⟨rfl, rfl⟩ := hQ
  refine W.eq (g2 := F0 m 12 ls [.int (isFromF 0 3 (nI q))]) rfl ?_
  refine kS fx (m_require l g (isFromF 0 3 (nI q)) hok) (lw_S q723 q724 q50 q725) hdX1_require ⟨(Nat.le_of_ble_eq_true rfl), (Nat.le_of_ble_eq_true rfl)⟩ ⟨(Nat.le_of_ble_eq_true rfl), (Nat.le_of_ble_eq_true rfl)⟩ hl.1 hS rfl (Nat.le_of_ble_eq_true rfl) trivial (fun _ h => h.elim) dX1_ofTruck_12 (fun rv9 H locs hQ hz9 hk9 hS => ?_)
  obtain ⟨rfl, rfl⟩ := hQ
  refine W.eq (g2 := F0 m 15 ls []) rfl ?_
  refine lv_aload_n hx hb dX1_ofTruck_15 rfl (lv_at hl 0 rfl) ?_
  refine lv_iload_n hx hb dX1_ofTruck_16 rfl (lv_at hl 1 rfl) ?_
  refine lv_iload_n hx hb dX1_ofTruck_17 rfl (lv_at hl 2 rfl) ?_
  refine kV fx (m_X_ofTruckNow l g ax ap la sc sw ar fd tr ld n xi sm pd hn i hi q hq) (lw_V q446 q448 qs10 q50 q449) hdX1_ofTruckNow ⟨(Nat.le_of_ble_eq_true rfl), (Nat.le_of_ble_eq_true rfl)⟩ ⟨(Nat.le_of_ble_eq_true rfl), (Nat.le_of_ble_eq_true rfl)⟩ hl.1 hS tfX1.2.1 h_x rfl (Nat.le_of_ble_eq_true rfl) (⟨hw, h_x, h_p, inx, inp, nxp, nfx, nfp⟩) (fun _ h => h.elim) dX1_ofTruck_18 (fun rv9 H locs hQ hz9 hk9 hS => ?_)
  obtain ⟨rfl, rfl⟩ := hQ
  refine W.eq (g2 := F0 m 21 ls [.int (cOfT tr i q)]) rfl ?_
  exact ri hx hb hr hlocks hS (⟨hH.symm, rfl⟩) ⟨(Nat.le_of_ble_eq_true rfl), (Nat.le_of_ble_eq_true rfl)⟩ dX1_ofTruck_21

set_option maxHeartbeats 4000000 in
theorem m_X_ofGrower (l : Launch) (g : GT) (ax ap : Nat) (la : LT) (sc : Nat → Int32) (sw : Int64) (ar fd tr ld : Nat → Nat → Int32) (n : CN) (xi : Nat → Int32) (sm : Int64) (pd : Nat → Int32) (i q : Nat) (hi : i < 4) (hq : q < 4) (h0 : ¬ nI i < 0) (h1 : nI i < 4) (hok : ¬ isFromF 0 3 (nI q) = 0) : Cn l g yX1_ofGrower cX1_ofGrower 3 ((some .int)) 4 0 0 [.ref ax, .int (nI i), .int (nI q)] (fun _ => False) (fun H => xw g (bA g) ax ap la (sc, sw, ar, fd, tr, ld, n) xi sm pd H) (fun Hp rv Hq => Hp = Hq ∧ rv = some (.int (cOfG ar pd i q))) := by
  refine Cn.start (plainFor_of_name (by decide +kernel)) (Nat.le_of_ble_eq_true rfl) ?_
  intro p ev s m below meth c ls H locs hH hx hb hr hts hown hlocks hml hnm hK hP hS hl
  have hxw := hP
  obtain ⟨hw, h_x, h_p, inx, inp, nxp, nfx, nfp⟩ := hxw
  have fx : Fx p s m ([.ref ax, .int (nI i), .int (nI q)] : List Value).toArray c cX1_ofGrower RX1 g (fun _ => False) 3 := ⟨hx, hb, hts, hown, hK, fun _ h => h.elim, hml⟩
  have hl : lv_has ls 3 [(0, .ref ax), (1, .int (nI i)), (2, .int (nI q))] := hl
  refine lv_iload_n hx hb dX1_ofGrower_0 rfl (lv_at hl 1 rfl) ?_
  refine lv_iconst (v := 4) hx hb dX1_ofGrower_1 (by decide) ?_
  refine kS fx (m_requireIndex l g (nI i) 4 h0 h1) (lw_S q696 q697 q50 q698) hdX1_requireIndex ⟨(Nat.le_of_ble_eq_true rfl), (Nat.le_of_ble_eq_true rfl)⟩ ⟨(Nat.le_of_ble_eq_true rfl), (Nat.le_of_ble_eq_true rfl)⟩ hl.1 hS rfl (Nat.le_of_ble_eq_true rfl) trivial (fun _ h => h.elim) dX1_ofGrower_2 (fun rv9 H locs hQ hz9 hk9 hS => ?_)
  obtain ⟨rfl, rfl⟩ := hQ
  refine W.eq (g2 := F0 m 5 ls []) rfl ?_
  refine lv_iconst (v := 0) hx hb dX1_ofGrower_5 (by decide) ?_
  refine lv_iconst (v := 3) hx hb dX1_ofGrower_6 (by decide) ?_
  refine lv_iload_n hx hb dX1_ofGrower_7 rfl (lv_at hl 2 rfl) ?_
  refine kS fx (m_isFrom l g 0 3 (nI q)) (lw_S q720 q721 q50 q722) hdX1_isFrom ⟨(Nat.le_of_ble_eq_true rfl), (Nat.le_of_ble_eq_true rfl)⟩ ⟨(Nat.le_of_ble_eq_true rfl), (Nat.le_of_ble_eq_true rfl)⟩ hl.1 hS rfl (Nat.le_of_ble_eq_true rfl) trivial (fun _ h => h.elim) dX1_ofGrower_8 (fun rv9 H locs hQ hz9 hk9 hS => ?_)
  obtain ⟨rfl, rfl⟩ := hQ
  refine W.eq (g2 := F0 m 11 ls [.int (isFromF 0 3 (nI q))]) rfl ?_
  refine kS fx (m_require l g (isFromF 0 3 (nI q)) hok) (lw_S q723 q724 q50 q725) hdX1_require ⟨(Nat.le_of_ble_eq_true rfl), (Nat.le_of_ble_eq_true rfl)⟩ ⟨(Nat.le_of_ble_eq_true rfl), (Nat.le_of_ble_eq_true rfl)⟩ hl.1 hS rfl (Nat.le_of_ble_eq_true rfl) trivial (fun _ h => h.elim) dX1_ofGrower_11 (fun rv9 H locs hQ hz9 hk9 hS => ?_)
  obtain ⟨rfl, rfl⟩ := hQ
  refine W.eq (g2 := F0 m 14 ls []) rfl ?_
  refine lv_aload_n hx hb dX1_ofGrower_14 rfl (lv_at hl 0 rfl) ?_
  refine lv_iload_n hx hb dX1_ofGrower_15 rfl (lv_at hl 1 rfl) ?_
  refine lv_iload_n hx hb dX1_ofGrower_16 rfl (lv_at hl 2 rfl) ?_
  refine kV fx (m_X_ofGrowerNow l g ax ap la sc sw ar fd tr ld n xi sm pd  i hi q hq) (lw_V q451 q453 qs11 q50 q454) hdX1_ofGrowerNow ⟨(Nat.le_of_ble_eq_true rfl), (Nat.le_of_ble_eq_true rfl)⟩ ⟨(Nat.le_of_ble_eq_true rfl), (Nat.le_of_ble_eq_true rfl)⟩ hl.1 hS tfX1.2.1 h_x rfl (Nat.le_of_ble_eq_true rfl) (⟨hw, h_x, h_p, inx, inp, nxp, nfx, nfp⟩) (fun _ h => h.elim) dX1_ofGrower_17 (fun rv9 H locs hQ hz9 hk9 hS => ?_)
  obtain ⟨rfl, rfl⟩ := hQ
  refine W.eq (g2 := F0 m 20 ls [.int (cOfG ar pd i q)]) rfl ?_
  exact ri hx hb hr hlocks hS (⟨hH.symm, rfl⟩) ⟨(Nat.le_of_ble_eq_true rfl), (Nat.le_of_ble_eq_true rfl)⟩ dX1_ofGrower_20

set_option maxHeartbeats 4000000 in
theorem m_X_many (l : Launch) (g : GT) (ax ap : Nat) (la : LT) (sc : Nat → Int32) (sw : Int64) (ar fd tr ld : Nat → Nat → Int32) (n : CN) (xi : Nat → Int32) (sm : Int64) (pd : Nat → Int32) (hn : cN n) (q : Nat) (hq : q < 20) (hok : ¬ isFromF 0 19 (nI q) = 0) : Cn l g yX1_many cX1_many 2 ((some .int)) 5 0 0 [.ref ax, .int (nI q)] (fun _ => False) (fun H => xw g (bA g) ax ap la (sc, sw, ar, fd, tr, ld, n) xi sm pd H) (fun Hp rv Hq => Hp = Hq ∧ rv = some (.int (cMany sc ld n xi q))) := by
  refine Cn.start (plainFor_of_name (by decide +kernel)) (Nat.le_of_ble_eq_true rfl) ?_
  intro p ev s m below meth c ls H locs hH hx hb hr hts hown hlocks hml hnm hK hP hS hl
  have hxw := hP
  obtain ⟨hw, h_x, h_p, inx, inp, nxp, nfx, nfp⟩ := hxw
  have fx : Fx p s m ([.ref ax, .int (nI q)] : List Value).toArray c cX1_many RX1 g (fun _ => False) 2 := ⟨hx, hb, hts, hown, hK, fun _ h => h.elim, hml⟩
  have hl : lv_has ls 2 [(0, .ref ax), (1, .int (nI q))] := hl
  refine lv_iconst (v := 0) hx hb dX1_many_0 (by decide) ?_
  refine lv_bipush (v := 19) hx hb dX1_many_1 (by decide) ?_
  refine lv_iload_n hx hb dX1_many_3 rfl (lv_at hl 1 rfl) ?_
  refine kS fx (m_isFrom l g 0 19 (nI q)) (lw_S q720 q721 q50 q722) hdX1_isFrom ⟨(Nat.le_of_ble_eq_true rfl), (Nat.le_of_ble_eq_true rfl)⟩ ⟨(Nat.le_of_ble_eq_true rfl), (Nat.le_of_ble_eq_true rfl)⟩ hl.1 hS rfl (Nat.le_of_ble_eq_true rfl) trivial (fun _ h => h.elim) dX1_many_4 (fun rv9 H locs hQ hz9 hk9 hS => ?_)
  obtain ⟨rfl, rfl⟩ := hQ
  refine W.eq (g2 := F0 m 7 ls [.int (isFromF 0 19 (nI q))]) rfl ?_
  refine kS fx (m_require l g (isFromF 0 19 (nI q)) hok) (lw_S q723 q724 q50 q725) hdX1_require ⟨(Nat.le_of_ble_eq_true rfl), (Nat.le_of_ble_eq_true rfl)⟩ ⟨(Nat.le_of_ble_eq_true rfl), (Nat.le_of_ble_eq_true rfl)⟩ hl.1 hS rfl (Nat.le_of_ble_eq_true rfl) trivial (fun _ h => h.elim) dX1_many_7 (fun rv9 H locs hQ hz9 hk9 hS => ?_)
  obtain ⟨rfl, rfl⟩ := hQ
  refine W.eq (g2 := F0 m 10 ls []) rfl ?_
  refine lv_aload_n hx hb dX1_many_10 rfl (lv_at hl 0 rfl) ?_
  refine lv_iload_n hx hb dX1_many_11 rfl (lv_at hl 1 rfl) ?_
  refine kV fx (m_X_manyNow l g ax ap la sc sw ar fd tr ld n xi sm pd hn q hq) (lw_V q249 q251 qs0 q50 q252) hdX1_manyNow ⟨(Nat.le_of_ble_eq_true rfl), (Nat.le_of_ble_eq_true rfl)⟩ ⟨(Nat.le_of_ble_eq_true rfl), (Nat.le_of_ble_eq_true rfl)⟩ hl.1 hS tfX1.2.1 h_x rfl (Nat.le_of_ble_eq_true rfl) (⟨hw, h_x, h_p, inx, inp, nxp, nfx, nfp⟩) (fun _ h => h.elim) dX1_many_12 (fun rv9 H locs hQ hz9 hk9 hS => ?_)
  obtain ⟨rfl, rfl⟩ := hQ
  refine W.eq (g2 := F0 m 15 ls [.int (cMany sc ld n xi q)]) rfl ?_
  exact ri hx hb hr hlocks hS (⟨hH.symm, rfl⟩) ⟨(Nat.le_of_ble_eq_true rfl), (Nat.le_of_ble_eq_true rfl)⟩ dX1_many_15

