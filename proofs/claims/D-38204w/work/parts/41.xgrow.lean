/-! CANECRUSH: what grows -/
set_option maxRecDepth 100000
theorem hdX5_renew : yX5_renew.cls ≠ "java/lang/invoke/MethodHandle" ∧ yX5_renew.cls ≠ "java/lang/invoke/VarHandle" ∧ (parseMethodDescriptor yX5_renew.desc).map (fun d => d.parameters.length) = some 0 := by decide +kernel
def fieldOk (a f : Int32) : Int32 := if isFromF 1 9 a = 0 then 0 else if isFromF 1 6 f = 0 then 0 else 1
theorem nI_up (n : Nat → Nat) (k : Nat) : nI (va_up n k (n k + 1) k) - 1 = nI (n k) := by rw [va_up_self]; exact nI_pred _
set_option maxHeartbeats 4000000 in
theorem m_X_truck (l : Launch) (g : GT) (sz ax ap : Nat) (la : LT) (sc : Nat → Int32) (sw : Int64) (ar fd tr ld : Nat → Nat → Int32) (n : CN) (xi : Nat → Int32) (sm : Int64) (pd : Nat → Int32) (hc : n 1 < 5) : Cn l g yX1_truck cX1_truck 1 ((some .int)) 7 2 30 [.ref ax] (fA (xF ax ap la n) sz) (fun H => sz = H.size ∧ xw g (bA g) ax ap la (sc, sw, ar, fd, tr, ld, n) xi sm pd H) (fun Hp rv Hq => rv = some (.int (nI (n 1))) ∧ ∃ lb : LT, xw g (fA (xF ax ap la n) sz) ax ap lb (sc, sw, ar, fd, va_up tr (n 1) (ob4 0 (-1) (-1) 0), ld, va_up n 1 (n 1 + 1)) xi sm pd Hq) := by
  refine Cn.start (plainFor_of_name (by decide +kernel)) (Nat.le_of_ble_eq_true rfl) ?_
  intro p ev s m below meth c ls H locs hH hx hb hr hts hown hlocks hml hnm hK hP hS hl
  obtain ⟨hsz, hxw⟩ := hP
  have hszs : sz = s.heap.size := by rw [hsz, hH]
  have hAs : ∀ q, s.heap.size ≤ q → (fA (xF ax ap la n) sz) q := fun q h => Or.inr (by rw [hszs]; exact h)
  have hAb : ∀ q, (fA (xF ax ap la n) sz) q → bA g q := fun q h => h.elim (hxw.ft q) (fun h => Nat.le_trans hK.2.2.sz (by rw [← hszs]; exact h))
  obtain ⟨hw, h_x, h_p, inx, inp, nxp, nfx, nfp⟩ := hxw.self sz
  have hc5 : ¬ 5 ≤ nI (n 1) := nI_ge (b := 5) hc (by decide)
  have fx : Fx p s m ([.ref ax] : List Value).toArray c cX1_truck RX1 g (fA (xF ax ap la n) sz) 1 := ⟨hx, hb, hts, hown, hK, hAb, hml⟩
  have hl : lv_has ls 1 [(0, .ref ax)] := hl
  refine lv_aload_n hx hb dX1_truck_0 rfl (lv_at hl 0 rfl) ?_
  refine mget fx tfX1 h_x 0 (by decide) q209 (fun _ h => h) (v := .ref (la.1 0 0)) rfl dX1_truck_1 ?_
  refine mgetN fx tfX2 (cw.w hw) 1 (by decide) q123 (fun _ h => h) (v := .ref (la.1 0 2)) rfl dX1_truck_4 ?_
  refine kV fx (m_AL_size l g (la.1 0 2) (la.1 1 1) (la.2.2 1) (nI (n 1))) (lw_V q253 q254 q255 q54 q256) hdJ2_size ⟨(Nat.le_of_ble_eq_true rfl), (Nat.le_of_ble_eq_true rfl)⟩ ⟨(Nat.le_of_ble_eq_true rfl), (Nat.le_of_ble_eq_true rfl)⟩ hl.1 hS tfJ2.2.1 (cw.al1 hw) rfl (Nat.le_of_ble_eq_true rfl) (cw.al1 hw) (fun _ h => h.elim) dX1_truck_7 (fun rv9 H locs hQ hz9 hk9 hS => ?_)
  obtain ⟨rfl, rfl⟩ := hQ
  refine W.eq (g2 := F0 m 10 ls [.int (nI (n 1))]) rfl ?_
  refine lv_iconst (v := 5) hx hb dX1_truck_10 (by decide) ?_
  refine lv_icmp_ge (tgt := 18) hx hb dX1_truck_11 (by decide) (fun h9 => absurd h9 hc5) (fun _ => ?_)
  refine lv_iconst (v := 1) hx hb dX1_truck_14 (by decide) ?_
  refine lv_goto (tgt := 19) hx hb dX1_truck_15 (by decide) ?_
  refine kS fx (m_requireState l g 1 (by decide)) (lw_S q741 q742 q50 q743) hdX1_requireState ⟨(Nat.le_of_ble_eq_true rfl), (Nat.le_of_ble_eq_true rfl)⟩ ⟨(Nat.le_of_ble_eq_true rfl), (Nat.le_of_ble_eq_true rfl)⟩ hl.1 hS rfl (Nat.le_of_ble_eq_true rfl) trivial (fun _ h => h.elim) dX1_truck_19 (fun rv9 H locs hQ hz9 hk9 hS => ?_)
  obtain ⟨rfl, rfl⟩ := hQ
  refine W.eq (g2 := F0 m 22 ls []) rfl ?_
  refine lv_aload_n hx hb dX1_truck_22 rfl (lv_at hl 0 rfl) ?_
  refine mget fx tfX1 h_x 0 (by decide) q209 (fun _ h => h) (v := .ref (la.1 0 0)) rfl dX1_truck_23 ?_
  refine mgetN fx tfX2 (cw.w hw) 1 (by decide) q123 (fun _ h => h) (v := .ref (la.1 0 2)) rfl dX1_truck_26 ?_
  refine mnew fx [.int 0, .int 0, .int 0, .int 0] tfX7 q450 q473 q71 hS dv_X7 ⟨(Nat.le_of_ble_eq_true rfl), (Nat.le_of_ble_eq_true rfl)⟩ dX1_truck_29 (fun an_2 H ean_2 hloan_2 hat hz hoq hS => ?_)
  have ne_3 : ax ≠ an_2 := Nat.ne_of_lt (by rw [ean_2]; exact h_x.lt)
  replace h_x := h_x.kept (hoq _ (by rw [ean_2]; exact h_x.lt))
  have ne_4 : ap ≠ an_2 := Nat.ne_of_lt (by rw [ean_2]; exact h_p.lt)
  replace h_p := h_p.kept (hoq _ (by rw [ean_2]; exact h_p.lt))
  have nin_5 : ∀ q, cF la n q → q ≠ an_2 := fun q h9 => Nat.ne_of_lt (by rw [ean_2]; exact hw.1.ftlt q h9)
  replace hw : cw g (fA (xF ax ap la n) sz) la (sc, sw, ar, fd, tr, ld, n) H := cw.kept hw (fun q h9 _ => hoq q (by rw [ean_2]; exact h9))
  have inan_2 := hAs an_2 hloan_2
  have hn_1 : mAt g an_2 (.inr (7, [.int 0, .int 0, .int 0, .int 0])) H := hat
  refine lv_dup hx hb dX1_truck_32 rfl ?_
  refine kIN fx (m_T_init l g an_2   (fx.2.2.2.2.2.1 _ inan_2) ) q476 q71 q767 q475 rfl hdX7_init ⟨(Nat.le_of_ble_eq_true rfl), (Nat.le_of_ble_eq_true rfl)⟩ ⟨(Nat.le_of_ble_eq_true rfl), (Nat.le_of_ble_eq_true rfl)⟩ hl.1 hS rfl (Nat.le_of_ble_eq_true rfl) hn_1 (fun q h => by cases h; exact inan_2) dX1_truck_33 (fun rv9 H locs hQ hz9 hk9 hS => ?_)
  obtain ⟨rfl, hat⟩ := hQ
  replace h_x := h_x.kept (hk9 _ h_x.lt ne_3)
  replace h_p := h_p.kept (hk9 _ h_p.lt ne_4)
  replace hn_1 : mAt g an_2 (.inr (7, [.int 0, .int (-1), .int (-1), .int 0])) H := hat
  replace hw : cw g (fA (xF ax ap la n) sz) la (sc, sw, ar, fd, tr, ld, n) H := cw.kept hw (fun q h9 hf9 => hk9 _ h9 (nin_5 q hf9))
  refine W.eq (g2 := F0 m 36 ls [.ref an_2, .ref (la.1 0 2)]) rfl ?_
  obtain ⟨pa, pea, pe0, pnc, pc, pf, ped, pels, pfr, pcap⟩ := cw.addP1 hw fx.2.2.2.2.2.1
  have hcp := newCap_le _ _ pnc pcap
  have hlt_6 := h_x.lt
  have hlt_7 := h_p.lt
  have hbk : ∀ q, fA (fun q => q = la.1 0 2 ∨ (la.2.1 1 ≠ 0 ∧ q = la.1 1 1)) H.size q → (fA (xF ax ap la n) sz) q := fun q h9 => (pfr q h9).elim (hw.1.ft q) (fun h8 => hAs q (Nat.le_trans hS.1 h8))
  have hSb := hS
  refine kV fx (m_AL_add l g (la.1 0 2) an_2 (la.1 1 1) (n 1) (la.2.1 1) _ (la.2.2 1) (elF la.1 n 1) pa pea pe0 (Ne.symm (nin_5 _ ⟨0, 2, (by show 2 < 7; decide), rfl⟩)) pnc pc pf) (lw_V q355 q356 q357 q54 q358) hdJ2_add ⟨(Nat.le_of_ble_eq_true rfl), (Nat.le_of_ble_eq_true rfl)⟩ ⟨(by have := hcp.2.2.1; have := hcp.2.1; show 1 + (if n 1 < la.2.1 1 then 0 else 1) ≤ 2; omega), (by have := hcp.2.2.2.1; have := hcp.2.1; show 4 + (if n 1 < la.2.1 1 then 0 else newCap (n 1) (la.2.1 1)) ≤ 30; omega)⟩ hl.1 hS tfJ2.2.1 (cw.al1 hw) rfl (Nat.le_of_ble_eq_true rfl) (⟨rfl, (cw.al1 hw), ped, pels, mEl_T hn_1⟩) (fun q h9 => hbk q h9) dX1_truck_36 (fun rv9 H locs hQ hz9 hk9 hS => ?_)
  obtain ⟨ea9, rfl, he9, hl9, hea9⟩ := hQ
  have hw9 := cw.addT hw (by omega) hn_1 nin_5 he9 hl9 hea9 hk9
  replace h_x := h_x.kept (hk9 _ h_x.lt (fun h9 => (pfr _ h9).elim (fun h8 => nfx _ h8 rfl) (Nat.not_le.mpr h_x.lt)))
  replace h_p := h_p.kept (hk9 _ h_p.lt (fun h9 => (pfr _ h9).elim (fun h8 => nfp _ h8 rfl) (Nat.not_le.mpr h_p.lt)))
  obtain ⟨lc_8, hla⟩ : ∃ z, z = adA la n 1 ea9 an_2 := ⟨_, rfl⟩
  rw [← hla] at hw9
  have hft9 := hw9.1.ft
  have hbk2 : ∀ q, (fA (cF la n) _ q ∨ q = an_2) → (fA (xF ax ap la n) sz) q := fun q h9 => h9.elim (fun h8 => h8.elim (hw.1.ft q) (fun h7 => hAs q (Nat.le_trans hSb.1 h7))) (fun h8 => by rw [h8]; exact inan_2)
  replace hw9 := cw.weaken hw9 hbk2
  replace hw : cw g (fA (xF ax ap la n) sz) lc_8 (sc, sw, ar, fd, va_up tr (n 1) (ob4 0 (-1) (-1) 0), ld, (va_up n 1 (n 1 + 1))) H := hw9
  have nin_9 : ∀ q, cF lc_8 (va_up n 1 (n 1 + 1)) q → q ≠ ax := fun q h9 => (hft9 q h9).elim (fun h8 => h8.elim (nfx q) (fun h7 => Nat.ne_of_gt (Nat.lt_of_lt_of_le hlt_6 h7))) (fun h8 => by rw [h8]; exact (Ne.symm ne_3))
  have nin_10 : ∀ q, cF lc_8 (va_up n 1 (n 1 + 1)) q → q ≠ ap := fun q h9 => (hft9 q h9).elim (fun h8 => h8.elim (nfp q) (fun h7 => Nat.ne_of_gt (Nat.lt_of_lt_of_le hlt_7 h7))) (fun h8 => by rw [h8]; exact (Ne.symm ne_4))
  have h01 : lc_8.1 0 0 = la.1 0 0 := by rw [hla]; exact adA_0
  replace h_x : mAt g ax (.inr (0, [.ref (lc_8.1 0 0), .ref ap, .int (xi 0), .int (xi 1), .int (xi 2), .int (xi 3), .int (xi 4), .int (xi 5), .int (xi 6), .long sm])) H := by rw [h01]; exact h_x
  have hq0 : lc_8.2.1 0 = la.2.1 0 := by rw [hla]; rfl
  have hq1 : lc_8.2.1 1 = newCap (n 1) (la.2.1 1) := by rw [hla]; rfl
  have hq2 : lc_8.2.1 2 = la.2.1 2 := by rw [hla]; rfl
  refine W.eq (g2 := F0 m 39 ls [.int 1]) rfl ?_
  refine lv_pop hx hb dX1_truck_39 rfl ?_
  refine lv_aload_n hx hb dX1_truck_40 rfl (lv_at hl 0 rfl) ?_
  refine mget fx tfX1 h_x 0 (by decide) q209 (fun _ h => h) (v := .ref (lc_8.1 0 0)) rfl dX1_truck_41 ?_
  refine mgetN fx tfX2 (cw.w hw) 1 (by decide) q123 (fun _ h => h) (v := .ref (lc_8.1 0 2)) rfl dX1_truck_44 ?_
  refine kV fx (m_AL_size l g (lc_8.1 0 2) (lc_8.1 1 1) (lc_8.2.2 1) (nI ((va_up n 1 (n 1 + 1)) 1))) (lw_V q253 q254 q255 q54 q256) hdJ2_size ⟨(Nat.le_of_ble_eq_true rfl), (Nat.le_of_ble_eq_true rfl)⟩ ⟨(by show 1 + (if n 1 < la.2.1 1 then 0 else 1) + 0 ≤ 2; omega), (by show 4 + (if n 1 < la.2.1 1 then 0 else newCap (n 1) (la.2.1 1)) + 0 ≤ 30; omega)⟩ hl.1 hS tfJ2.2.1 (cw.al1 hw) rfl (Nat.le_of_ble_eq_true rfl) (cw.al1 hw) (fun _ h => h.elim) dX1_truck_47 (fun rv9 H locs hQ hz9 hk9 hS => ?_)
  obtain ⟨rfl, rfl⟩ := hQ
  refine W.eq (g2 := F0 m 50 ls [.int (nI ((va_up n 1 (n 1 + 1)) 1))]) rfl ?_
  refine lv_iconst (v := 1) hx hb dX1_truck_50 (by decide) ?_
  refine lv_isub hx hb dX1_truck_51 ?_
  exact ri hx hb hr hlocks hS (⟨by rw [nI_up], lc_8, hw, h_x, h_p, inx, inp, nxp, nin_9, nin_10⟩) ⟨(by omega), (by omega)⟩ dX1_truck_52

set_option maxHeartbeats 4000000 in
theorem m_X_field (l : Launch) (g : GT) (sz ax ap : Nat) (la : LT) (sc : Nat → Int32) (sw : Int64) (ar fd tr ld : Nat → Nat → Int32) (n : CN) (xi : Nat → Int32) (sm : Int64) (pd : Nat → Int32) (z y f : Int32) (h0 : ¬ z < 0) (h1 : z < 4) (hok : ¬ fieldOk y f = 0) (hc : n 0 < 10) : Cn l g yX1_field cX1_field 4 ((some .int)) 7 2 40 [.ref ax, .int z, .int y, .int f] (fA (xF ax ap la n) sz) (fun H => sz = H.size ∧ xw g (bA g) ax ap la (sc, sw, ar, fd, tr, ld, n) xi sm pd H) (fun Hp rv Hq => rv = some (.int (nI (n 0))) ∧ ∃ lb : LT, xw g (fA (xF ax ap la n) sz) ax ap lb (sc, sw, ar, va_up fd (n 0) (ob11 z y f 0 60 0 0 0 0 0 0), tr, ld, va_up n 0 (n 0 + 1)) xi sm pd Hq) := by
  refine Cn.start (plainFor_of_name (by decide +kernel)) (Nat.le_of_ble_eq_true rfl) ?_
  intro p ev s m below meth c ls H locs hH hx hb hr hts hown hlocks hml hnm hK hP hS hl
  obtain ⟨hsz, hxw⟩ := hP
  have hszs : sz = s.heap.size := by rw [hsz, hH]
  have hAs : ∀ q, s.heap.size ≤ q → (fA (xF ax ap la n) sz) q := fun q h => Or.inr (by rw [hszs]; exact h)
  have hAb : ∀ q, (fA (xF ax ap la n) sz) q → bA g q := fun q h => h.elim (hxw.ft q) (fun h => Nat.le_trans hK.2.2.sz (by rw [← hszs]; exact h))
  obtain ⟨hw, h_x, h_p, inx, inp, nxp, nfx, nfp⟩ := hxw.self sz
  have hc5 : ¬ 10 ≤ nI (n 0) := nI_ge (b := 10) hc (by decide)
  have fx : Fx p s m ([.ref ax, .int z, .int y, .int f] : List Value).toArray c cX1_field RX1 g (fA (xF ax ap la n) sz) 4 := ⟨hx, hb, hts, hown, hK, hAb, hml⟩
  have hl : lv_has ls 4 [(0, .ref ax), (1, .int z), (2, .int y), (3, .int f)] := hl
  refine lv_iload_n hx hb dX1_field_0 rfl (lv_at hl 1 rfl) ?_
  refine lv_iconst (v := 4) hx hb dX1_field_1 (by decide) ?_
  refine kS fx (m_requireIndex l g z 4 h0 h1) (lw_S q696 q697 q50 q698) hdX1_requireIndex ⟨(Nat.le_of_ble_eq_true rfl), (Nat.le_of_ble_eq_true rfl)⟩ ⟨(Nat.le_of_ble_eq_true rfl), (Nat.le_of_ble_eq_true rfl)⟩ hl.1 hS rfl (Nat.le_of_ble_eq_true rfl) trivial (fun _ h => h.elim) dX1_field_2 (fun rv9 H locs hQ hz9 hk9 hS => ?_)
  obtain ⟨rfl, rfl⟩ := hQ
  refine W.eq (g2 := F0 m 5 ls []) rfl ?_
  refine lv_iconst (v := 1) hx hb dX1_field_5 (by decide) ?_
  refine lv_bipush (v := 9) hx hb dX1_field_6 (by decide) ?_
  refine lv_iload_n hx hb dX1_field_8 rfl (lv_at hl 2 rfl) ?_
  refine kS fx (m_isFrom l g 1 9 y) (lw_S q720 q721 q50 q722) hdX1_isFrom ⟨(Nat.le_of_ble_eq_true rfl), (Nat.le_of_ble_eq_true rfl)⟩ ⟨(Nat.le_of_ble_eq_true rfl), (Nat.le_of_ble_eq_true rfl)⟩ hl.1 hS rfl (Nat.le_of_ble_eq_true rfl) trivial (fun _ h => h.elim) dX1_field_9 (fun rv9 H locs hQ hz9 hk9 hS => ?_)
  obtain ⟨rfl, rfl⟩ := hQ
  refine W.eq (g2 := F0 m 12 ls [.int (isFromF 1 9 y)]) rfl ?_
  have K_3 : ∀ (locs : List Loc) (ls : Array Slot) (v_2 : Int32), v_2 = (if (isFromF 1 9 y) = 0 then 0 else (if (isFromF 1 6 f) = 0 then 0 else 1)) → va_S (fA (xF ax ap la n) sz) s.heap H locs → lv_has ls 4 [(0, .ref ax), (1, .int z), (2, .int y), (3, .int f)] → W p l ev (mR 7 2 40) s m ([.ref ax, .int z, .int y, .int f] : List Value).toArray below meth c H locs 0 0 (MQ below (mQ (fA (xF ax ap la n) sz) (fun Hp rv Hq => rv = some (.int (nI (n 0))) ∧ ∃ lb : LT, xw g (fA (xF ax ap la n) sz) ax ap lb (sc, sw, ar, va_up fd (n 0) (ob11 z y f 0 60 0 0 0 0 0 0), tr, ld, va_up n 0 (n 0 + 1)) xi sm pd Hq)) ([.ref ax, .int z, .int y, .int f] : List Value).toArray s 2 40 (fA (xF ax ap la n) sz)) (F0 m 30 ls [.int v_2]) := by
    intro locs ls v_2 hv_2 hS hl
    have bzv_2 : bz v_2 := by rw [hv_2]; (repeat' split) <;> first | exact Or.inl rfl | exact Or.inr rfl
    refine kS fx (m_require l g v_2 (by rw [hv_2]; exact hok)) (lw_S q723 q724 q50 q725) hdX1_require ⟨(Nat.le_of_ble_eq_true rfl), (Nat.le_of_ble_eq_true rfl)⟩ ⟨(Nat.le_of_ble_eq_true rfl), (Nat.le_of_ble_eq_true rfl)⟩ hl.1 hS rfl (Nat.le_of_ble_eq_true rfl) trivial (fun _ h => h.elim) dX1_field_30 (fun rv9 H locs hQ hz9 hk9 hS => ?_)
    obtain ⟨rfl, rfl⟩ := hQ
    refine W.eq (g2 := F0 m 33 ls []) rfl ?_
    refine lv_aload_n hx hb dX1_field_33 rfl (lv_at hl 0 rfl) ?_
    refine mget fx tfX1 h_x 0 (by decide) q209 (fun _ h => h) (v := .ref (la.1 0 0)) rfl dX1_field_34 ?_
    refine mgetN fx tfX2 (cw.w hw) 0 (by decide) q121 (fun _ h => h) (v := .ref (la.1 0 1)) rfl dX1_field_37 ?_
    refine kV fx (m_AL_size l g (la.1 0 1) (la.1 1 0) (la.2.2 0) (nI (n 0))) (lw_V q253 q254 q255 q54 q256) hdJ2_size ⟨(Nat.le_of_ble_eq_true rfl), (Nat.le_of_ble_eq_true rfl)⟩ ⟨(Nat.le_of_ble_eq_true rfl), (Nat.le_of_ble_eq_true rfl)⟩ hl.1 hS tfJ2.2.1 (cw.al0 hw) rfl (Nat.le_of_ble_eq_true rfl) (cw.al0 hw) (fun _ h => h.elim) dX1_field_40 (fun rv9 H locs hQ hz9 hk9 hS => ?_)
    obtain ⟨rfl, rfl⟩ := hQ
    refine W.eq (g2 := F0 m 43 ls [.int (nI (n 0))]) rfl ?_
    refine lv_bipush (v := 10) hx hb dX1_field_43 (by decide) ?_
    refine lv_icmp_ge (tgt := 52) hx hb dX1_field_45 (by decide) (fun h9 => absurd h9 hc5) (fun _ => ?_)
    refine lv_iconst (v := 1) hx hb dX1_field_48 (by decide) ?_
    refine lv_goto (tgt := 53) hx hb dX1_field_49 (by decide) ?_
    refine kS fx (m_requireState l g 1 (by decide)) (lw_S q741 q742 q50 q743) hdX1_requireState ⟨(Nat.le_of_ble_eq_true rfl), (Nat.le_of_ble_eq_true rfl)⟩ ⟨(Nat.le_of_ble_eq_true rfl), (Nat.le_of_ble_eq_true rfl)⟩ hl.1 hS rfl (Nat.le_of_ble_eq_true rfl) trivial (fun _ h => h.elim) dX1_field_53 (fun rv9 H locs hQ hz9 hk9 hS => ?_)
    obtain ⟨rfl, rfl⟩ := hQ
    refine W.eq (g2 := F0 m 56 ls []) rfl ?_
    refine lv_aload_n hx hb dX1_field_56 rfl (lv_at hl 0 rfl) ?_
    refine mget fx tfX1 h_x 0 (by decide) q209 (fun _ h => h) (v := .ref (la.1 0 0)) rfl dX1_field_57 ?_
    refine mgetN fx tfX2 (cw.w hw) 0 (by decide) q121 (fun _ h => h) (v := .ref (la.1 0 1)) rfl dX1_field_60 ?_
    refine mnew fx [.int 0, .int 0, .int 0, .int 0, .int 0, .int 0, .int 0, .int 0, .int 0, .int 0, .int 0] tfX5 q287 q302 q65 hS dv_X5 ⟨(Nat.le_of_ble_eq_true rfl), (Nat.le_of_ble_eq_true rfl)⟩ dX1_field_63 (fun an_5 H ean_5 hloan_5 hat hz hoq hS => ?_)
    have ne_6 : ax ≠ an_5 := Nat.ne_of_lt (by rw [ean_5]; exact h_x.lt)
    replace h_x := h_x.kept (hoq _ (by rw [ean_5]; exact h_x.lt))
    have ne_7 : ap ≠ an_5 := Nat.ne_of_lt (by rw [ean_5]; exact h_p.lt)
    replace h_p := h_p.kept (hoq _ (by rw [ean_5]; exact h_p.lt))
    have nin_8 : ∀ q, cF la n q → q ≠ an_5 := fun q h9 => Nat.ne_of_lt (by rw [ean_5]; exact hw.1.ftlt q h9)
    replace hw : cw g (fA (xF ax ap la n) sz) la (sc, sw, ar, fd, tr, ld, n) H := cw.kept hw (fun q h9 _ => hoq q (by rw [ean_5]; exact h9))
    have inan_5 := hAs an_5 hloan_5
    have hn_4 : mAt g an_5 (.inr (5, [.int 0, .int 0, .int 0, .int 0, .int 0, .int 0, .int 0, .int 0, .int 0, .int 0, .int 0])) H := hat
    refine lv_dup hx hb dX1_field_66 rfl ?_
    refine lv_iload_n hx hb dX1_field_67 rfl (lv_at hl 1 rfl) ?_
    refine lv_iload_n hx hb dX1_field_68 rfl (lv_at hl 2 rfl) ?_
    refine lv_iload_n hx hb dX1_field_69 rfl (lv_at hl 3 rfl) ?_
    refine kI fx (m_F_init l g an_5  z y f (fx.2.2.2.2.2.1 _ inan_5) ) q305 q65 q759 q304 rfl hdX5_init ⟨(Nat.le_of_ble_eq_true rfl), (Nat.le_of_ble_eq_true rfl)⟩ ⟨(Nat.le_of_ble_eq_true rfl), (Nat.le_of_ble_eq_true rfl)⟩ hl.1 hS rfl (Nat.le_of_ble_eq_true rfl) hn_4 (fun q h => by cases h; exact inan_5) dX1_field_70 (fun rv9 H locs hQ hz9 hk9 hS => ?_)
    obtain ⟨rfl, hat⟩ := hQ
    replace h_x := h_x.kept (hk9 _ h_x.lt ne_6)
    replace h_p := h_p.kept (hk9 _ h_p.lt ne_7)
    replace hn_4 : mAt g an_5 (.inr (5, [.int z, .int y, .int f, .int 0, .int 60, .int 0, .int 0, .int 0, .int 0, .int 0, .int 0])) H := hat
    replace hw : cw g (fA (xF ax ap la n) sz) la (sc, sw, ar, fd, tr, ld, n) H := cw.kept hw (fun q h9 hf9 => hk9 _ h9 (nin_8 q hf9))
    refine W.eq (g2 := F0 m 73 ls [.ref an_5, .ref (la.1 0 1)]) rfl ?_
    obtain ⟨pa, pea, pe0, pnc, pc, pf, ped, pels, pfr, pcap⟩ := cw.addP0 hw fx.2.2.2.2.2.1
    have hcp := newCap_le _ _ pnc pcap
    have hlt_9 := h_x.lt
    have hlt_10 := h_p.lt
    have hbk : ∀ q, fA (fun q => q = la.1 0 1 ∨ (la.2.1 0 ≠ 0 ∧ q = la.1 1 0)) H.size q → (fA (xF ax ap la n) sz) q := fun q h9 => (pfr q h9).elim (hw.1.ft q) (fun h8 => hAs q (Nat.le_trans hS.1 h8))
    have hSb := hS
    refine kV fx (m_AL_add l g (la.1 0 1) an_5 (la.1 1 0) (n 0) (la.2.1 0) _ (la.2.2 0) (elF la.1 n 0) pa pea pe0 (Ne.symm (nin_8 _ ⟨0, 1, (by show 1 < 7; decide), rfl⟩)) pnc pc pf) (lw_V q355 q356 q357 q54 q358) hdJ2_add ⟨(Nat.le_of_ble_eq_true rfl), (Nat.le_of_ble_eq_true rfl)⟩ ⟨(by have := hcp.2.2.1; have := hcp.2.1; show 1 + (if n 0 < la.2.1 0 then 0 else 1) ≤ 2; omega), (by have := hcp.2.2.2.1; have := hcp.2.1; show 11 + (if n 0 < la.2.1 0 then 0 else newCap (n 0) (la.2.1 0)) ≤ 40; omega)⟩ hl.1 hS tfJ2.2.1 (cw.al0 hw) rfl (Nat.le_of_ble_eq_true rfl) (⟨rfl, (cw.al0 hw), ped, pels, mEl_F hn_4⟩) (fun q h9 => hbk q h9) dX1_field_73 (fun rv9 H locs hQ hz9 hk9 hS => ?_)
    obtain ⟨ea9, rfl, he9, hl9, hea9⟩ := hQ
    have hw9 := cw.addF hw (by omega) hn_4 nin_8 he9 hl9 hea9 hk9
    replace h_x := h_x.kept (hk9 _ h_x.lt (fun h9 => (pfr _ h9).elim (fun h8 => nfx _ h8 rfl) (Nat.not_le.mpr h_x.lt)))
    replace h_p := h_p.kept (hk9 _ h_p.lt (fun h9 => (pfr _ h9).elim (fun h8 => nfp _ h8 rfl) (Nat.not_le.mpr h_p.lt)))
    obtain ⟨lc_11, hla⟩ : ∃ z, z = adA la n 0 ea9 an_5 := ⟨_, rfl⟩
    rw [← hla] at hw9
    have hft9 := hw9.1.ft
    have hbk2 : ∀ q, (fA (cF la n) _ q ∨ q = an_5) → (fA (xF ax ap la n) sz) q := fun q h9 => h9.elim (fun h8 => h8.elim (hw.1.ft q) (fun h7 => hAs q (Nat.le_trans hSb.1 h7))) (fun h8 => by rw [h8]; exact inan_5)
    replace hw9 := cw.weaken hw9 hbk2
    replace hw : cw g (fA (xF ax ap la n) sz) lc_11 (sc, sw, ar, va_up fd (n 0) (ob11 z y f 0 60 0 0 0 0 0 0), tr, ld, (va_up n 0 (n 0 + 1))) H := hw9
    have nin_12 : ∀ q, cF lc_11 (va_up n 0 (n 0 + 1)) q → q ≠ ax := fun q h9 => (hft9 q h9).elim (fun h8 => h8.elim (nfx q) (fun h7 => Nat.ne_of_gt (Nat.lt_of_lt_of_le hlt_9 h7))) (fun h8 => by rw [h8]; exact (Ne.symm ne_6))
    have nin_13 : ∀ q, cF lc_11 (va_up n 0 (n 0 + 1)) q → q ≠ ap := fun q h9 => (hft9 q h9).elim (fun h8 => h8.elim (nfp q) (fun h7 => Nat.ne_of_gt (Nat.lt_of_lt_of_le hlt_10 h7))) (fun h8 => by rw [h8]; exact (Ne.symm ne_7))
    have h01 : lc_11.1 0 0 = la.1 0 0 := by rw [hla]; exact adA_0
    replace h_x : mAt g ax (.inr (0, [.ref (lc_11.1 0 0), .ref ap, .int (xi 0), .int (xi 1), .int (xi 2), .int (xi 3), .int (xi 4), .int (xi 5), .int (xi 6), .long sm])) H := by rw [h01]; exact h_x
    have hq0 : lc_11.2.1 0 = newCap (n 0) (la.2.1 0) := by rw [hla]; rfl
    have hq1 : lc_11.2.1 1 = la.2.1 1 := by rw [hla]; rfl
    have hq2 : lc_11.2.1 2 = la.2.1 2 := by rw [hla]; rfl
    refine W.eq (g2 := F0 m 76 ls [.int 1]) rfl ?_
    refine lv_pop hx hb dX1_field_76 rfl ?_
    refine lv_aload_n hx hb dX1_field_77 rfl (lv_at hl 0 rfl) ?_
    refine mget fx tfX1 h_x 0 (by decide) q209 (fun _ h => h) (v := .ref (lc_11.1 0 0)) rfl dX1_field_78 ?_
    refine mgetN fx tfX2 (cw.w hw) 0 (by decide) q121 (fun _ h => h) (v := .ref (lc_11.1 0 1)) rfl dX1_field_81 ?_
    refine kV fx (m_AL_size l g (lc_11.1 0 1) (lc_11.1 1 0) (lc_11.2.2 0) (nI ((va_up n 0 (n 0 + 1)) 0))) (lw_V q253 q254 q255 q54 q256) hdJ2_size ⟨(Nat.le_of_ble_eq_true rfl), (Nat.le_of_ble_eq_true rfl)⟩ ⟨(by show 1 + (if n 0 < la.2.1 0 then 0 else 1) + 0 ≤ 2; omega), (by show 11 + (if n 0 < la.2.1 0 then 0 else newCap (n 0) (la.2.1 0)) + 0 ≤ 40; omega)⟩ hl.1 hS tfJ2.2.1 (cw.al0 hw) rfl (Nat.le_of_ble_eq_true rfl) (cw.al0 hw) (fun _ h => h.elim) dX1_field_84 (fun rv9 H locs hQ hz9 hk9 hS => ?_)
    obtain ⟨rfl, rfl⟩ := hQ
    refine W.eq (g2 := F0 m 87 ls [.int (nI ((va_up n 0 (n 0 + 1)) 0))]) rfl ?_
    refine lv_iconst (v := 1) hx hb dX1_field_87 (by decide) ?_
    refine lv_isub hx hb dX1_field_88 ?_
    exact ri hx hb hr hlocks hS (⟨by rw [nI_up], lc_11, hw, h_x, h_p, inx, inp, nxp, nin_12, nin_13⟩) ⟨(by omega), (by omega)⟩ dX1_field_89
  refine lv_if_eq (tgt := 29) hx hb dX1_field_12 (by decide) (fun c_1 => ?_) (fun c_1 => ?_)
  · skip
    refine lv_iconst (v := 0) hx hb dX1_field_29 (by decide) ?_
    exact K_3 _ _ 0 (by rw [if_pos c_1]) hS (lv_sub hl [0, 1, 2, 3] rfl)
  · skip
    refine lv_iconst (v := 1) hx hb dX1_field_15 (by decide) ?_
    refine lv_bipush (v := 6) hx hb dX1_field_16 (by decide) ?_
    refine lv_iload_n hx hb dX1_field_18 rfl (lv_at hl 3 rfl) ?_
    refine kS fx (m_isFrom l g 1 6 f) (lw_S q720 q721 q50 q722) hdX1_isFrom ⟨(Nat.le_of_ble_eq_true rfl), (Nat.le_of_ble_eq_true rfl)⟩ ⟨(Nat.le_of_ble_eq_true rfl), (Nat.le_of_ble_eq_true rfl)⟩ hl.1 hS rfl (Nat.le_of_ble_eq_true rfl) trivial (fun _ h => h.elim) dX1_field_19 (fun rv9 H locs hQ hz9 hk9 hS => ?_)
    obtain ⟨rfl, rfl⟩ := hQ
    refine W.eq (g2 := F0 m 22 ls [.int (isFromF 1 6 f)]) rfl ?_
    refine lv_if_eq (tgt := 29) hx hb dX1_field_22 (by decide) (fun c_14 => ?_) (fun c_14 => ?_)
    · skip
      refine lv_iconst (v := 0) hx hb dX1_field_29 (by decide) ?_
      exact K_3 _ _ 0 (by rw [if_neg c_1, if_pos c_14]) hS (lv_sub hl [0, 1, 2, 3] rfl)
    · skip
      refine lv_iconst (v := 1) hx hb dX1_field_25 (by decide) ?_
      refine lv_goto (tgt := 30) hx hb dX1_field_26 (by decide) ?_
      exact K_3 _ _ 1 (by rw [if_neg c_1, if_neg c_14]) hS (lv_sub hl [0, 1, 2, 3] rfl)

def cutT (t c st : Int32) (k : Nat) : Int32 := jmin 20 (jmin t c - st - 20 * nI k)
def cutLd (ld : Nat → Nat → Int32) (n2 i : Nat) (t st hr : Int32) (o : Nat → Int32) : Nat → Nat → Nat → Int32
  | 0 => ld
  | k + 1 => va_up (cutLd ld n2 i t st hr o k) (n2 + k) (ob9 (nI i) (cutT t (o 3) st k) (f_L_init_2 (o 10)) (o 10) hr (o 4) 0 0 (-1))
def cutF (o : Nat → Int32) (t : Int32) : Nat → Int32 := if o 3 - jmin t (o 3) = 0 then ob11 (o 0) (o 1) (o 2) (o 3 - jmin t (o 3)) 60 0 (f_F_renew_6 (o 6)) (f_F_renew_7 (o 7)) 0 0 0 else ob11 (o 0) (o 1) (o 2) (o 3 - jmin t (o 3)) (o 4) (o 5) (o 6) (o 7) (o 8) (o 9) (o 10)
theorem nU_0 (n : Nat → Nat) : va_up n 2 (n 2 + 0) = n := by
  funext k
  unfold va_up
  by_cases h : k = 2
  · rw [if_pos h, h]; rfl
  · rw [if_neg h]
theorem nU_s (n : Nat → Nat) (j : Nat) : va_up (va_up n 2 (n 2 + j)) 2 (va_up n 2 (n 2 + j) 2 + 1) = va_up n 2 (n 2 + (j + 1)) := by
  rw [up_up, va_up_self]
  rfl
set_option maxHeartbeats 4000000 in
theorem m_X_cutA (l : Launch) (g : GT) (sz ax ap : Nat) (la : LT) (sc : Nat → Int32) (sw : Int64) (ar fd tr ld : Nat → Nat → Int32) (n : CN) (xi : Nat → Int32) (sm : Int64) (pd : Nat → Int32) (hn : cN n) (hv : cV n fd tr ld) (i mm : Nat) (t : Int32) (hi : i < n 0) (hc : ¬ fd i 3 ≤ 0) (hok : ¬ isFromF 1 200 t = 0) (hst8 : fd i 8 = 0) (hmm : (((((jmin t (fd i 3)) - 0) + 20) - 1) / 20) = nI mm) (hm : n 2 + mm ≤ 90) : Cn l g yX1_cut cX1_cut 9 ((some .int)) 7 160 700 [.ref ax, .int (nI i), .int t] (fA (xF ax ap la n) sz) (fun H => sz = H.size ∧ xw g (bA g) ax ap la (sc, sw, ar, fd, tr, ld, n) xi sm pd H) (fun Hp rv Hq => rv = some (.int (nI mm)) ∧ ∃ lb : LT, xw g (fA (xF ax ap la n) sz) ax ap lb (sc, sw, ar, va_up fd i (cutF (fd i) t), tr, cutLd ld (n 2) i t 0 (sc 0) (fd i) mm, va_up n 2 (n 2 + mm)) (va_up xi 6 (xi 6 + 0)) sm pd Hq) := by
  refine Cn.start (plainFor_of_name (by decide +kernel)) (Nat.le_of_ble_eq_true rfl) ?_
  intro p ev s m below meth c ls H locs hH hx hb hr hts hown hlocks hml hnm hK hP hS hl
  obtain ⟨hsz, hxw⟩ := hP
  have hszs : sz = s.heap.size := by rw [hsz, hH]
  have hAs : ∀ q, s.heap.size ≤ q → (fA (xF ax ap la n) sz) q := fun q h => Or.inr (by rw [hszs]; exact h)
  have hAb : ∀ q, (fA (xF ax ap la n) sz) q → bA g q := fun q h => h.elim (hxw.ft q) (fun h => Nat.le_trans hK.2.2.sz (by rw [← hszs]; exact h))
  obtain ⟨hw, h_x, h_p, inx, inp, nxp, nfx, nfp⟩ := hxw.self sz
  have h90 : ¬ 90 < nI (n 2) + nI mm := by rw [nI_add]; exact fun h9 => absurd ((nI_ltI (a := 90) (by decide) (by omega)).mp h9) (by omega)
  have hm31 : mm < 2 ^ 31 := by omega
  have fx : Fx p s m ([.ref ax, .int (nI i), .int t] : List Value).toArray c cX1_cut RX1 g (fA (xF ax ap la n) sz) 9 := ⟨hx, hb, hts, hown, hK, hAb, hml⟩
  have hl : lv_has ls 9 [(0, .ref ax), (1, .int (nI i)), (2, .int t)] := hl
  refine lv_aload_n hx hb dX1_cut_0 rfl (lv_at hl 0 rfl) ?_
  refine lv_iload_n hx hb dX1_cut_1 rfl (lv_at hl 1 rfl) ?_
  refine kV fx (m_X_fieldAt l g ax ap la sc sw ar fd tr ld n xi sm pd hn i hi) (lw_V q775 q777 qs23 q50 q778) hdX1_fieldAt ⟨(Nat.le_of_ble_eq_true rfl), (Nat.le_of_ble_eq_true rfl)⟩ ⟨(Nat.le_of_ble_eq_true rfl), (Nat.le_of_ble_eq_true rfl)⟩ hl.1 hS tfX1.2.1 h_x rfl (Nat.le_of_ble_eq_true rfl) (xw.weaken ⟨hw, h_x, h_p, inx, inp, nxp, nfx, nfp⟩ fx.2.2.2.2.2.1) (fun _ h => h.elim) dX1_cut_2 (fun rv9 H locs hQ hz9 hk9 hS => ?_)
  obtain ⟨rfl, rfl⟩ := hQ
  refine W.eq (g2 := F0 m 5 ls [.ref (la.1 2 i)]) rfl ?_
  refine lv_astore_n (lv' := [(3, .ref (la.1 2 i)), (0, .ref ax), (1, .int (nI i)), (2, .int t)]) hx hb dX1_cut_5 rfl hl (by decide) rfl (fun ls hl => ?_)
  refine lv_iconst (v := 1) hx hb dX1_cut_6 (by decide) ?_
  refine lv_sipush (v := 200) hx hb dX1_cut_7 (by decide) ?_
  refine lv_iload_n hx hb dX1_cut_10 rfl (lv_at hl 3 rfl) ?_
  refine kS fx (m_isFrom l g 1 200 t) (lw_S q720 q721 q50 q722) hdX1_isFrom ⟨(Nat.le_of_ble_eq_true rfl), (Nat.le_of_ble_eq_true rfl)⟩ ⟨(Nat.le_of_ble_eq_true rfl), (Nat.le_of_ble_eq_true rfl)⟩ hl.1 hS rfl (Nat.le_of_ble_eq_true rfl) trivial (fun _ h => h.elim) dX1_cut_11 (fun rv9 H locs hQ hz9 hk9 hS => ?_)
  obtain ⟨rfl, rfl⟩ := hQ
  refine W.eq (g2 := F0 m 14 ls [.int (isFromF 1 200 t)]) rfl ?_
  refine kS fx (m_require l g (isFromF 1 200 t) hok) (lw_S q723 q724 q50 q725) hdX1_require ⟨(Nat.le_of_ble_eq_true rfl), (Nat.le_of_ble_eq_true rfl)⟩ ⟨(Nat.le_of_ble_eq_true rfl), (Nat.le_of_ble_eq_true rfl)⟩ hl.1 hS rfl (Nat.le_of_ble_eq_true rfl) trivial (fun _ h => h.elim) dX1_cut_14 (fun rv9 H locs hQ hz9 hk9 hS => ?_)
  obtain ⟨rfl, rfl⟩ := hQ
  refine W.eq (g2 := F0 m 17 ls []) rfl ?_
  refine lv_aload_n hx hb dX1_cut_17 rfl (lv_at hl 0 rfl) ?_
  refine mgetN fx tfX5 (cw.f hw hi) 3 (by decide) q316 (fun _ h => h) (v := .int (fd i 3)) rfl dX1_cut_18 ?_
  refine lv_if_le (tgt := 28) hx hb dX1_cut_21 (by decide) (fun h9 => absurd h9 hc) (fun _ => ?_)
  refine lv_iconst (v := 1) hx hb dX1_cut_24 (by decide) ?_
  refine lv_goto (tgt := 29) hx hb dX1_cut_25 (by decide) ?_
  refine kS fx (m_requireState l g 1 (by decide)) (lw_S q741 q742 q50 q743) hdX1_requireState ⟨(Nat.le_of_ble_eq_true rfl), (Nat.le_of_ble_eq_true rfl)⟩ ⟨(Nat.le_of_ble_eq_true rfl), (Nat.le_of_ble_eq_true rfl)⟩ hl.1 hS rfl (Nat.le_of_ble_eq_true rfl) trivial (fun _ h => h.elim) dX1_cut_29 (fun rv9 H locs hQ hz9 hk9 hS => ?_)
  obtain ⟨rfl, rfl⟩ := hQ
  refine W.eq (g2 := F0 m 32 ls []) rfl ?_
  refine lv_iload_n hx hb dX1_cut_32 rfl (lv_at hl 3 rfl) ?_
  refine lv_aload_n hx hb dX1_cut_33 rfl (lv_at hl 0 rfl) ?_
  refine mgetN fx tfX5 (cw.f hw hi) 3 (by decide) q316 (fun _ h => h) (v := .int (fd i 3)) rfl dX1_cut_34 ?_
  refine kS fx (m_min l g t (fd i 3)) (lw_S q440 q411 q67 q412) hdJ12_min ⟨(Nat.le_of_ble_eq_true rfl), (Nat.le_of_ble_eq_true rfl)⟩ ⟨(Nat.le_of_ble_eq_true rfl), (Nat.le_of_ble_eq_true rfl)⟩ hl.1 hS rfl (Nat.le_of_ble_eq_true rfl) trivial (fun _ h => h.elim) dX1_cut_37 (fun rv9 H locs hQ hz9 hk9 hS => ?_)
  obtain ⟨rfl, rfl⟩ := hQ
  refine W.eq (g2 := F0 m 40 ls [.int (jmin t (fd i 3))]) rfl ?_
  refine lv_istore (lv' := [(4, .int (jmin t (fd i 3))), (3, .ref (la.1 2 i)), (0, .ref ax), (1, .int (nI i)), (2, .int t)]) hx hb dX1_cut_40 hl (by decide) rfl (fun ls hl => ?_)
  refine lv_aload_n hx hb dX1_cut_42 rfl (lv_at hl 1 rfl) ?_
  refine mgetN fx tfX5 (cw.f hw hi) 8 (by decide) q327 (fun _ h => h) (v := .int (fd i 8)) rfl dX1_cut_43 ?_
  refine lv_if_eq (tgt := 58) hx hb dX1_cut_46 (by decide) (fun _ => ?_) (fun h9 => absurd hst8 h9)
  refine lv_iconst (v := 0) hx hb dX1_cut_58 (by decide) ?_
  refine lv_istore (lv' := [(5, .int 0), (4, .int (jmin t (fd i 3))), (3, .ref (la.1 2 i)), (0, .ref ax), (1, .int (nI i)), (2, .int t)]) hx hb dX1_cut_59 hl (by decide) rfl (fun ls hl => ?_)
  refine lv_iload hx hb dX1_cut_61 (lv_at hl 1 rfl) ?_
  refine lv_iload hx hb dX1_cut_63 (lv_at hl 0 rfl) ?_
  refine lv_isub hx hb dX1_cut_65 ?_
  refine lv_istore (lv' := [(6, .int ((jmin t (fd i 3)) - 0)), (5, .int 0), (4, .int (jmin t (fd i 3))), (3, .ref (la.1 2 i)), (0, .ref ax), (1, .int (nI i)), (2, .int t)]) hx hb dX1_cut_66 hl (by decide) rfl (fun ls hl => ?_)
  refine lv_iload hx hb dX1_cut_68 (lv_at hl 0 rfl) ?_
  refine lv_bipush (v := 20) hx hb dX1_cut_70 (by decide) ?_
  refine lv_iadd hx hb dX1_cut_72 ?_
  refine lv_iconst (v := 1) hx hb dX1_cut_73 (by decide) ?_
  refine lv_isub hx hb dX1_cut_74 ?_
  refine lv_bipush (v := 20) hx hb dX1_cut_75 (by decide) ?_
  refine lv_idiv hx hb dX1_cut_77 (by decide) ?_
  rw [hmm]
  refine lv_istore (lv' := [(7, .int (nI mm)), (6, .int ((jmin t (fd i 3)) - 0)), (5, .int 0), (4, .int (jmin t (fd i 3))), (3, .ref (la.1 2 i)), (0, .ref ax), (1, .int (nI i)), (2, .int t)]) hx hb dX1_cut_78 hl (by decide) rfl (fun ls hl => ?_)
  refine lv_aload_n hx hb dX1_cut_80 rfl (lv_at hl 5 rfl) ?_
  refine mget fx tfX1 h_x 0 (by decide) q209 (fun _ h => h) (v := .ref (la.1 0 0)) rfl dX1_cut_81 ?_
  refine mgetN fx tfX2 (cw.w hw) 2 (by decide) q125 (fun _ h => h) (v := .ref (la.1 0 3)) rfl dX1_cut_84 ?_
  refine kV fx (m_AL_size l g (la.1 0 3) (la.1 1 2) (la.2.2 2) (nI (n 2))) (lw_V q253 q254 q255 q54 q256) hdJ2_size ⟨(Nat.le_of_ble_eq_true rfl), (Nat.le_of_ble_eq_true rfl)⟩ ⟨(Nat.le_of_ble_eq_true rfl), (Nat.le_of_ble_eq_true rfl)⟩ hl.1 hS tfJ2.2.1 (cw.al2 hw) rfl (Nat.le_of_ble_eq_true rfl) (cw.al2 hw) (fun _ h => h.elim) dX1_cut_87 (fun rv9 H locs hQ hz9 hk9 hS => ?_)
  obtain ⟨rfl, rfl⟩ := hQ
  refine W.eq (g2 := F0 m 90 ls [.int (nI (n 2))]) rfl ?_
  refine lv_iload hx hb dX1_cut_90 (lv_at hl 0 rfl) ?_
  refine lv_iadd hx hb dX1_cut_92 ?_
  refine lv_bipush (v := 90) hx hb dX1_cut_93 (by decide) ?_
  refine lv_icmp_gt (tgt := 102) hx hb dX1_cut_95 (by decide) (fun h9 => absurd h9 h90) (fun _ => ?_)
  refine lv_iconst (v := 1) hx hb dX1_cut_98 (by decide) ?_
  refine lv_goto (tgt := 103) hx hb dX1_cut_99 (by decide) ?_
  refine kS fx (m_requireState l g 1 (by decide)) (lw_S q741 q742 q50 q743) hdX1_requireState ⟨(Nat.le_of_ble_eq_true rfl), (Nat.le_of_ble_eq_true rfl)⟩ ⟨(Nat.le_of_ble_eq_true rfl), (Nat.le_of_ble_eq_true rfl)⟩ hl.1 hS rfl (Nat.le_of_ble_eq_true rfl) trivial (fun _ h => h.elim) dX1_cut_103 (fun rv9 H locs hQ hz9 hk9 hS => ?_)
  obtain ⟨rfl, rfl⟩ := hQ
  refine W.eq (g2 := F0 m 106 ls []) rfl ?_
  refine lv_iconst (v := 0) hx hb dX1_cut_106 (by decide) ?_
  refine lv_istore (lv' := [(8, .int 0), (7, .int (nI mm)), (6, .int ((jmin t (fd i 3)) - 0)), (5, .int 0), (4, .int (jmin t (fd i 3))), (3, .ref (la.1 2 i)), (0, .ref ax), (1, .int (nI i)), (2, .int t)]) hx hb dX1_cut_107 hl (by decide) rfl (fun ls hl => ?_)
  have lp_1 : ∀ (d_2 j : Nat) (H : Heap) (locs : List Loc) (ls : Array Slot) (lv : LT), j + d_2 = mm → va_S (fA (xF ax ap la n) sz) s.heap H locs → mAt g ax (.inr (0, [.ref (lv.1 0 0), .ref ap, .int (xi 0), .int (xi 1), .int (xi 2), .int (xi 3), .int (xi 4), .int (xi 5), .int (xi 6), .long sm])) H → mAt g ap (.inl (g.2.1 0, 4, .inl pd)) H → cw g (fA (xF ax ap la n) sz) lv (sc, sw, ar, fd, tr, cutLd ld (n 2) i t 0 (sc 0) (fd i) j, (va_up n 2 (n 2 + j))) H → (∀ q, cF lv (va_up n 2 (n 2 + j)) q → q ≠ ax) → (∀ q, cF lv (va_up n 2 (n 2 + j)) q → q ≠ ap) → lv_has ls 9 [(8, .int (nI j)), (7, .int (nI mm)), (6, .int ((jmin t (fd i 3)) - 0)), (5, .int 0), (4, .int (jmin t (fd i 3))), (3, .ref (lv.1 2 i)), (0, .ref ax), (1, .int (nI i)), (2, .int t)] → W p l ev (mR 7 160 700) s m ([.ref ax, .int (nI i), .int t] : List Value).toArray below meth c H locs (j + lv.2.1 2) (9 * j + 4 * lv.2.1 2) (MQ below (mQ (fA (xF ax ap la n) sz) (fun Hp rv Hq => rv = some (.int (nI mm)) ∧ ∃ lb : LT, xw g (fA (xF ax ap la n) sz) ax ap lb (sc, sw, ar, va_up fd i (cutF (fd i) t), tr, cutLd ld (n 2) i t 0 (sc 0) (fd i) mm, va_up n 2 (n 2 + mm)) (va_up xi 6 (xi 6 + 0)) sm pd Hq)) ([.ref ax, .int (nI i), .int t] : List Value).toArray s 160 700 (fA (xF ax ap la n) sz)) (F0 m 109 ls []) := by
    intro d_2
    induction d_2 with
    | zero =>
      intro j H locs ls lv hid hS h_x h_p hw nlx nlp hl
      obtain rfl : mm = j := by omega
      have hcb : 2 * lv.2.1 2 ≤ 20 + 3 * (n 2 + mm) := (hw.2 2 (by decide)).2.2.2
      refine lv_iload hx hb dX1_cut_109 (lv_at hl 0 rfl) ?_
      refine lv_iload hx hb dX1_cut_111 (lv_at hl 1 rfl) ?_
      refine lv_icmp_ge (tgt := 169) hx hb dX1_cut_113 (by decide) (fun _ => ?_) (fun h9 => absurd (nI_le (Nat.le_refl _) hm31) h9)
      refine lv_aload_n hx hb dX1_cut_169 rfl (lv_at hl 6 rfl) ?_
      refine lv_dup hx hb dX1_cut_170 rfl ?_
      refine mget fx tfX1 h_x 8 (by decide) q217 (fun _ h => h) (v := .int (xi 6)) rfl dX1_cut_171 ?_
      refine lv_iload hx hb dX1_cut_174 (lv_at hl 3 rfl) ?_
      refine lv_iadd hx hb dX1_cut_176 ?_
      refine mput fx tfX1 h_x hS inx 8 (by decide) q217 (fun _ h => h) rfl rfl rfl (Nat.le_of_ble_eq_true rfl) dX1_cut_177 (fun H locs hat hz hoq hS => ?_)
      replace h_p := h_p.kept (hoq _ (Ne.symm nxp))
      replace h_x : mAt g ax (.inr (0, [.ref (lv.1 0 0), .ref ap, .int (xi 0), .int (xi 1), .int (xi 2), .int (xi 3), .int (xi 4), .int (xi 5), .int ((xi 6) + 0), .long sm])) H := hat
      replace hw : cw g (fA (xF ax ap la n) sz) lv (sc, sw, ar, fd, tr, cutLd ld (n 2) i t 0 (sc 0) (fd i) mm, (va_up n 2 (n 2 + mm))) H := cw.kept hw (fun q h9 hf9 => hoq _ (nlx q hf9))
      refine lv_aload_n hx hb dX1_cut_180 rfl (lv_at hl 5 rfl) ?_
      refine lv_dup hx hb dX1_cut_181 rfl ?_
      refine mgetN fx tfX5 (cw.f hw hi) 3 (by decide) q316 (fun _ h => h) (v := .int (fd i 3)) rfl dX1_cut_182 ?_
      refine lv_iload hx hb dX1_cut_185 (lv_at hl 4 rfl) ?_
      refine lv_isub hx hb dX1_cut_187 ?_
      refine mputN fx tfX5 (cw.f hw hi) hS (cw.inF hw hi) 3 (by decide) q316 (fun _ h => h) rfl rfl rfl (Nat.le_of_ble_eq_true rfl) dX1_cut_188 (fun H locs hat hz hoq hS => ?_)
      replace h_x := h_x.kept (hoq _ (Ne.symm (nlx _ ⟨2, i, hi, rfl⟩)))
      replace h_p := h_p.kept (hoq _ (Ne.symm (nlp _ ⟨2, i, hi, rfl⟩)))
      replace hw : cw g (fA (xF ax ap la n) sz) lv (sc, sw, ar, va_up fd i (ob11 (fd i 0) (fd i 1) (fd i 2) ((fd i 3) - (jmin t (fd i 3))) (fd i 4) (fd i 5) (fd i 6) (fd i 7) (fd i 8) (fd i 9) (fd i 10)), tr, cutLd ld (n 2) i t 0 (sc 0) (fd i) mm, (va_up n 2 (n 2 + mm))) H := cw.setFc hw hi hat (fun q _ h9 => hoq q h9)
      refine lv_aload_n hx hb dX1_cut_191 rfl (lv_at hl 5 rfl) ?_
      refine mgetN fx tfX5 (cw.fS hw hi) 3 (by decide) q316 (fun _ h => h) (v := .int ((fd i 3) - (jmin t (fd i 3)))) rfl dX1_cut_192 ?_
      refine lv_if_ne (tgt := 202) hx hb dX1_cut_195 (by decide) (fun c_3 => ?_) (fun c_3 => ?_)
      · skip
        refine lv_iload hx hb dX1_cut_202 (lv_at hl 1 rfl) ?_
        exact ri hx hb hr hlocks hS (⟨rfl, lv, by rw [cutF, if_neg c_3]; exact hw, h_x, h_p, inx, inp, nxp, nlx, nlp⟩) ⟨(by omega), (by omega)⟩ dX1_cut_204
      · skip
        refine lv_aload_n hx hb dX1_cut_198 rfl (lv_at hl 5 rfl) ?_
        refine kV fx (m_F_renew l g (lv.1 2 i) (fd i 0) (fd i 1) (fd i 2) ((fd i 3) - (jmin t (fd i 3))) (fd i 4) (fd i 5) (fd i 6) (fd i 7) (fd i 8) (fd i 9) (fd i 10)  (fx.2.2.2.2.2.1 _ (cw.inF hw hi)) ) (lw_V q801 q802 q803 q65 q804) hdX5_renew ⟨(Nat.le_of_ble_eq_true rfl), (Nat.le_of_ble_eq_true rfl)⟩ ⟨(by show mm + lv.2.1 2 + 0 ≤ 160; omega), (by show 9 * mm + 4 * lv.2.1 2 + 0 ≤ 700; omega)⟩ hl.1 hS tfX5.2.1 (cw.fS hw hi) rfl (Nat.le_of_ble_eq_true rfl) (cw.fS hw hi) (fun q h => by cases h; exact (cw.inF hw hi)) dX1_cut_199 (fun rv9 H locs hQ hz9 hk9 hS => ?_)
        obtain ⟨rfl, hat⟩ := hQ
        replace h_x := h_x.kept (hk9 _ h_x.lt (Ne.symm (nlx _ ⟨2, i, hi, rfl⟩)))
        replace h_p := h_p.kept (hk9 _ h_p.lt (Ne.symm (nlp _ ⟨2, i, hi, rfl⟩)))
        replace hw : cw g (fA (xF ax ap la n) sz) lv (sc, sw, ar, va_up fd i (ob11 (fd i 0) (fd i 1) (fd i 2) ((fd i 3) - (jmin t (fd i 3))) 60 0 (f_F_renew_6 (fd i 6)) (f_F_renew_7 (fd i 7)) 0 0 0), tr, cutLd ld (n 2) i t 0 (sc 0) (fd i) mm, (va_up n 2 (n 2 + mm))) H := cw.setF2c hw hi hat (fun q h9 h8 => hk9 q h9 h8)
        refine W.eq (g2 := F0 m 202 ls []) rfl ?_
        refine lv_iload hx hb dX1_cut_202 (lv_at hl 1 rfl) ?_
        exact ri hx hb hr hlocks hS (⟨rfl, lv, by rw [cutF, if_pos c_3]; exact hw, h_x, h_p, inx, inp, nxp, nlx, nlp⟩) ⟨(by omega), (by omega)⟩ dX1_cut_204
    | succ d_2 ih =>
      intro j H locs ls lv hid hS h_x h_p hw nlx nlp hl
      have hi_j : j < mm := by omega
      have hcb : 2 * lv.2.1 2 ≤ 20 + 3 * (n 2 + j) := (hw.2 2 (by decide)).2.2.2
      refine lv_iload hx hb dX1_cut_109 (lv_at hl 0 rfl) ?_
      refine lv_iload hx hb dX1_cut_111 (lv_at hl 1 rfl) ?_
      refine lv_icmp_ge (tgt := 169) hx hb dX1_cut_113 (by decide) (fun h9 => absurd h9 (nI_ge hi_j hm31)) (fun _ => ?_)
      refine lv_aload_n hx hb dX1_cut_116 rfl (lv_at hl 6 rfl) ?_
      refine mget fx tfX1 h_x 0 (by decide) q209 (fun _ h => h) (v := .ref (lv.1 0 0)) rfl dX1_cut_117 ?_
      refine mgetN fx tfX2 (cw.w hw) 2 (by decide) q125 (fun _ h => h) (v := .ref (lv.1 0 3)) rfl dX1_cut_120 ?_
      refine mnew fx [.int 0, .int 0, .int 0, .int 0, .int 0, .int 0, .int 0, .int 0, .int 0] tfX9 q292 q504 q75 hS dv_X9 ⟨(by show j + lv.2.1 2 + 1 ≤ 160; omega), (by show 9 * j + 4 * lv.2.1 2 + 9 ≤ 700; omega)⟩ dX1_cut_123 (fun an_5 H ean_5 hloan_5 hat hz hoq hS => ?_)
      have ne_6 : ax ≠ an_5 := Nat.ne_of_lt (by rw [ean_5]; exact h_x.lt)
      replace h_x := h_x.kept (hoq _ (by rw [ean_5]; exact h_x.lt))
      have ne_7 : ap ≠ an_5 := Nat.ne_of_lt (by rw [ean_5]; exact h_p.lt)
      replace h_p := h_p.kept (hoq _ (by rw [ean_5]; exact h_p.lt))
      have nin_8 : ∀ q, cF lv (va_up n 2 (n 2 + j)) q → q ≠ an_5 := fun q h9 => Nat.ne_of_lt (by rw [ean_5]; exact hw.1.ftlt q h9)
      replace hw : cw g (fA (xF ax ap la n) sz) lv (sc, sw, ar, fd, tr, cutLd ld (n 2) i t 0 (sc 0) (fd i) j, (va_up n 2 (n 2 + j))) H := cw.kept hw (fun q h9 _ => hoq q (by rw [ean_5]; exact h9))
      have inan_5 := hAs an_5 hloan_5
      have hn_4 : mAt g an_5 (.inr (9, [.int 0, .int 0, .int 0, .int 0, .int 0, .int 0, .int 0, .int 0, .int 0])) H := hat
      refine lv_dup hx hb dX1_cut_126 rfl ?_
      refine lv_iload_n hx hb dX1_cut_127 rfl (lv_at hl 7 rfl) ?_
      refine lv_bipush (v := 20) hx hb dX1_cut_128 (by decide) ?_
      refine lv_iload hx hb dX1_cut_130 (lv_at hl 2 rfl) ?_
      refine lv_bipush (v := 20) hx hb dX1_cut_132 (by decide) ?_
      refine lv_iload hx hb dX1_cut_134 (lv_at hl 0 rfl) ?_
      refine lv_imul hx hb dX1_cut_136 ?_
      refine lv_isub hx hb dX1_cut_137 ?_
      refine kS fx (m_min l g 20 (((jmin t (fd i 3)) - 0) - (20 * (nI j)))) (lw_S q440 q411 q67 q412) hdJ12_min ⟨(Nat.le_of_ble_eq_true rfl), (Nat.le_of_ble_eq_true rfl)⟩ ⟨(by show j + lv.2.1 2 + 1 + 0 ≤ 160; omega), (by show 9 * j + 4 * lv.2.1 2 + 9 + 0 ≤ 700; omega)⟩ hl.1 hS rfl (Nat.le_of_ble_eq_true rfl) trivial (fun _ h => h.elim) dX1_cut_138 (fun rv9 H locs hQ hz9 hk9 hS => ?_)
      obtain ⟨rfl, rfl⟩ := hQ
      refine W.eq (g2 := F0 m 141 ls [.int (jmin 20 (((jmin t (fd i 3)) - 0) - (20 * (nI j)))), .int (nI i), .ref an_5, .ref an_5, .ref (lv.1 0 3)]) rfl ?_
      refine lv_aload_n hx hb dX1_cut_141 rfl (lv_at hl 5 rfl) ?_
      refine mgetN fx tfX5 (cw.f hw hi) 4 (by decide) q318 (fun _ h => h) (v := .int (fd i 4)) rfl dX1_cut_142 ?_
      refine lv_aload_n hx hb dX1_cut_145 rfl (lv_at hl 5 rfl) ?_
      refine mgetN fx tfX5 (cw.f hw hi) 10 (by decide) q331 (fun _ h => h) (v := .int (fd i 10)) rfl dX1_cut_146 ?_
      refine lv_aload_n hx hb dX1_cut_149 rfl (lv_at hl 6 rfl) ?_
      refine mget fx tfX1 h_x 0 (by decide) q209 (fun _ h => h) (v := .ref (lv.1 0 0)) rfl dX1_cut_150 ?_
      refine mgetN fx tfX2 (cw.w hw) 6 (by decide) q133 (fun _ h => h) (v := .int (sc 0)) rfl dX1_cut_153 ?_
      refine kI fx (m_L_init l g an_5  (nI i) (jmin 20 (((jmin t (fd i 3)) - 0) - (20 * (nI j)))) (fd i 4) (fd i 10) (sc 0) (fx.2.2.2.2.2.1 _ inan_5) ((hv.1 i hi).2.2.2)) q507 q75 q800 q506 rfl hdX9_init ⟨(Nat.le_of_ble_eq_true rfl), (Nat.le_of_ble_eq_true rfl)⟩ ⟨(by show j + lv.2.1 2 + 1 + 0 ≤ 160; omega), (by show 9 * j + 4 * lv.2.1 2 + 9 + 0 ≤ 700; omega)⟩ hl.1 hS rfl (Nat.le_of_ble_eq_true rfl) hn_4 (fun q h => by cases h; exact inan_5) dX1_cut_156 (fun rv9 H locs hQ hz9 hk9 hS => ?_)
      obtain ⟨rfl, hat⟩ := hQ
      replace h_x := h_x.kept (hk9 _ h_x.lt ne_6)
      replace h_p := h_p.kept (hk9 _ h_p.lt ne_7)
      replace hn_4 : mAt g an_5 (.inr (9, [.int (nI i), .int (jmin 20 (((jmin t (fd i 3)) - 0) - (20 * (nI j)))), .int (f_L_init_2 (fd i 10)), .int (fd i 10), .int (sc 0), .int (fd i 4), .int 0, .int 0, .int (-1)])) H := hat
      replace hw : cw g (fA (xF ax ap la n) sz) lv (sc, sw, ar, fd, tr, cutLd ld (n 2) i t 0 (sc 0) (fd i) j, (va_up n 2 (n 2 + j))) H := cw.kept hw (fun q h9 hf9 => hk9 _ h9 (nin_8 q hf9))
      refine W.eq (g2 := F0 m 159 ls [.ref an_5, .ref (lv.1 0 3)]) rfl ?_
      obtain ⟨pa, pea, pe0, pnc, pc, pf, ped, pels, pfr, pcap⟩ := cw.addP2 hw fx.2.2.2.2.2.1
      have hcp := newCap_le _ _ pnc pcap
      have hlt_9 := h_x.lt
      have hlt_10 := h_p.lt
      have hbk : ∀ q, fA (fun q => q = lv.1 0 3 ∨ (lv.2.1 2 ≠ 0 ∧ q = lv.1 1 2)) H.size q → (fA (xF ax ap la n) sz) q := fun q h9 => (pfr q h9).elim (hw.1.ft q) (fun h8 => hAs q (Nat.le_trans hS.1 h8))
      have hSb := hS
      refine kV fx (m_AL_add l g (lv.1 0 3) an_5 (lv.1 1 2) ((va_up n 2 (n 2 + j)) 2) (lv.2.1 2) _ (lv.2.2 2) (elF lv.1 (va_up n 2 (n 2 + j)) 2) pa pea pe0 (Ne.symm (nin_8 _ ⟨0, 3, (by show 3 < 7; decide), rfl⟩)) pnc pc pf) (lw_V q355 q356 q357 q54 q358) hdJ2_add ⟨(Nat.le_of_ble_eq_true rfl), (Nat.le_of_ble_eq_true rfl)⟩ ⟨(by have hnk : (va_up n 2 (n 2 + j)) 2 = n 2 + j := rfl; have := hcp.2.2.1; have := hcp.2.1; show j + lv.2.1 2 + 1 + (if (va_up n 2 (n 2 + j)) 2 < lv.2.1 2 then 0 else 1) ≤ 160; omega), (by have hnk : (va_up n 2 (n 2 + j)) 2 = n 2 + j := rfl; have := hcp.2.2.2.1; have := hcp.2.1; show 9 * j + 4 * lv.2.1 2 + 9 + (if (va_up n 2 (n 2 + j)) 2 < lv.2.1 2 then 0 else newCap ((va_up n 2 (n 2 + j)) 2) (lv.2.1 2)) ≤ 700; omega)⟩ hl.1 hS tfJ2.2.1 (cw.al2 hw) rfl (Nat.le_of_ble_eq_true rfl) (⟨rfl, (cw.al2 hw), ped, pels, mEl_L hn_4⟩) (fun q h9 => hbk q h9) dX1_cut_159 (fun rv9 H locs hQ hz9 hk9 hS => ?_)
      obtain ⟨ea9, rfl, he9, hl9, hea9⟩ := hQ
      have hw9 := cw.addL hw (by show n 2 + j < 2 ^ 20; omega) hn_4 nin_8 he9 hl9 hea9 hk9
      replace h_x := h_x.kept (hk9 _ h_x.lt (fun h9 => (pfr _ h9).elim (fun h8 => nlx _ h8 rfl) (Nat.not_le.mpr h_x.lt)))
      replace h_p := h_p.kept (hk9 _ h_p.lt (fun h9 => (pfr _ h9).elim (fun h8 => nlp _ h8 rfl) (Nat.not_le.mpr h_p.lt)))
      obtain ⟨lc_11, hla⟩ : ∃ z, z = adA lv (va_up n 2 (n 2 + j)) 2 ea9 an_5 := ⟨_, rfl⟩
      rw [← hla] at hw9
      have hft9 := hw9.1.ft
      have hbk2 : ∀ q, (fA (cF lv (va_up n 2 (n 2 + j))) _ q ∨ q = an_5) → (fA (xF ax ap la n) sz) q := fun q h9 => h9.elim (fun h8 => h8.elim (hw.1.ft q) (fun h7 => hAs q (Nat.le_trans hSb.1 h7))) (fun h8 => by rw [h8]; exact inan_5)
      replace hw9 := cw.weaken hw9 hbk2
      rw [nU_s] at hw9
      replace hw : cw g (fA (xF ax ap la n) sz) lc_11 (sc, sw, ar, fd, tr, va_up (cutLd ld (n 2) i t 0 (sc 0) (fd i) j) ((va_up n 2 (n 2 + j)) 2) (ob9 (nI i) (jmin 20 (((jmin t (fd i 3)) - 0) - (20 * (nI j)))) (f_L_init_2 (fd i 10)) (fd i 10) (sc 0) (fd i 4) 0 0 (-1)), (va_up n 2 (n 2 + (j + 1)))) H := hw9
      have nin_12 : ∀ q, cF lc_11 (va_up n 2 (n 2 + (j + 1))) q → q ≠ ax := fun q h9 => (hft9 q (by rw [nU_s]; exact h9)).elim (fun h8 => h8.elim (nlx q) (fun h7 => Nat.ne_of_gt (Nat.lt_of_lt_of_le hlt_9 h7))) (fun h8 => by rw [h8]; exact (Ne.symm ne_6))
      have nin_13 : ∀ q, cF lc_11 (va_up n 2 (n 2 + (j + 1))) q → q ≠ ap := fun q h9 => (hft9 q (by rw [nU_s]; exact h9)).elim (fun h8 => h8.elim (nlp q) (fun h7 => Nat.ne_of_gt (Nat.lt_of_lt_of_le hlt_10 h7))) (fun h8 => by rw [h8]; exact (Ne.symm ne_7))
      have h01 : lc_11.1 0 0 = lv.1 0 0 := by rw [hla]; exact adA_0
      replace h_x : mAt g ax (.inr (0, [.ref (lc_11.1 0 0), .ref ap, .int (xi 0), .int (xi 1), .int (xi 2), .int (xi 3), .int (xi 4), .int (xi 5), .int ((xi 6) + 0), .long sm])) H := by rw [h01]; exact h_x
      have hq0 : lc_11.2.1 0 = lv.2.1 0 := by rw [hla]; rfl
      have hq1 : lc_11.2.1 1 = lv.2.1 1 := by rw [hla]; rfl
      have hq2 : lc_11.2.1 2 = newCap ((va_up n 2 (n 2 + j)) 2) (lv.2.1 2) := by rw [hla]; rfl
      have h0o : lc_11.1 2 i = lv.1 2 i := by rw [hla]; exact adA_o (by omega) (by omega)
      rw [← h0o] at hl
      refine W.eq (g2 := F0 m 162 ls [.int 1]) rfl ?_
      refine lv_pop hx hb dX1_cut_162 rfl ?_
      refine lv_iinc (v := nI (j + 1)) (lv' := [(8, .int (nI (j + 1))), (7, .int (nI mm)), (6, .int ((jmin t (fd i 3)) - 0)), (5, .int 0), (4, .int (jmin t (fd i 3))), (3, .ref (lc_11.1 2 i)), (0, .ref ax), (1, .int (nI i)), (2, .int t)]) hx hb dX1_cut_163 hl (k := 0) rfl (nI_1 _) (by decide) rfl (fun ls hl => ?_)
      refine lv_goto (tgt := 109) hx hb dX1_cut_166 (by decide) ?_
      refine W.widen (k := (j + 1) + lv.2.1 2) (n := 9 * (j + 1) + 4 * lv.2.1 2) (by omega) (by omega) ?_
      exact ih (j + 1) H locs ls _ (by omega) hS h_x h_p hw nin_12 nin_13 (lv_sub hl [0, 1, 2, 3, 4, 5, 6, 7, 8] rfl)
  refine W.widen (k := 0 + lv.2.1 2) (n := 9 * 0 + 4 * lv.2.1 2) (by omega) (by omega) ?_
  exact lp_1 (mm - 0) 0 H locs ls _ (by omega) hS h_x h_p (by rw [nU_0]; exact hw) (by rw [nU_0]; exact nfx) (by rw [nU_0]; exact nfp) (lv_sub hl [0, 1, 2, 3, 4, 5, 6, 7, 8] rfl)

set_option maxHeartbeats 4000000 in
theorem m_X_cutB (l : Launch) (g : GT) (sz ax ap : Nat) (la : LT) (sc : Nat → Int32) (sw : Int64) (ar fd tr ld : Nat → Nat → Int32) (n : CN) (xi : Nat → Int32) (sm : Int64) (pd : Nat → Int32) (hn : cN n) (hv : cV n fd tr ld) (i mm : Nat) (t : Int32) (hi : i < n 0) (hc : ¬ fd i 3 ≤ 0) (hok : ¬ isFromF 1 200 t = 0) (hst8 : ¬ fd i 8 = 0) (hmm : (((((jmin t (fd i 3)) - (((jmin t (fd i 3)) + 4) / 5)) + 20) - 1) / 20) = nI mm) (hm : n 2 + mm ≤ 90) : Cn l g yX1_cut cX1_cut 9 ((some .int)) 7 160 700 [.ref ax, .int (nI i), .int t] (fA (xF ax ap la n) sz) (fun H => sz = H.size ∧ xw g (bA g) ax ap la (sc, sw, ar, fd, tr, ld, n) xi sm pd H) (fun Hp rv Hq => rv = some (.int (nI mm)) ∧ ∃ lb : LT, xw g (fA (xF ax ap la n) sz) ax ap lb (sc, sw, ar, va_up fd i (cutF (fd i) t), tr, cutLd ld (n 2) i t (((jmin t (fd i 3)) + 4) / 5) (sc 0) (fd i) mm, va_up n 2 (n 2 + mm)) (va_up xi 6 (xi 6 + (((jmin t (fd i 3)) + 4) / 5))) sm pd Hq) := by
  refine Cn.start (plainFor_of_name (by decide +kernel)) (Nat.le_of_ble_eq_true rfl) ?_
  intro p ev s m below meth c ls H locs hH hx hb hr hts hown hlocks hml hnm hK hP hS hl
  obtain ⟨hsz, hxw⟩ := hP
  have hszs : sz = s.heap.size := by rw [hsz, hH]
  have hAs : ∀ q, s.heap.size ≤ q → (fA (xF ax ap la n) sz) q := fun q h => Or.inr (by rw [hszs]; exact h)
  have hAb : ∀ q, (fA (xF ax ap la n) sz) q → bA g q := fun q h => h.elim (hxw.ft q) (fun h => Nat.le_trans hK.2.2.sz (by rw [← hszs]; exact h))
  obtain ⟨hw, h_x, h_p, inx, inp, nxp, nfx, nfp⟩ := hxw.self sz
  have h90 : ¬ 90 < nI (n 2) + nI mm := by rw [nI_add]; exact fun h9 => absurd ((nI_ltI (a := 90) (by decide) (by omega)).mp h9) (by omega)
  have hm31 : mm < 2 ^ 31 := by omega
  have fx : Fx p s m ([.ref ax, .int (nI i), .int t] : List Value).toArray c cX1_cut RX1 g (fA (xF ax ap la n) sz) 9 := ⟨hx, hb, hts, hown, hK, hAb, hml⟩
  have hl : lv_has ls 9 [(0, .ref ax), (1, .int (nI i)), (2, .int t)] := hl
  refine lv_aload_n hx hb dX1_cut_0 rfl (lv_at hl 0 rfl) ?_
  refine lv_iload_n hx hb dX1_cut_1 rfl (lv_at hl 1 rfl) ?_
  refine kV fx (m_X_fieldAt l g ax ap la sc sw ar fd tr ld n xi sm pd hn i hi) (lw_V q775 q777 qs23 q50 q778) hdX1_fieldAt ⟨(Nat.le_of_ble_eq_true rfl), (Nat.le_of_ble_eq_true rfl)⟩ ⟨(Nat.le_of_ble_eq_true rfl), (Nat.le_of_ble_eq_true rfl)⟩ hl.1 hS tfX1.2.1 h_x rfl (Nat.le_of_ble_eq_true rfl) (xw.weaken ⟨hw, h_x, h_p, inx, inp, nxp, nfx, nfp⟩ fx.2.2.2.2.2.1) (fun _ h => h.elim) dX1_cut_2 (fun rv9 H locs hQ hz9 hk9 hS => ?_)
  obtain ⟨rfl, rfl⟩ := hQ
  refine W.eq (g2 := F0 m 5 ls [.ref (la.1 2 i)]) rfl ?_
  refine lv_astore_n (lv' := [(3, .ref (la.1 2 i)), (0, .ref ax), (1, .int (nI i)), (2, .int t)]) hx hb dX1_cut_5 rfl hl (by decide) rfl (fun ls hl => ?_)
  refine lv_iconst (v := 1) hx hb dX1_cut_6 (by decide) ?_
  refine lv_sipush (v := 200) hx hb dX1_cut_7 (by decide) ?_
  refine lv_iload_n hx hb dX1_cut_10 rfl (lv_at hl 3 rfl) ?_
  refine kS fx (m_isFrom l g 1 200 t) (lw_S q720 q721 q50 q722) hdX1_isFrom ⟨(Nat.le_of_ble_eq_true rfl), (Nat.le_of_ble_eq_true rfl)⟩ ⟨(Nat.le_of_ble_eq_true rfl), (Nat.le_of_ble_eq_true rfl)⟩ hl.1 hS rfl (Nat.le_of_ble_eq_true rfl) trivial (fun _ h => h.elim) dX1_cut_11 (fun rv9 H locs hQ hz9 hk9 hS => ?_)
  obtain ⟨rfl, rfl⟩ := hQ
  refine W.eq (g2 := F0 m 14 ls [.int (isFromF 1 200 t)]) rfl ?_
  refine kS fx (m_require l g (isFromF 1 200 t) hok) (lw_S q723 q724 q50 q725) hdX1_require ⟨(Nat.le_of_ble_eq_true rfl), (Nat.le_of_ble_eq_true rfl)⟩ ⟨(Nat.le_of_ble_eq_true rfl), (Nat.le_of_ble_eq_true rfl)⟩ hl.1 hS rfl (Nat.le_of_ble_eq_true rfl) trivial (fun _ h => h.elim) dX1_cut_14 (fun rv9 H locs hQ hz9 hk9 hS => ?_)
  obtain ⟨rfl, rfl⟩ := hQ
  refine W.eq (g2 := F0 m 17 ls []) rfl ?_
  refine lv_aload_n hx hb dX1_cut_17 rfl (lv_at hl 0 rfl) ?_
  refine mgetN fx tfX5 (cw.f hw hi) 3 (by decide) q316 (fun _ h => h) (v := .int (fd i 3)) rfl dX1_cut_18 ?_
  refine lv_if_le (tgt := 28) hx hb dX1_cut_21 (by decide) (fun h9 => absurd h9 hc) (fun _ => ?_)
  refine lv_iconst (v := 1) hx hb dX1_cut_24 (by decide) ?_
  refine lv_goto (tgt := 29) hx hb dX1_cut_25 (by decide) ?_
  refine kS fx (m_requireState l g 1 (by decide)) (lw_S q741 q742 q50 q743) hdX1_requireState ⟨(Nat.le_of_ble_eq_true rfl), (Nat.le_of_ble_eq_true rfl)⟩ ⟨(Nat.le_of_ble_eq_true rfl), (Nat.le_of_ble_eq_true rfl)⟩ hl.1 hS rfl (Nat.le_of_ble_eq_true rfl) trivial (fun _ h => h.elim) dX1_cut_29 (fun rv9 H locs hQ hz9 hk9 hS => ?_)
  obtain ⟨rfl, rfl⟩ := hQ
  refine W.eq (g2 := F0 m 32 ls []) rfl ?_
  refine lv_iload_n hx hb dX1_cut_32 rfl (lv_at hl 3 rfl) ?_
  refine lv_aload_n hx hb dX1_cut_33 rfl (lv_at hl 0 rfl) ?_
  refine mgetN fx tfX5 (cw.f hw hi) 3 (by decide) q316 (fun _ h => h) (v := .int (fd i 3)) rfl dX1_cut_34 ?_
  refine kS fx (m_min l g t (fd i 3)) (lw_S q440 q411 q67 q412) hdJ12_min ⟨(Nat.le_of_ble_eq_true rfl), (Nat.le_of_ble_eq_true rfl)⟩ ⟨(Nat.le_of_ble_eq_true rfl), (Nat.le_of_ble_eq_true rfl)⟩ hl.1 hS rfl (Nat.le_of_ble_eq_true rfl) trivial (fun _ h => h.elim) dX1_cut_37 (fun rv9 H locs hQ hz9 hk9 hS => ?_)
  obtain ⟨rfl, rfl⟩ := hQ
  refine W.eq (g2 := F0 m 40 ls [.int (jmin t (fd i 3))]) rfl ?_
  refine lv_istore (lv' := [(4, .int (jmin t (fd i 3))), (3, .ref (la.1 2 i)), (0, .ref ax), (1, .int (nI i)), (2, .int t)]) hx hb dX1_cut_40 hl (by decide) rfl (fun ls hl => ?_)
  refine lv_aload_n hx hb dX1_cut_42 rfl (lv_at hl 1 rfl) ?_
  refine mgetN fx tfX5 (cw.f hw hi) 8 (by decide) q327 (fun _ h => h) (v := .int (fd i 8)) rfl dX1_cut_43 ?_
  refine lv_if_eq (tgt := 58) hx hb dX1_cut_46 (by decide) (fun h9 => absurd h9 hst8) (fun _ => ?_)
  refine lv_iload hx hb dX1_cut_49 (lv_at hl 0 rfl) ?_
  refine lv_iconst (v := 4) hx hb dX1_cut_51 (by decide) ?_
  refine lv_iadd hx hb dX1_cut_52 ?_
  refine lv_iconst (v := 5) hx hb dX1_cut_53 (by decide) ?_
  refine lv_idiv hx hb dX1_cut_54 (by decide) ?_
  refine lv_goto (tgt := 59) hx hb dX1_cut_55 (by decide) ?_
  refine lv_istore (lv' := [(5, .int (((jmin t (fd i 3)) + 4) / 5)), (4, .int (jmin t (fd i 3))), (3, .ref (la.1 2 i)), (0, .ref ax), (1, .int (nI i)), (2, .int t)]) hx hb dX1_cut_59 hl (by decide) rfl (fun ls hl => ?_)
  refine lv_iload hx hb dX1_cut_61 (lv_at hl 1 rfl) ?_
  refine lv_iload hx hb dX1_cut_63 (lv_at hl 0 rfl) ?_
  refine lv_isub hx hb dX1_cut_65 ?_
  refine lv_istore (lv' := [(6, .int ((jmin t (fd i 3)) - (((jmin t (fd i 3)) + 4) / 5))), (5, .int (((jmin t (fd i 3)) + 4) / 5)), (4, .int (jmin t (fd i 3))), (3, .ref (la.1 2 i)), (0, .ref ax), (1, .int (nI i)), (2, .int t)]) hx hb dX1_cut_66 hl (by decide) rfl (fun ls hl => ?_)
  refine lv_iload hx hb dX1_cut_68 (lv_at hl 0 rfl) ?_
  refine lv_bipush (v := 20) hx hb dX1_cut_70 (by decide) ?_
  refine lv_iadd hx hb dX1_cut_72 ?_
  refine lv_iconst (v := 1) hx hb dX1_cut_73 (by decide) ?_
  refine lv_isub hx hb dX1_cut_74 ?_
  refine lv_bipush (v := 20) hx hb dX1_cut_75 (by decide) ?_
  refine lv_idiv hx hb dX1_cut_77 (by decide) ?_
  rw [hmm]
  refine lv_istore (lv' := [(7, .int (nI mm)), (6, .int ((jmin t (fd i 3)) - (((jmin t (fd i 3)) + 4) / 5))), (5, .int (((jmin t (fd i 3)) + 4) / 5)), (4, .int (jmin t (fd i 3))), (3, .ref (la.1 2 i)), (0, .ref ax), (1, .int (nI i)), (2, .int t)]) hx hb dX1_cut_78 hl (by decide) rfl (fun ls hl => ?_)
  refine lv_aload_n hx hb dX1_cut_80 rfl (lv_at hl 5 rfl) ?_
  refine mget fx tfX1 h_x 0 (by decide) q209 (fun _ h => h) (v := .ref (la.1 0 0)) rfl dX1_cut_81 ?_
  refine mgetN fx tfX2 (cw.w hw) 2 (by decide) q125 (fun _ h => h) (v := .ref (la.1 0 3)) rfl dX1_cut_84 ?_
  refine kV fx (m_AL_size l g (la.1 0 3) (la.1 1 2) (la.2.2 2) (nI (n 2))) (lw_V q253 q254 q255 q54 q256) hdJ2_size ⟨(Nat.le_of_ble_eq_true rfl), (Nat.le_of_ble_eq_true rfl)⟩ ⟨(Nat.le_of_ble_eq_true rfl), (Nat.le_of_ble_eq_true rfl)⟩ hl.1 hS tfJ2.2.1 (cw.al2 hw) rfl (Nat.le_of_ble_eq_true rfl) (cw.al2 hw) (fun _ h => h.elim) dX1_cut_87 (fun rv9 H locs hQ hz9 hk9 hS => ?_)
  obtain ⟨rfl, rfl⟩ := hQ
  refine W.eq (g2 := F0 m 90 ls [.int (nI (n 2))]) rfl ?_
  refine lv_iload hx hb dX1_cut_90 (lv_at hl 0 rfl) ?_
  refine lv_iadd hx hb dX1_cut_92 ?_
  refine lv_bipush (v := 90) hx hb dX1_cut_93 (by decide) ?_
  refine lv_icmp_gt (tgt := 102) hx hb dX1_cut_95 (by decide) (fun h9 => absurd h9 h90) (fun _ => ?_)
  refine lv_iconst (v := 1) hx hb dX1_cut_98 (by decide) ?_
  refine lv_goto (tgt := 103) hx hb dX1_cut_99 (by decide) ?_
  refine kS fx (m_requireState l g 1 (by decide)) (lw_S q741 q742 q50 q743) hdX1_requireState ⟨(Nat.le_of_ble_eq_true rfl), (Nat.le_of_ble_eq_true rfl)⟩ ⟨(Nat.le_of_ble_eq_true rfl), (Nat.le_of_ble_eq_true rfl)⟩ hl.1 hS rfl (Nat.le_of_ble_eq_true rfl) trivial (fun _ h => h.elim) dX1_cut_103 (fun rv9 H locs hQ hz9 hk9 hS => ?_)
  obtain ⟨rfl, rfl⟩ := hQ
  refine W.eq (g2 := F0 m 106 ls []) rfl ?_
  refine lv_iconst (v := 0) hx hb dX1_cut_106 (by decide) ?_
  refine lv_istore (lv' := [(8, .int 0), (7, .int (nI mm)), (6, .int ((jmin t (fd i 3)) - (((jmin t (fd i 3)) + 4) / 5))), (5, .int (((jmin t (fd i 3)) + 4) / 5)), (4, .int (jmin t (fd i 3))), (3, .ref (la.1 2 i)), (0, .ref ax), (1, .int (nI i)), (2, .int t)]) hx hb dX1_cut_107 hl (by decide) rfl (fun ls hl => ?_)
  have lp_1 : ∀ (d_2 j : Nat) (H : Heap) (locs : List Loc) (ls : Array Slot) (lv : LT), j + d_2 = mm → va_S (fA (xF ax ap la n) sz) s.heap H locs → mAt g ax (.inr (0, [.ref (lv.1 0 0), .ref ap, .int (xi 0), .int (xi 1), .int (xi 2), .int (xi 3), .int (xi 4), .int (xi 5), .int (xi 6), .long sm])) H → mAt g ap (.inl (g.2.1 0, 4, .inl pd)) H → cw g (fA (xF ax ap la n) sz) lv (sc, sw, ar, fd, tr, cutLd ld (n 2) i t (((jmin t (fd i 3)) + 4) / 5) (sc 0) (fd i) j, (va_up n 2 (n 2 + j))) H → (∀ q, cF lv (va_up n 2 (n 2 + j)) q → q ≠ ax) → (∀ q, cF lv (va_up n 2 (n 2 + j)) q → q ≠ ap) → lv_has ls 9 [(8, .int (nI j)), (7, .int (nI mm)), (6, .int ((jmin t (fd i 3)) - (((jmin t (fd i 3)) + 4) / 5))), (5, .int (((jmin t (fd i 3)) + 4) / 5)), (4, .int (jmin t (fd i 3))), (3, .ref (lv.1 2 i)), (0, .ref ax), (1, .int (nI i)), (2, .int t)] → W p l ev (mR 7 160 700) s m ([.ref ax, .int (nI i), .int t] : List Value).toArray below meth c H locs (j + lv.2.1 2) (9 * j + 4 * lv.2.1 2) (MQ below (mQ (fA (xF ax ap la n) sz) (fun Hp rv Hq => rv = some (.int (nI mm)) ∧ ∃ lb : LT, xw g (fA (xF ax ap la n) sz) ax ap lb (sc, sw, ar, va_up fd i (cutF (fd i) t), tr, cutLd ld (n 2) i t (((jmin t (fd i 3)) + 4) / 5) (sc 0) (fd i) mm, va_up n 2 (n 2 + mm)) (va_up xi 6 (xi 6 + (((jmin t (fd i 3)) + 4) / 5))) sm pd Hq)) ([.ref ax, .int (nI i), .int t] : List Value).toArray s 160 700 (fA (xF ax ap la n) sz)) (F0 m 109 ls []) := by
    intro d_2
    induction d_2 with
    | zero =>
      intro j H locs ls lv hid hS h_x h_p hw nlx nlp hl
      obtain rfl : mm = j := by omega
      have hcb : 2 * lv.2.1 2 ≤ 20 + 3 * (n 2 + mm) := (hw.2 2 (by decide)).2.2.2
      refine lv_iload hx hb dX1_cut_109 (lv_at hl 0 rfl) ?_
      refine lv_iload hx hb dX1_cut_111 (lv_at hl 1 rfl) ?_
      refine lv_icmp_ge (tgt := 169) hx hb dX1_cut_113 (by decide) (fun _ => ?_) (fun h9 => absurd (nI_le (Nat.le_refl _) hm31) h9)
      refine lv_aload_n hx hb dX1_cut_169 rfl (lv_at hl 6 rfl) ?_
      refine lv_dup hx hb dX1_cut_170 rfl ?_
      refine mget fx tfX1 h_x 8 (by decide) q217 (fun _ h => h) (v := .int (xi 6)) rfl dX1_cut_171 ?_
      refine lv_iload hx hb dX1_cut_174 (lv_at hl 3 rfl) ?_
      refine lv_iadd hx hb dX1_cut_176 ?_
      refine mput fx tfX1 h_x hS inx 8 (by decide) q217 (fun _ h => h) rfl rfl rfl (Nat.le_of_ble_eq_true rfl) dX1_cut_177 (fun H locs hat hz hoq hS => ?_)
      replace h_p := h_p.kept (hoq _ (Ne.symm nxp))
      replace h_x : mAt g ax (.inr (0, [.ref (lv.1 0 0), .ref ap, .int (xi 0), .int (xi 1), .int (xi 2), .int (xi 3), .int (xi 4), .int (xi 5), .int ((xi 6) + (((jmin t (fd i 3)) + 4) / 5)), .long sm])) H := hat
      replace hw : cw g (fA (xF ax ap la n) sz) lv (sc, sw, ar, fd, tr, cutLd ld (n 2) i t (((jmin t (fd i 3)) + 4) / 5) (sc 0) (fd i) mm, (va_up n 2 (n 2 + mm))) H := cw.kept hw (fun q h9 hf9 => hoq _ (nlx q hf9))
      refine lv_aload_n hx hb dX1_cut_180 rfl (lv_at hl 5 rfl) ?_
      refine lv_dup hx hb dX1_cut_181 rfl ?_
      refine mgetN fx tfX5 (cw.f hw hi) 3 (by decide) q316 (fun _ h => h) (v := .int (fd i 3)) rfl dX1_cut_182 ?_
      refine lv_iload hx hb dX1_cut_185 (lv_at hl 4 rfl) ?_
      refine lv_isub hx hb dX1_cut_187 ?_
      refine mputN fx tfX5 (cw.f hw hi) hS (cw.inF hw hi) 3 (by decide) q316 (fun _ h => h) rfl rfl rfl (Nat.le_of_ble_eq_true rfl) dX1_cut_188 (fun H locs hat hz hoq hS => ?_)
      replace h_x := h_x.kept (hoq _ (Ne.symm (nlx _ ⟨2, i, hi, rfl⟩)))
      replace h_p := h_p.kept (hoq _ (Ne.symm (nlp _ ⟨2, i, hi, rfl⟩)))
      replace hw : cw g (fA (xF ax ap la n) sz) lv (sc, sw, ar, va_up fd i (ob11 (fd i 0) (fd i 1) (fd i 2) ((fd i 3) - (jmin t (fd i 3))) (fd i 4) (fd i 5) (fd i 6) (fd i 7) (fd i 8) (fd i 9) (fd i 10)), tr, cutLd ld (n 2) i t (((jmin t (fd i 3)) + 4) / 5) (sc 0) (fd i) mm, (va_up n 2 (n 2 + mm))) H := cw.setFc hw hi hat (fun q _ h9 => hoq q h9)
      refine lv_aload_n hx hb dX1_cut_191 rfl (lv_at hl 5 rfl) ?_
      refine mgetN fx tfX5 (cw.fS hw hi) 3 (by decide) q316 (fun _ h => h) (v := .int ((fd i 3) - (jmin t (fd i 3)))) rfl dX1_cut_192 ?_
      refine lv_if_ne (tgt := 202) hx hb dX1_cut_195 (by decide) (fun c_3 => ?_) (fun c_3 => ?_)
      · skip
        refine lv_iload hx hb dX1_cut_202 (lv_at hl 1 rfl) ?_
        exact ri hx hb hr hlocks hS (⟨rfl, lv, by rw [cutF, if_neg c_3]; exact hw, h_x, h_p, inx, inp, nxp, nlx, nlp⟩) ⟨(by omega), (by omega)⟩ dX1_cut_204
      · skip
        refine lv_aload_n hx hb dX1_cut_198 rfl (lv_at hl 5 rfl) ?_
        refine kV fx (m_F_renew l g (lv.1 2 i) (fd i 0) (fd i 1) (fd i 2) ((fd i 3) - (jmin t (fd i 3))) (fd i 4) (fd i 5) (fd i 6) (fd i 7) (fd i 8) (fd i 9) (fd i 10)  (fx.2.2.2.2.2.1 _ (cw.inF hw hi)) ) (lw_V q801 q802 q803 q65 q804) hdX5_renew ⟨(Nat.le_of_ble_eq_true rfl), (Nat.le_of_ble_eq_true rfl)⟩ ⟨(by show mm + lv.2.1 2 + 0 ≤ 160; omega), (by show 9 * mm + 4 * lv.2.1 2 + 0 ≤ 700; omega)⟩ hl.1 hS tfX5.2.1 (cw.fS hw hi) rfl (Nat.le_of_ble_eq_true rfl) (cw.fS hw hi) (fun q h => by cases h; exact (cw.inF hw hi)) dX1_cut_199 (fun rv9 H locs hQ hz9 hk9 hS => ?_)
        obtain ⟨rfl, hat⟩ := hQ
        replace h_x := h_x.kept (hk9 _ h_x.lt (Ne.symm (nlx _ ⟨2, i, hi, rfl⟩)))
        replace h_p := h_p.kept (hk9 _ h_p.lt (Ne.symm (nlp _ ⟨2, i, hi, rfl⟩)))
        replace hw : cw g (fA (xF ax ap la n) sz) lv (sc, sw, ar, va_up fd i (ob11 (fd i 0) (fd i 1) (fd i 2) ((fd i 3) - (jmin t (fd i 3))) 60 0 (f_F_renew_6 (fd i 6)) (f_F_renew_7 (fd i 7)) 0 0 0), tr, cutLd ld (n 2) i t (((jmin t (fd i 3)) + 4) / 5) (sc 0) (fd i) mm, (va_up n 2 (n 2 + mm))) H := cw.setF2c hw hi hat (fun q h9 h8 => hk9 q h9 h8)
        refine W.eq (g2 := F0 m 202 ls []) rfl ?_
        refine lv_iload hx hb dX1_cut_202 (lv_at hl 1 rfl) ?_
        exact ri hx hb hr hlocks hS (⟨rfl, lv, by rw [cutF, if_pos c_3]; exact hw, h_x, h_p, inx, inp, nxp, nlx, nlp⟩) ⟨(by omega), (by omega)⟩ dX1_cut_204
    | succ d_2 ih =>
      intro j H locs ls lv hid hS h_x h_p hw nlx nlp hl
      have hi_j : j < mm := by omega
      have hcb : 2 * lv.2.1 2 ≤ 20 + 3 * (n 2 + j) := (hw.2 2 (by decide)).2.2.2
      refine lv_iload hx hb dX1_cut_109 (lv_at hl 0 rfl) ?_
      refine lv_iload hx hb dX1_cut_111 (lv_at hl 1 rfl) ?_
      refine lv_icmp_ge (tgt := 169) hx hb dX1_cut_113 (by decide) (fun h9 => absurd h9 (nI_ge hi_j hm31)) (fun _ => ?_)
      refine lv_aload_n hx hb dX1_cut_116 rfl (lv_at hl 6 rfl) ?_
      refine mget fx tfX1 h_x 0 (by decide) q209 (fun _ h => h) (v := .ref (lv.1 0 0)) rfl dX1_cut_117 ?_
      refine mgetN fx tfX2 (cw.w hw) 2 (by decide) q125 (fun _ h => h) (v := .ref (lv.1 0 3)) rfl dX1_cut_120 ?_
      refine mnew fx [.int 0, .int 0, .int 0, .int 0, .int 0, .int 0, .int 0, .int 0, .int 0] tfX9 q292 q504 q75 hS dv_X9 ⟨(by show j + lv.2.1 2 + 1 ≤ 160; omega), (by show 9 * j + 4 * lv.2.1 2 + 9 ≤ 700; omega)⟩ dX1_cut_123 (fun an_5 H ean_5 hloan_5 hat hz hoq hS => ?_)
      have ne_6 : ax ≠ an_5 := Nat.ne_of_lt (by rw [ean_5]; exact h_x.lt)
      replace h_x := h_x.kept (hoq _ (by rw [ean_5]; exact h_x.lt))
      have ne_7 : ap ≠ an_5 := Nat.ne_of_lt (by rw [ean_5]; exact h_p.lt)
      replace h_p := h_p.kept (hoq _ (by rw [ean_5]; exact h_p.lt))
      have nin_8 : ∀ q, cF lv (va_up n 2 (n 2 + j)) q → q ≠ an_5 := fun q h9 => Nat.ne_of_lt (by rw [ean_5]; exact hw.1.ftlt q h9)
      replace hw : cw g (fA (xF ax ap la n) sz) lv (sc, sw, ar, fd, tr, cutLd ld (n 2) i t (((jmin t (fd i 3)) + 4) / 5) (sc 0) (fd i) j, (va_up n 2 (n 2 + j))) H := cw.kept hw (fun q h9 _ => hoq q (by rw [ean_5]; exact h9))
      have inan_5 := hAs an_5 hloan_5
      have hn_4 : mAt g an_5 (.inr (9, [.int 0, .int 0, .int 0, .int 0, .int 0, .int 0, .int 0, .int 0, .int 0])) H := hat
      refine lv_dup hx hb dX1_cut_126 rfl ?_
      refine lv_iload_n hx hb dX1_cut_127 rfl (lv_at hl 7 rfl) ?_
      refine lv_bipush (v := 20) hx hb dX1_cut_128 (by decide) ?_
      refine lv_iload hx hb dX1_cut_130 (lv_at hl 2 rfl) ?_
      refine lv_bipush (v := 20) hx hb dX1_cut_132 (by decide) ?_
      refine lv_iload hx hb dX1_cut_134 (lv_at hl 0 rfl) ?_
      refine lv_imul hx hb dX1_cut_136 ?_
      refine lv_isub hx hb dX1_cut_137 ?_
      refine kS fx (m_min l g 20 (((jmin t (fd i 3)) - (((jmin t (fd i 3)) + 4) / 5)) - (20 * (nI j)))) (lw_S q440 q411 q67 q412) hdJ12_min ⟨(Nat.le_of_ble_eq_true rfl), (Nat.le_of_ble_eq_true rfl)⟩ ⟨(by show j + lv.2.1 2 + 1 + 0 ≤ 160; omega), (by show 9 * j + 4 * lv.2.1 2 + 9 + 0 ≤ 700; omega)⟩ hl.1 hS rfl (Nat.le_of_ble_eq_true rfl) trivial (fun _ h => h.elim) dX1_cut_138 (fun rv9 H locs hQ hz9 hk9 hS => ?_)
      obtain ⟨rfl, rfl⟩ := hQ
      refine W.eq (g2 := F0 m 141 ls [.int (jmin 20 (((jmin t (fd i 3)) - (((jmin t (fd i 3)) + 4) / 5)) - (20 * (nI j)))), .int (nI i), .ref an_5, .ref an_5, .ref (lv.1 0 3)]) rfl ?_
      refine lv_aload_n hx hb dX1_cut_141 rfl (lv_at hl 5 rfl) ?_
      refine mgetN fx tfX5 (cw.f hw hi) 4 (by decide) q318 (fun _ h => h) (v := .int (fd i 4)) rfl dX1_cut_142 ?_
      refine lv_aload_n hx hb dX1_cut_145 rfl (lv_at hl 5 rfl) ?_
      refine mgetN fx tfX5 (cw.f hw hi) 10 (by decide) q331 (fun _ h => h) (v := .int (fd i 10)) rfl dX1_cut_146 ?_
      refine lv_aload_n hx hb dX1_cut_149 rfl (lv_at hl 6 rfl) ?_
      refine mget fx tfX1 h_x 0 (by decide) q209 (fun _ h => h) (v := .ref (lv.1 0 0)) rfl dX1_cut_150 ?_
      refine mgetN fx tfX2 (cw.w hw) 6 (by decide) q133 (fun _ h => h) (v := .int (sc 0)) rfl dX1_cut_153 ?_
      refine kI fx (m_L_init l g an_5  (nI i) (jmin 20 (((jmin t (fd i 3)) - (((jmin t (fd i 3)) + 4) / 5)) - (20 * (nI j)))) (fd i 4) (fd i 10) (sc 0) (fx.2.2.2.2.2.1 _ inan_5) ((hv.1 i hi).2.2.2)) q507 q75 q800 q506 rfl hdX9_init ⟨(Nat.le_of_ble_eq_true rfl), (Nat.le_of_ble_eq_true rfl)⟩ ⟨(by show j + lv.2.1 2 + 1 + 0 ≤ 160; omega), (by show 9 * j + 4 * lv.2.1 2 + 9 + 0 ≤ 700; omega)⟩ hl.1 hS rfl (Nat.le_of_ble_eq_true rfl) hn_4 (fun q h => by cases h; exact inan_5) dX1_cut_156 (fun rv9 H locs hQ hz9 hk9 hS => ?_)
      obtain ⟨rfl, hat⟩ := hQ
      replace h_x := h_x.kept (hk9 _ h_x.lt ne_6)
      replace h_p := h_p.kept (hk9 _ h_p.lt ne_7)
      replace hn_4 : mAt g an_5 (.inr (9, [.int (nI i), .int (jmin 20 (((jmin t (fd i 3)) - (((jmin t (fd i 3)) + 4) / 5)) - (20 * (nI j)))), .int (f_L_init_2 (fd i 10)), .int (fd i 10), .int (sc 0), .int (fd i 4), .int 0, .int 0, .int (-1)])) H := hat
      replace hw : cw g (fA (xF ax ap la n) sz) lv (sc, sw, ar, fd, tr, cutLd ld (n 2) i t (((jmin t (fd i 3)) + 4) / 5) (sc 0) (fd i) j, (va_up n 2 (n 2 + j))) H := cw.kept hw (fun q h9 hf9 => hk9 _ h9 (nin_8 q hf9))
      refine W.eq (g2 := F0 m 159 ls [.ref an_5, .ref (lv.1 0 3)]) rfl ?_
      obtain ⟨pa, pea, pe0, pnc, pc, pf, ped, pels, pfr, pcap⟩ := cw.addP2 hw fx.2.2.2.2.2.1
      have hcp := newCap_le _ _ pnc pcap
      have hlt_9 := h_x.lt
      have hlt_10 := h_p.lt
      have hbk : ∀ q, fA (fun q => q = lv.1 0 3 ∨ (lv.2.1 2 ≠ 0 ∧ q = lv.1 1 2)) H.size q → (fA (xF ax ap la n) sz) q := fun q h9 => (pfr q h9).elim (hw.1.ft q) (fun h8 => hAs q (Nat.le_trans hS.1 h8))
      have hSb := hS
      refine kV fx (m_AL_add l g (lv.1 0 3) an_5 (lv.1 1 2) ((va_up n 2 (n 2 + j)) 2) (lv.2.1 2) _ (lv.2.2 2) (elF lv.1 (va_up n 2 (n 2 + j)) 2) pa pea pe0 (Ne.symm (nin_8 _ ⟨0, 3, (by show 3 < 7; decide), rfl⟩)) pnc pc pf) (lw_V q355 q356 q357 q54 q358) hdJ2_add ⟨(Nat.le_of_ble_eq_true rfl), (Nat.le_of_ble_eq_true rfl)⟩ ⟨(by have hnk : (va_up n 2 (n 2 + j)) 2 = n 2 + j := rfl; have := hcp.2.2.1; have := hcp.2.1; show j + lv.2.1 2 + 1 + (if (va_up n 2 (n 2 + j)) 2 < lv.2.1 2 then 0 else 1) ≤ 160; omega), (by have hnk : (va_up n 2 (n 2 + j)) 2 = n 2 + j := rfl; have := hcp.2.2.2.1; have := hcp.2.1; show 9 * j + 4 * lv.2.1 2 + 9 + (if (va_up n 2 (n 2 + j)) 2 < lv.2.1 2 then 0 else newCap ((va_up n 2 (n 2 + j)) 2) (lv.2.1 2)) ≤ 700; omega)⟩ hl.1 hS tfJ2.2.1 (cw.al2 hw) rfl (Nat.le_of_ble_eq_true rfl) (⟨rfl, (cw.al2 hw), ped, pels, mEl_L hn_4⟩) (fun q h9 => hbk q h9) dX1_cut_159 (fun rv9 H locs hQ hz9 hk9 hS => ?_)
      obtain ⟨ea9, rfl, he9, hl9, hea9⟩ := hQ
      have hw9 := cw.addL hw (by show n 2 + j < 2 ^ 20; omega) hn_4 nin_8 he9 hl9 hea9 hk9
      replace h_x := h_x.kept (hk9 _ h_x.lt (fun h9 => (pfr _ h9).elim (fun h8 => nlx _ h8 rfl) (Nat.not_le.mpr h_x.lt)))
      replace h_p := h_p.kept (hk9 _ h_p.lt (fun h9 => (pfr _ h9).elim (fun h8 => nlp _ h8 rfl) (Nat.not_le.mpr h_p.lt)))
      obtain ⟨lc_11, hla⟩ : ∃ z, z = adA lv (va_up n 2 (n 2 + j)) 2 ea9 an_5 := ⟨_, rfl⟩
      rw [← hla] at hw9
      have hft9 := hw9.1.ft
      have hbk2 : ∀ q, (fA (cF lv (va_up n 2 (n 2 + j))) _ q ∨ q = an_5) → (fA (xF ax ap la n) sz) q := fun q h9 => h9.elim (fun h8 => h8.elim (hw.1.ft q) (fun h7 => hAs q (Nat.le_trans hSb.1 h7))) (fun h8 => by rw [h8]; exact inan_5)
      replace hw9 := cw.weaken hw9 hbk2
      rw [nU_s] at hw9
      replace hw : cw g (fA (xF ax ap la n) sz) lc_11 (sc, sw, ar, fd, tr, va_up (cutLd ld (n 2) i t (((jmin t (fd i 3)) + 4) / 5) (sc 0) (fd i) j) ((va_up n 2 (n 2 + j)) 2) (ob9 (nI i) (jmin 20 (((jmin t (fd i 3)) - (((jmin t (fd i 3)) + 4) / 5)) - (20 * (nI j)))) (f_L_init_2 (fd i 10)) (fd i 10) (sc 0) (fd i 4) 0 0 (-1)), (va_up n 2 (n 2 + (j + 1)))) H := hw9
      have nin_12 : ∀ q, cF lc_11 (va_up n 2 (n 2 + (j + 1))) q → q ≠ ax := fun q h9 => (hft9 q (by rw [nU_s]; exact h9)).elim (fun h8 => h8.elim (nlx q) (fun h7 => Nat.ne_of_gt (Nat.lt_of_lt_of_le hlt_9 h7))) (fun h8 => by rw [h8]; exact (Ne.symm ne_6))
      have nin_13 : ∀ q, cF lc_11 (va_up n 2 (n 2 + (j + 1))) q → q ≠ ap := fun q h9 => (hft9 q (by rw [nU_s]; exact h9)).elim (fun h8 => h8.elim (nlp q) (fun h7 => Nat.ne_of_gt (Nat.lt_of_lt_of_le hlt_10 h7))) (fun h8 => by rw [h8]; exact (Ne.symm ne_7))
      have h01 : lc_11.1 0 0 = lv.1 0 0 := by rw [hla]; exact adA_0
      replace h_x : mAt g ax (.inr (0, [.ref (lc_11.1 0 0), .ref ap, .int (xi 0), .int (xi 1), .int (xi 2), .int (xi 3), .int (xi 4), .int (xi 5), .int ((xi 6) + (((jmin t (fd i 3)) + 4) / 5)), .long sm])) H := by rw [h01]; exact h_x
      have hq0 : lc_11.2.1 0 = lv.2.1 0 := by rw [hla]; rfl
      have hq1 : lc_11.2.1 1 = lv.2.1 1 := by rw [hla]; rfl
      have hq2 : lc_11.2.1 2 = newCap ((va_up n 2 (n 2 + j)) 2) (lv.2.1 2) := by rw [hla]; rfl
      have h0o : lc_11.1 2 i = lv.1 2 i := by rw [hla]; exact adA_o (by omega) (by omega)
      rw [← h0o] at hl
      refine W.eq (g2 := F0 m 162 ls [.int 1]) rfl ?_
      refine lv_pop hx hb dX1_cut_162 rfl ?_
      refine lv_iinc (v := nI (j + 1)) (lv' := [(8, .int (nI (j + 1))), (7, .int (nI mm)), (6, .int ((jmin t (fd i 3)) - (((jmin t (fd i 3)) + 4) / 5))), (5, .int (((jmin t (fd i 3)) + 4) / 5)), (4, .int (jmin t (fd i 3))), (3, .ref (lc_11.1 2 i)), (0, .ref ax), (1, .int (nI i)), (2, .int t)]) hx hb dX1_cut_163 hl (k := 0) rfl (nI_1 _) (by decide) rfl (fun ls hl => ?_)
      refine lv_goto (tgt := 109) hx hb dX1_cut_166 (by decide) ?_
      refine W.widen (k := (j + 1) + lv.2.1 2) (n := 9 * (j + 1) + 4 * lv.2.1 2) (by omega) (by omega) ?_
      exact ih (j + 1) H locs ls _ (by omega) hS h_x h_p hw nin_12 nin_13 (lv_sub hl [0, 1, 2, 3, 4, 5, 6, 7, 8] rfl)
  refine W.widen (k := 0 + lv.2.1 2) (n := 9 * 0 + 4 * lv.2.1 2) (by omega) (by omega) ?_
  exact lp_1 (mm - 0) 0 H locs ls _ (by omega) hS h_x h_p (by rw [nU_0]; exact hw) (by rw [nU_0]; exact nfx) (by rw [nU_0]; exact nfp) (lv_sub hl [0, 1, 2, 3, 4, 5, 6, 7, 8] rfl)

