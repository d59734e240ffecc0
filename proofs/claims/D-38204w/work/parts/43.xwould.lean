/-! CANECRUSH: what would be -/
set_option maxRecDepth 100000
theorem hdX2_copy : yX2_copy.cls ≠ "java/lang/invoke/MethodHandle" ∧ yX2_copy.cls ≠ "java/lang/invoke/VarHandle" ∧ (parseMethodDescriptor yX2_copy.desc).map (fun d => d.parameters.length) = some 0 := by decide +kernel
/-- crushed after how many hours -/
def cCrushedIn (n : CN) (S : CS) (k : Nat) (h : Nat) : Int32 := oI (fs (fun j => (cRun n S 25 0 j).1.2.2.2.2.2 k 6 = 3) (h + 1))
def cStopsIn (n : CN) (S : CS) (h : Nat) : Int32 := oI (fs (fun j => (cRun n S 25 0 j).1.1 2 = 0) (h + 1))
def cpS (S : CS) : CS := (scCp S.1, 0, arCp S.2.2.1, S.2.2.2.1, S.2.2.2.2.1, S.2.2.2.2.2)
def cOrd (n : CN) (S : CS) (h : Nat) : Nat → Int32 × Int32
  | 0 => (0, -1)
  | o + 1 =>
    let q := cOrd n S h o
    let s := (cRun n (va_up S.1 9 (nI o), S.2) 25 0 h).1.1 10
    if s ≤ q.2 then q else (nI o, s)
def cDayF (n0 : Nat) (fd : Nat → Nat → Int32) (w r : Int32) : Nat → Nat → Nat → Int32
  | 0 => fd
  | d + 1 => cFields n0 (cDayF n0 fd w r d) w r
def cDayB (n0 : Nat) (fd : Nat → Nat → Int32) (i : Nat) (w r : Int32) : Nat → Int32 × Int32
  | 0 => (0, fd i 3 * fd i 4)
  | d + 1 =>
    let q := cDayB n0 fd i w r d
    let f := cDayF n0 fd w r (d + 1)
    if f i 3 * f i 4 ≤ q.2 then q else (nI (d + 1), f i 3 * f i 4)
theorem cV.dayF {n : CN} {fd : Nat → Nat → Int32} {w r : Int32} {tr ld : Nat → Nat → Int32} (h : cV n fd tr ld) : ∀ d, cV n (cDayF (n 0) fd w r d) tr ld
  | 0 => h
  | d + 1 => (h.dayF d).fields
theorem cV.f0 {n m : CN} {fd tr ld : Nat → Nat → Int32} (h : cV n fd tr ld) (h0 : m 0 ≤ n 0) (h1 : m 1 = 0) (h2 : m 2 = 0) : cV m fd tr ld :=
  ⟨fun k hk => h.1 k (by omega), fun k hk => by omega, fun k hk => by omega⟩
set_option maxHeartbeats 4000000 in
theorem m_X_crushedNow (l : Launch) (g : GT) (sz ax ap : Nat) (la : LT) (sc : Nat → Int32) (sw : Int64) (ar fd tr ld : Nat → Nat → Int32) (n : CN) (xi : Nat → Int32) (sm : Int64) (pd : Nat → Int32) (hn : cN n) (hv : cV n fd tr ld) (k h9 : Nat) (hk : k < n 2) (hh : h9 ≤ 120) : Cn l g yX1_crushedNow cX1_crushedNow 5 ((some .int)) 8 521 3452 [.ref ax, .int (nI k), .int (nI h9)] (fun q => sz ≤ q) (fun H => sz = H.size ∧ xw g (bA g) ax ap la (sc, sw, ar, fd, tr, ld, n) xi sm pd H) (fun Hp rv Hq => rv = some (.int (cCrushedIn n (scCp sc, 0, arCp ar, fd, tr, ld) k h9))) := by
  refine Cn.start (plainFor_of_name (by decide +kernel)) (Nat.le_of_ble_eq_true rfl) ?_
  intro p ev s m below meth c ls H locs hH hx hb hr hts hown hlocks hml hnm hK hP hS hl
  obtain ⟨hsz, hxw⟩ := hP
  have hszs : sz = s.heap.size := by rw [hsz, hH]
  have hAs : ∀ q, s.heap.size ≤ q → sz ≤ q := fun q h => by rw [hszs]; exact h
  have hAb : ∀ q, sz ≤ q → bA g q := fun q h => Nat.le_trans hK.2.2.sz (by rw [← hszs]; exact h)
  obtain ⟨hw, h_x, h_p, inx, inp, nxp, nfx, nfp⟩ := hxw
  have hwlt : ∀ q, cF la n q → q < sz := fun q h => by rw [hsz]; exact hw.1.ftlt q h
  have hxlt : ax < sz := by rw [hsz]; exact h_x.lt
  have hplt : ap < sz := by rw [hsz]; exact h_p.lt
  have hn9 := hn.1
  have hn8 := hn.2.1
  have hn7 := hn.2.2
  have h9s : h9 < 2 ^ 31 := by omega
  have h9s1 : h9 + 1 < 2 ^ 31 := by omega
  have fx : Fx p s m ([.ref ax, .int (nI k), .int (nI h9)] : List Value).toArray c cX1_crushedNow RX1 g (fun q => sz ≤ q) 5 := ⟨hx, hb, hts, hown, hK, hAb, hml⟩
  have hl : lv_has ls 5 [(0, .ref ax), (1, .int (nI k)), (2, .int (nI h9))] := hl
  refine lv_aload_n hx hb dX1_crushedNow_0 rfl (lv_at hl 0 rfl) ?_
  refine mget fx tfX1 h_x 0 (by decide) q209 (fun _ h => h) (v := .ref (la.1 0 0)) rfl dX1_crushedNow_1 ?_
  have hSb := hS
  refine kV fx (m_W_copy l g _ la sc sw ar fd tr ld n hn hv) (lw_V q459 q460 q461 q51 q462) hdX2_copy ⟨(Nat.le_of_ble_eq_true rfl), (Nat.le_of_ble_eq_true rfl)⟩ ⟨(Nat.le_of_ble_eq_true rfl), (Nat.le_of_ble_eq_true rfl)⟩ hl.1 hS tfX2.2.1 (cw.w hw) rfl (Nat.le_of_ble_eq_true rfl) (⟨rfl, hw⟩) (fun q h9 => hAs q (Nat.le_trans hS.1 h9)) dX1_crushedNow_4 (fun rv9 H locs hQ hz9 hk9 hS => ?_)
  obtain ⟨lb, rfl, hwm9⟩ := hQ
  replace h_x := h_x.kept (hk9 _ h_x.lt (Nat.not_le.mpr h_x.lt))
  replace h_p := h_p.kept (hk9 _ h_p.lt (Nat.not_le.mpr h_p.lt))
  replace hw : cw g (bA g) la (sc, sw, ar, fd, tr, ld, n) H := cw.kept hw (fun q h9 _ => hk9 q h9 (Nat.not_le.mpr h9))
  have hwm : cw g (fun q => sz ≤ q) lb ((scCp sc), 0, (arCp ar), fd, tr, ld, n) H := cw.weaken hwm9 (fun q h9 => hAs q (Nat.le_trans hSb.1 h9))
  refine W.eq (g2 := F0 m 7 ls [.ref (lb.1 0 0)]) rfl ?_
  refine lv_astore_n (lv' := [(3, .ref (lb.1 0 0)), (0, .ref ax), (1, .int (nI k)), (2, .int (nI h9))]) hx hb dX1_crushedNow_7 rfl hl (by decide) rfl (fun ls hl => ?_)
  refine lv_iconst (v := 0) hx hb dX1_crushedNow_8 (by decide) ?_
  refine lv_istore (lv' := [(4, .int 0), (3, .ref (lb.1 0 0)), (0, .ref ax), (1, .int (nI k)), (2, .int (nI h9))]) hx hb dX1_crushedNow_9 hl (by decide) rfl (fun ls hl => ?_)
  have lp_1 : ∀ (d_2 j : Nat) (H : Heap) (locs : List Loc) (ls : Array Slot), j + d_2 = (h9 + 1) → va_S (fun q => sz ≤ q) s.heap H locs → mAt g ax (.inr (0, [.ref (la.1 0 0), .ref ap, .int (xi 0), .int (xi 1), .int (xi 2), .int (xi 3), .int (xi 4), .int (xi 5), .int (xi 6), .long sm])) H → mAt g ap (.inl (g.2.1 0, 4, .inl pd)) H → cw g (bA g) la (sc, sw, ar, fd, tr, ld, n) H → cw g (fun q => sz ≤ q) lb (((cRun n (scCp sc, 0, arCp ar, fd, tr, ld) 25 0 j).1).1, ((cRun n (scCp sc, 0, arCp ar, fd, tr, ld) 25 0 j).1).2.1, ((cRun n (scCp sc, 0, arCp ar, fd, tr, ld) 25 0 j).1).2.2.1, ((cRun n (scCp sc, 0, arCp ar, fd, tr, ld) 25 0 j).1).2.2.2.1, ((cRun n (scCp sc, 0, arCp ar, fd, tr, ld) 25 0 j).1).2.2.2.2.1, ((cRun n (scCp sc, 0, arCp ar, fd, tr, ld) 25 0 j).1).2.2.2.2.2, n) H → (∀ j', j' < j → ¬ ((cRun n (scCp sc, 0, arCp ar, fd, tr, ld) 25 0 j').1.2.2.2.2.2 k 6 = 3)) → lv_has ls 5 [(4, .int (nI j)), (3, .ref (lb.1 0 0)), (0, .ref ax), (1, .int (nI k)), (2, .int (nI h9))] → W p l ev (mR 8 521 3452) s m ([.ref ax, .int (nI k), .int (nI h9)] : List Value).toArray below meth c H locs (400 + j) (2000 + 12 * j) (MQ below (mQ (fun q => sz ≤ q) (fun Hp rv Hq => rv = some (.int (cCrushedIn n (scCp sc, 0, arCp ar, fd, tr, ld) k h9)))) ([.ref ax, .int (nI k), .int (nI h9)] : List Value).toArray s 521 3452 (fun q => sz ≤ q)) (F0 m 11 ls []) := by
    intro d_2
    induction d_2 with
    | zero =>
      intro j H locs ls hid hS h_x h_p hw hwm hno hl
      obtain rfl : (h9 + 1) = j := by omega
      refine lv_iload hx hb dX1_crushedNow_11 (lv_at hl 0 rfl) ?_
      refine lv_iload_n hx hb dX1_crushedNow_13 rfl (lv_at hl 4 rfl) ?_
      refine lv_icmp_gt (tgt := 52) hx hb dX1_crushedNow_14 (by decide) (fun _ => ?_) (fun h9 => absurd (nI_lt (Nat.lt_succ_self _) h9s1) h9)
      refine lv_iconst (v := (-1)) hx hb dX1_crushedNow_52 (by decide) ?_
      exact ri hx hb hr hlocks hS (by rw [cCrushedIn, fs_none hno]; rfl) ⟨(by omega), (by omega)⟩ dX1_crushedNow_53
    | succ d_2 ih =>
      intro j H locs ls hid hS h_x h_p hw hwm hno hl
      have hi_j : j < (h9 + 1) := by omega
      have hv1 : cV n ((cRun n (scCp sc, 0, arCp ar, fd, tr, ld) 25 0 j).1).2.2.2.1 ((cRun n (scCp sc, 0, arCp ar, fd, tr, ld) 25 0 j).1).2.2.2.2.1 ((cRun n (scCp sc, 0, arCp ar, fd, tr, ld) 25 0 j).1).2.2.2.2.2 := cVS.run (S := (scCp sc, 0, arCp ar, fd, tr, ld)) hn hv j
      refine lv_iload hx hb dX1_crushedNow_11 (lv_at hl 0 rfl) ?_
      refine lv_iload_n hx hb dX1_crushedNow_13 rfl (lv_at hl 4 rfl) ?_
      refine lv_icmp_gt (tgt := 52) hx hb dX1_crushedNow_14 (by decide) (fun h9 => absurd h9 (nI_nlt (Nat.le_of_lt_succ hi_j) h9s)) (fun _ => ?_)
      refine lv_aload_n hx hb dX1_crushedNow_17 rfl (lv_at hl 1 rfl) ?_
      refine mgetN fx tfX2 (cw.w hwm) 2 (by decide) q125 (fun _ h => h) (v := .ref (lb.1 0 3)) rfl dX1_crushedNow_18 ?_
      refine lv_iload_n hx hb dX1_crushedNow_21 rfl (lv_at hl 3 rfl) ?_
      refine kV fx (m_AL_get l g (lb.1 0 3) (lb.1 1 2) k (n 2) (lb.2.1 2) (lb.1 4 k) (lb.2.2 2) (elF lb.1 n 2) hk (cw.get hwm (k := 2) (by decide) hk).2.1 (cw.get hwm (k := 2) (by decide) hk).2.2.1 (cw.get hwm (k := 2) (by decide) hk).2.2.2) (lw_V q286 q263 q264 q54 q265) hdJ2_get ⟨(Nat.le_of_ble_eq_true rfl), (Nat.le_of_ble_eq_true rfl)⟩ ⟨(by show 400 + j + 0 ≤ 521; omega), (by show 2000 + 12 * j + 0 ≤ 3452; omega)⟩ hl.1 hS tfJ2.2.1 (cw.al2 hwm) rfl (Nat.le_of_ble_eq_true rfl) (⟨(cw.al2 hwm), (cw.get hwm (k := 2) (by decide) hk).1⟩) (fun _ h => h.elim) dX1_crushedNow_22 (fun rv9 H locs hQ hz9 hk9 hS => ?_)
      obtain ⟨rfl, rfl⟩ := hQ
      refine W.eq (g2 := F0 m 25 ls [.ref (lb.1 4 k)]) rfl ?_
      refine mcast fx tfX9 (cw.l hwm hk) q292 dX1_crushedNow_25 ?_
      refine mgetN fx tfX9 (cw.l hwm hk) 6 (by decide) q526 (fun _ h => h) (v := .int ((((cRun n (scCp sc, 0, arCp ar, fd, tr, ld) 25 0 j).1).2.2.2.2.2) k 6)) rfl dX1_crushedNow_28 ?_
      refine lv_iconst (v := 3) hx hb dX1_crushedNow_31 (by decide) ?_
      refine lv_icmp_ne (tgt := 38) hx hb dX1_crushedNow_32 (by decide) (fun c_3 => ?_) (fun c_3 => ?_)
      · skip
        refine lv_aload_n hx hb dX1_crushedNow_38 rfl (lv_at hl 1 rfl) ?_
        refine lv_bipush (v := 25) hx hb dX1_crushedNow_39 (by decide) ?_
        refine lv_iconst (v := 0) hx hb dX1_crushedNow_41 (by decide) ?_
        have hbk := cw.back hwm (fun q h9 => hAs q (Nat.le_trans hS.1 h9))
        have hSb := hS
        refine kV fx (m_W_pass l g _ lb (((cRun n (scCp sc, 0, arCp ar, fd, tr, ld) 25 0 j).1).1) (((cRun n (scCp sc, 0, arCp ar, fd, tr, ld) 25 0 j).1).2.1) (((cRun n (scCp sc, 0, arCp ar, fd, tr, ld) 25 0 j).1).2.2.1) (((cRun n (scCp sc, 0, arCp ar, fd, tr, ld) 25 0 j).1).2.2.2.1) (((cRun n (scCp sc, 0, arCp ar, fd, tr, ld) 25 0 j).1).2.2.2.2.1) (((cRun n (scCp sc, 0, arCp ar, fd, tr, ld) 25 0 j).1).2.2.2.2.2) n hn hv1 25 0) (lw_V q552 q553 q554 q51 q555) hdX2_pass ⟨(Nat.le_of_ble_eq_true rfl), (Nat.le_of_ble_eq_true rfl)⟩ ⟨(by show 400 + j + 1 ≤ 521; omega), (by show 2000 + 12 * j + 12 ≤ 3452; omega)⟩ hl.1 hS tfX2.2.1 (cw.w hwm) rfl (Nat.le_of_ble_eq_true rfl) (⟨rfl, cw.weaken hwm fx.2.2.2.2.2.1⟩) (fun q h9 => hbk q h9) dX1_crushedNow_42 (fun rv9 H locs hQ hz9 hk9 hS => ?_)
        obtain ⟨rfl, hw9⟩ := hQ
        replace h_x := h_x.kept (hk9 _ h_x.lt (fun h9 => h9.elim (fun h8 => (fun q h9 => Nat.ne_of_gt (Nat.lt_of_lt_of_le hxlt (hwm.1.ft q h9))) _ h8 rfl) (Nat.not_le.mpr h_x.lt)))
        replace h_p := h_p.kept (hk9 _ h_p.lt (fun h9 => h9.elim (fun h8 => (fun q h9 => Nat.ne_of_gt (Nat.lt_of_lt_of_le hplt (hwm.1.ft q h9))) _ h8 rfl) (Nat.not_le.mpr h_p.lt)))
        replace hw : cw g (bA g) la (sc, sw, ar, fd, tr, ld, n) H := cw.kept hw (fun q h9 hf9 => hk9 _ h9 (fun h8 => h8.elim (fun h7 => (fun q a9 b9 => apF hwlt hwm.1.ft q q a9 b9 rfl) q hf9 h7) (Nat.not_le.mpr h9)))
        replace hwm : cw g (fun q => sz ≤ q) lb (((cPass n (((cRun n (scCp sc, 0, arCp ar, fd, tr, ld) 25 0 j).1).1, ((cRun n (scCp sc, 0, arCp ar, fd, tr, ld) 25 0 j).1).2.1, ((cRun n (scCp sc, 0, arCp ar, fd, tr, ld) 25 0 j).1).2.2.1, ((cRun n (scCp sc, 0, arCp ar, fd, tr, ld) 25 0 j).1).2.2.2.1, ((cRun n (scCp sc, 0, arCp ar, fd, tr, ld) 25 0 j).1).2.2.2.2.1, ((cRun n (scCp sc, 0, arCp ar, fd, tr, ld) 25 0 j).1).2.2.2.2.2) 25 0).1).1, ((cPass n (((cRun n (scCp sc, 0, arCp ar, fd, tr, ld) 25 0 j).1).1, ((cRun n (scCp sc, 0, arCp ar, fd, tr, ld) 25 0 j).1).2.1, ((cRun n (scCp sc, 0, arCp ar, fd, tr, ld) 25 0 j).1).2.2.1, ((cRun n (scCp sc, 0, arCp ar, fd, tr, ld) 25 0 j).1).2.2.2.1, ((cRun n (scCp sc, 0, arCp ar, fd, tr, ld) 25 0 j).1).2.2.2.2.1, ((cRun n (scCp sc, 0, arCp ar, fd, tr, ld) 25 0 j).1).2.2.2.2.2) 25 0).1).2.1, ((cPass n (((cRun n (scCp sc, 0, arCp ar, fd, tr, ld) 25 0 j).1).1, ((cRun n (scCp sc, 0, arCp ar, fd, tr, ld) 25 0 j).1).2.1, ((cRun n (scCp sc, 0, arCp ar, fd, tr, ld) 25 0 j).1).2.2.1, ((cRun n (scCp sc, 0, arCp ar, fd, tr, ld) 25 0 j).1).2.2.2.1, ((cRun n (scCp sc, 0, arCp ar, fd, tr, ld) 25 0 j).1).2.2.2.2.1, ((cRun n (scCp sc, 0, arCp ar, fd, tr, ld) 25 0 j).1).2.2.2.2.2) 25 0).1).2.2.1, ((cPass n (((cRun n (scCp sc, 0, arCp ar, fd, tr, ld) 25 0 j).1).1, ((cRun n (scCp sc, 0, arCp ar, fd, tr, ld) 25 0 j).1).2.1, ((cRun n (scCp sc, 0, arCp ar, fd, tr, ld) 25 0 j).1).2.2.1, ((cRun n (scCp sc, 0, arCp ar, fd, tr, ld) 25 0 j).1).2.2.2.1, ((cRun n (scCp sc, 0, arCp ar, fd, tr, ld) 25 0 j).1).2.2.2.2.1, ((cRun n (scCp sc, 0, arCp ar, fd, tr, ld) 25 0 j).1).2.2.2.2.2) 25 0).1).2.2.2.1, ((cPass n (((cRun n (scCp sc, 0, arCp ar, fd, tr, ld) 25 0 j).1).1, ((cRun n (scCp sc, 0, arCp ar, fd, tr, ld) 25 0 j).1).2.1, ((cRun n (scCp sc, 0, arCp ar, fd, tr, ld) 25 0 j).1).2.2.1, ((cRun n (scCp sc, 0, arCp ar, fd, tr, ld) 25 0 j).1).2.2.2.1, ((cRun n (scCp sc, 0, arCp ar, fd, tr, ld) 25 0 j).1).2.2.2.2.1, ((cRun n (scCp sc, 0, arCp ar, fd, tr, ld) 25 0 j).1).2.2.2.2.2) 25 0).1).2.2.2.2.1, ((cPass n (((cRun n (scCp sc, 0, arCp ar, fd, tr, ld) 25 0 j).1).1, ((cRun n (scCp sc, 0, arCp ar, fd, tr, ld) 25 0 j).1).2.1, ((cRun n (scCp sc, 0, arCp ar, fd, tr, ld) 25 0 j).1).2.2.1, ((cRun n (scCp sc, 0, arCp ar, fd, tr, ld) 25 0 j).1).2.2.2.1, ((cRun n (scCp sc, 0, arCp ar, fd, tr, ld) 25 0 j).1).2.2.2.2.1, ((cRun n (scCp sc, 0, arCp ar, fd, tr, ld) 25 0 j).1).2.2.2.2.2) 25 0).1).2.2.2.2.2, n) H := cw.weaken hw9 hbk
        refine W.eq (g2 := F0 m 45 ls [.int ((cPass n (((cRun n (scCp sc, 0, arCp ar, fd, tr, ld) 25 0 j).1).1, ((cRun n (scCp sc, 0, arCp ar, fd, tr, ld) 25 0 j).1).2.1, ((cRun n (scCp sc, 0, arCp ar, fd, tr, ld) 25 0 j).1).2.2.1, ((cRun n (scCp sc, 0, arCp ar, fd, tr, ld) 25 0 j).1).2.2.2.1, ((cRun n (scCp sc, 0, arCp ar, fd, tr, ld) 25 0 j).1).2.2.2.2.1, ((cRun n (scCp sc, 0, arCp ar, fd, tr, ld) 25 0 j).1).2.2.2.2.2) 25 0).2)]) rfl ?_
        refine lv_pop hx hb dX1_crushedNow_45 rfl ?_
        refine lv_iinc (v := nI (j + 1)) (lv' := [(4, .int (nI (j + 1))), (3, .ref (lb.1 0 0)), (0, .ref ax), (1, .int (nI k)), (2, .int (nI h9))]) hx hb dX1_crushedNow_46 hl (k := 0) rfl (nI_1 _) (by decide) rfl (fun ls hl => ?_)
        refine lv_goto (tgt := 11) hx hb dX1_crushedNow_49 (by decide) ?_
        refine W.widen (k := 400 + (j + 1)) (n := 2000 + 12 * (j + 1)) (by omega) (by omega) ?_
        exact ih (j + 1) H locs ls (by omega) hS h_x h_p hw hwm (no_ext hno c_3) (lv_sub hl [0, 1, 2, 3, 4] rfl)
      · skip
        refine lv_iload hx hb dX1_crushedNow_35 (lv_at hl 0 rfl) ?_
        exact ri hx hb hr hlocks hS (by rw [cCrushedIn, fs_some (P := fun j => (cRun n (scCp sc, 0, arCp ar, fd, tr, ld) 25 0 j).1.2.2.2.2.2 k 6 = 3) hi_j c_3 hno]; rfl) ⟨(by omega), (by omega)⟩ dX1_crushedNow_37
  refine W.widen (k := 400 + 0) (n := 2000 + 12 * 0) (by omega) (by omega) ?_
  exact lp_1 ((h9 + 1) - 0) 0 H locs ls (by omega) hS h_x h_p hw hwm (fun j hj => absurd hj (Nat.not_lt_zero _)) (lv_sub hl [0, 1, 2, 3, 4] rfl)

set_option maxHeartbeats 4000000 in
theorem m_X_stopsNow (l : Launch) (g : GT) (sz ax ap : Nat) (la : LT) (sc : Nat → Int32) (sw : Int64) (ar fd tr ld : Nat → Nat → Int32) (n : CN) (xi : Nat → Int32) (sm : Int64) (pd : Nat → Int32) (hn : cN n) (hv : cV n fd tr ld) (h9 : Nat) (hh : h9 ≤ 120) : Cn l g yX1_stopsNow cX1_stopsNow 4 ((some .int)) 8 521 3452 [.ref ax, .int (nI h9)] (fun q => sz ≤ q) (fun H => sz = H.size ∧ xw g (bA g) ax ap la (sc, sw, ar, fd, tr, ld, n) xi sm pd H) (fun Hp rv Hq => rv = some (.int (cStopsIn n (scCp sc, 0, arCp ar, fd, tr, ld) h9))) := by
  refine Cn.start (plainFor_of_name (by decide +kernel)) (Nat.le_of_ble_eq_true rfl) ?_
  intro p ev s m below meth c ls H locs hH hx hb hr hts hown hlocks hml hnm hK hP hS hl
  obtain ⟨hsz, hxw⟩ := hP
  have hszs : sz = s.heap.size := by rw [hsz, hH]
  have hAs : ∀ q, s.heap.size ≤ q → sz ≤ q := fun q h => by rw [hszs]; exact h
  have hAb : ∀ q, sz ≤ q → bA g q := fun q h => Nat.le_trans hK.2.2.sz (by rw [← hszs]; exact h)
  obtain ⟨hw, h_x, h_p, inx, inp, nxp, nfx, nfp⟩ := hxw
  have hwlt : ∀ q, cF la n q → q < sz := fun q h => by rw [hsz]; exact hw.1.ftlt q h
  have hxlt : ax < sz := by rw [hsz]; exact h_x.lt
  have hplt : ap < sz := by rw [hsz]; exact h_p.lt
  have hn9 := hn.1
  have hn8 := hn.2.1
  have hn7 := hn.2.2
  have h9s : h9 < 2 ^ 31 := by omega
  have h9s1 : h9 + 1 < 2 ^ 31 := by omega
  have fx : Fx p s m ([.ref ax, .int (nI h9)] : List Value).toArray c cX1_stopsNow RX1 g (fun q => sz ≤ q) 4 := ⟨hx, hb, hts, hown, hK, hAb, hml⟩
  have hl : lv_has ls 4 [(0, .ref ax), (1, .int (nI h9))] := hl
  refine lv_aload_n hx hb dX1_stopsNow_0 rfl (lv_at hl 0 rfl) ?_
  refine mget fx tfX1 h_x 0 (by decide) q209 (fun _ h => h) (v := .ref (la.1 0 0)) rfl dX1_stopsNow_1 ?_
  have hSb := hS
  refine kV fx (m_W_copy l g _ la sc sw ar fd tr ld n hn hv) (lw_V q459 q460 q461 q51 q462) hdX2_copy ⟨(Nat.le_of_ble_eq_true rfl), (Nat.le_of_ble_eq_true rfl)⟩ ⟨(Nat.le_of_ble_eq_true rfl), (Nat.le_of_ble_eq_true rfl)⟩ hl.1 hS tfX2.2.1 (cw.w hw) rfl (Nat.le_of_ble_eq_true rfl) (⟨rfl, hw⟩) (fun q h9 => hAs q (Nat.le_trans hS.1 h9)) dX1_stopsNow_4 (fun rv9 H locs hQ hz9 hk9 hS => ?_)
  obtain ⟨lb, rfl, hwm9⟩ := hQ
  replace h_x := h_x.kept (hk9 _ h_x.lt (Nat.not_le.mpr h_x.lt))
  replace h_p := h_p.kept (hk9 _ h_p.lt (Nat.not_le.mpr h_p.lt))
  replace hw : cw g (bA g) la (sc, sw, ar, fd, tr, ld, n) H := cw.kept hw (fun q h9 _ => hk9 q h9 (Nat.not_le.mpr h9))
  have hwm : cw g (fun q => sz ≤ q) lb ((scCp sc), 0, (arCp ar), fd, tr, ld, n) H := cw.weaken hwm9 (fun q h9 => hAs q (Nat.le_trans hSb.1 h9))
  refine W.eq (g2 := F0 m 7 ls [.ref (lb.1 0 0)]) rfl ?_
  refine lv_astore_n (lv' := [(2, .ref (lb.1 0 0)), (0, .ref ax), (1, .int (nI h9))]) hx hb dX1_stopsNow_7 rfl hl (by decide) rfl (fun ls hl => ?_)
  refine lv_iconst (v := 0) hx hb dX1_stopsNow_8 (by decide) ?_
  refine lv_istore_n (lv' := [(3, .int 0), (2, .ref (lb.1 0 0)), (0, .ref ax), (1, .int (nI h9))]) hx hb dX1_stopsNow_9 rfl hl (by decide) rfl (fun ls hl => ?_)
  have lp_1 : ∀ (d_2 j : Nat) (H : Heap) (locs : List Loc) (ls : Array Slot), j + d_2 = (h9 + 1) → va_S (fun q => sz ≤ q) s.heap H locs → mAt g ax (.inr (0, [.ref (la.1 0 0), .ref ap, .int (xi 0), .int (xi 1), .int (xi 2), .int (xi 3), .int (xi 4), .int (xi 5), .int (xi 6), .long sm])) H → mAt g ap (.inl (g.2.1 0, 4, .inl pd)) H → cw g (bA g) la (sc, sw, ar, fd, tr, ld, n) H → cw g (fun q => sz ≤ q) lb (((cRun n (scCp sc, 0, arCp ar, fd, tr, ld) 25 0 j).1).1, ((cRun n (scCp sc, 0, arCp ar, fd, tr, ld) 25 0 j).1).2.1, ((cRun n (scCp sc, 0, arCp ar, fd, tr, ld) 25 0 j).1).2.2.1, ((cRun n (scCp sc, 0, arCp ar, fd, tr, ld) 25 0 j).1).2.2.2.1, ((cRun n (scCp sc, 0, arCp ar, fd, tr, ld) 25 0 j).1).2.2.2.2.1, ((cRun n (scCp sc, 0, arCp ar, fd, tr, ld) 25 0 j).1).2.2.2.2.2, n) H → (∀ j', j' < j → ¬ ((cRun n (scCp sc, 0, arCp ar, fd, tr, ld) 25 0 j').1.1 2 = 0)) → lv_has ls 4 [(3, .int (nI j)), (2, .ref (lb.1 0 0)), (0, .ref ax), (1, .int (nI h9))] → W p l ev (mR 8 521 3452) s m ([.ref ax, .int (nI h9)] : List Value).toArray below meth c H locs (400 + j) (2000 + 12 * j) (MQ below (mQ (fun q => sz ≤ q) (fun Hp rv Hq => rv = some (.int (cStopsIn n (scCp sc, 0, arCp ar, fd, tr, ld) h9)))) ([.ref ax, .int (nI h9)] : List Value).toArray s 521 3452 (fun q => sz ≤ q)) (F0 m 10 ls []) := by
    intro d_2
    induction d_2 with
    | zero =>
      intro j H locs ls hid hS h_x h_p hw hwm hno hl
      obtain rfl : (h9 + 1) = j := by omega
      refine lv_iload_n hx hb dX1_stopsNow_10 rfl (lv_at hl 0 rfl) ?_
      refine lv_iload_n hx hb dX1_stopsNow_11 rfl (lv_at hl 3 rfl) ?_
      refine lv_icmp_gt (tgt := 38) hx hb dX1_stopsNow_12 (by decide) (fun _ => ?_) (fun h9 => absurd (nI_lt (Nat.lt_succ_self _) h9s1) h9)
      refine lv_iconst (v := (-1)) hx hb dX1_stopsNow_38 (by decide) ?_
      exact ri hx hb hr hlocks hS (by rw [cStopsIn, fs_none hno]; rfl) ⟨(by omega), (by omega)⟩ dX1_stopsNow_39
    | succ d_2 ih =>
      intro j H locs ls hid hS h_x h_p hw hwm hno hl
      have hi_j : j < (h9 + 1) := by omega
      have hv1 : cV n ((cRun n (scCp sc, 0, arCp ar, fd, tr, ld) 25 0 j).1).2.2.2.1 ((cRun n (scCp sc, 0, arCp ar, fd, tr, ld) 25 0 j).1).2.2.2.2.1 ((cRun n (scCp sc, 0, arCp ar, fd, tr, ld) 25 0 j).1).2.2.2.2.2 := cVS.run (S := (scCp sc, 0, arCp ar, fd, tr, ld)) hn hv j
      refine lv_iload_n hx hb dX1_stopsNow_10 rfl (lv_at hl 0 rfl) ?_
      refine lv_iload_n hx hb dX1_stopsNow_11 rfl (lv_at hl 3 rfl) ?_
      refine lv_icmp_gt (tgt := 38) hx hb dX1_stopsNow_12 (by decide) (fun h9 => absurd h9 (nI_nlt (Nat.le_of_lt_succ hi_j) h9s)) (fun _ => ?_)
      refine lv_aload_n hx hb dX1_stopsNow_15 rfl (lv_at hl 1 rfl) ?_
      refine mgetN fx tfX2 (cw.w hwm) 8 (by decide) q136 (fun _ h => h) (v := .int ((((cRun n (scCp sc, 0, arCp ar, fd, tr, ld) 25 0 j).1).1) 2)) rfl dX1_stopsNow_16 ?_
      refine lv_if_ne (tgt := 24) hx hb dX1_stopsNow_19 (by decide) (fun c_3 => ?_) (fun c_3 => ?_)
      · skip
        refine lv_aload_n hx hb dX1_stopsNow_24 rfl (lv_at hl 1 rfl) ?_
        refine lv_bipush (v := 25) hx hb dX1_stopsNow_25 (by decide) ?_
        refine lv_iconst (v := 0) hx hb dX1_stopsNow_27 (by decide) ?_
        have hbk := cw.back hwm (fun q h9 => hAs q (Nat.le_trans hS.1 h9))
        have hSb := hS
        refine kV fx (m_W_pass l g _ lb (((cRun n (scCp sc, 0, arCp ar, fd, tr, ld) 25 0 j).1).1) (((cRun n (scCp sc, 0, arCp ar, fd, tr, ld) 25 0 j).1).2.1) (((cRun n (scCp sc, 0, arCp ar, fd, tr, ld) 25 0 j).1).2.2.1) (((cRun n (scCp sc, 0, arCp ar, fd, tr, ld) 25 0 j).1).2.2.2.1) (((cRun n (scCp sc, 0, arCp ar, fd, tr, ld) 25 0 j).1).2.2.2.2.1) (((cRun n (scCp sc, 0, arCp ar, fd, tr, ld) 25 0 j).1).2.2.2.2.2) n hn hv1 25 0) (lw_V q552 q553 q554 q51 q555) hdX2_pass ⟨(Nat.le_of_ble_eq_true rfl), (Nat.le_of_ble_eq_true rfl)⟩ ⟨(by show 400 + j + 1 ≤ 521; omega), (by show 2000 + 12 * j + 12 ≤ 3452; omega)⟩ hl.1 hS tfX2.2.1 (cw.w hwm) rfl (Nat.le_of_ble_eq_true rfl) (⟨rfl, cw.weaken hwm fx.2.2.2.2.2.1⟩) (fun q h9 => hbk q h9) dX1_stopsNow_28 (fun rv9 H locs hQ hz9 hk9 hS => ?_)
        obtain ⟨rfl, hw9⟩ := hQ
        replace h_x := h_x.kept (hk9 _ h_x.lt (fun h9 => h9.elim (fun h8 => (fun q h9 => Nat.ne_of_gt (Nat.lt_of_lt_of_le hxlt (hwm.1.ft q h9))) _ h8 rfl) (Nat.not_le.mpr h_x.lt)))
        replace h_p := h_p.kept (hk9 _ h_p.lt (fun h9 => h9.elim (fun h8 => (fun q h9 => Nat.ne_of_gt (Nat.lt_of_lt_of_le hplt (hwm.1.ft q h9))) _ h8 rfl) (Nat.not_le.mpr h_p.lt)))
        replace hw : cw g (bA g) la (sc, sw, ar, fd, tr, ld, n) H := cw.kept hw (fun q h9 hf9 => hk9 _ h9 (fun h8 => h8.elim (fun h7 => (fun q a9 b9 => apF hwlt hwm.1.ft q q a9 b9 rfl) q hf9 h7) (Nat.not_le.mpr h9)))
        replace hwm : cw g (fun q => sz ≤ q) lb (((cPass n (((cRun n (scCp sc, 0, arCp ar, fd, tr, ld) 25 0 j).1).1, ((cRun n (scCp sc, 0, arCp ar, fd, tr, ld) 25 0 j).1).2.1, ((cRun n (scCp sc, 0, arCp ar, fd, tr, ld) 25 0 j).1).2.2.1, ((cRun n (scCp sc, 0, arCp ar, fd, tr, ld) 25 0 j).1).2.2.2.1, ((cRun n (scCp sc, 0, arCp ar, fd, tr, ld) 25 0 j).1).2.2.2.2.1, ((cRun n (scCp sc, 0, arCp ar, fd, tr, ld) 25 0 j).1).2.2.2.2.2) 25 0).1).1, ((cPass n (((cRun n (scCp sc, 0, arCp ar, fd, tr, ld) 25 0 j).1).1, ((cRun n (scCp sc, 0, arCp ar, fd, tr, ld) 25 0 j).1).2.1, ((cRun n (scCp sc, 0, arCp ar, fd, tr, ld) 25 0 j).1).2.2.1, ((cRun n (scCp sc, 0, arCp ar, fd, tr, ld) 25 0 j).1).2.2.2.1, ((cRun n (scCp sc, 0, arCp ar, fd, tr, ld) 25 0 j).1).2.2.2.2.1, ((cRun n (scCp sc, 0, arCp ar, fd, tr, ld) 25 0 j).1).2.2.2.2.2) 25 0).1).2.1, ((cPass n (((cRun n (scCp sc, 0, arCp ar, fd, tr, ld) 25 0 j).1).1, ((cRun n (scCp sc, 0, arCp ar, fd, tr, ld) 25 0 j).1).2.1, ((cRun n (scCp sc, 0, arCp ar, fd, tr, ld) 25 0 j).1).2.2.1, ((cRun n (scCp sc, 0, arCp ar, fd, tr, ld) 25 0 j).1).2.2.2.1, ((cRun n (scCp sc, 0, arCp ar, fd, tr, ld) 25 0 j).1).2.2.2.2.1, ((cRun n (scCp sc, 0, arCp ar, fd, tr, ld) 25 0 j).1).2.2.2.2.2) 25 0).1).2.2.1, ((cPass n (((cRun n (scCp sc, 0, arCp ar, fd, tr, ld) 25 0 j).1).1, ((cRun n (scCp sc, 0, arCp ar, fd, tr, ld) 25 0 j).1).2.1, ((cRun n (scCp sc, 0, arCp ar, fd, tr, ld) 25 0 j).1).2.2.1, ((cRun n (scCp sc, 0, arCp ar, fd, tr, ld) 25 0 j).1).2.2.2.1, ((cRun n (scCp sc, 0, arCp ar, fd, tr, ld) 25 0 j).1).2.2.2.2.1, ((cRun n (scCp sc, 0, arCp ar, fd, tr, ld) 25 0 j).1).2.2.2.2.2) 25 0).1).2.2.2.1, ((cPass n (((cRun n (scCp sc, 0, arCp ar, fd, tr, ld) 25 0 j).1).1, ((cRun n (scCp sc, 0, arCp ar, fd, tr, ld) 25 0 j).1).2.1, ((cRun n (scCp sc, 0, arCp ar, fd, tr, ld) 25 0 j).1).2.2.1, ((cRun n (scCp sc, 0, arCp ar, fd, tr, ld) 25 0 j).1).2.2.2.1, ((cRun n (scCp sc, 0, arCp ar, fd, tr, ld) 25 0 j).1).2.2.2.2.1, ((cRun n (scCp sc, 0, arCp ar, fd, tr, ld) 25 0 j).1).2.2.2.2.2) 25 0).1).2.2.2.2.1, ((cPass n (((cRun n (scCp sc, 0, arCp ar, fd, tr, ld) 25 0 j).1).1, ((cRun n (scCp sc, 0, arCp ar, fd, tr, ld) 25 0 j).1).2.1, ((cRun n (scCp sc, 0, arCp ar, fd, tr, ld) 25 0 j).1).2.2.1, ((cRun n (scCp sc, 0, arCp ar, fd, tr, ld) 25 0 j).1).2.2.2.1, ((cRun n (scCp sc, 0, arCp ar, fd, tr, ld) 25 0 j).1).2.2.2.2.1, ((cRun n (scCp sc, 0, arCp ar, fd, tr, ld) 25 0 j).1).2.2.2.2.2) 25 0).1).2.2.2.2.2, n) H := cw.weaken hw9 hbk
        refine W.eq (g2 := F0 m 31 ls [.int ((cPass n (((cRun n (scCp sc, 0, arCp ar, fd, tr, ld) 25 0 j).1).1, ((cRun n (scCp sc, 0, arCp ar, fd, tr, ld) 25 0 j).1).2.1, ((cRun n (scCp sc, 0, arCp ar, fd, tr, ld) 25 0 j).1).2.2.1, ((cRun n (scCp sc, 0, arCp ar, fd, tr, ld) 25 0 j).1).2.2.2.1, ((cRun n (scCp sc, 0, arCp ar, fd, tr, ld) 25 0 j).1).2.2.2.2.1, ((cRun n (scCp sc, 0, arCp ar, fd, tr, ld) 25 0 j).1).2.2.2.2.2) 25 0).2)]) rfl ?_
        refine lv_pop hx hb dX1_stopsNow_31 rfl ?_
        refine lv_iinc (v := nI (j + 1)) (lv' := [(3, .int (nI (j + 1))), (2, .ref (lb.1 0 0)), (0, .ref ax), (1, .int (nI h9))]) hx hb dX1_stopsNow_32 hl (k := 0) rfl (nI_1 _) (by decide) rfl (fun ls hl => ?_)
        refine lv_goto (tgt := 10) hx hb dX1_stopsNow_35 (by decide) ?_
        refine W.widen (k := 400 + (j + 1)) (n := 2000 + 12 * (j + 1)) (by omega) (by omega) ?_
        exact ih (j + 1) H locs ls (by omega) hS h_x h_p hw hwm (no_ext hno c_3) (lv_sub hl [0, 1, 2, 3] rfl)
      · skip
        refine lv_iload_n hx hb dX1_stopsNow_22 rfl (lv_at hl 0 rfl) ?_
        exact ri hx hb hr hlocks hS (by rw [cStopsIn, fs_some (P := fun j => (cRun n (scCp sc, 0, arCp ar, fd, tr, ld) 25 0 j).1.1 2 = 0) hi_j c_3 hno]; rfl) ⟨(by omega), (by omega)⟩ dX1_stopsNow_23
  refine W.widen (k := 400 + 0) (n := 2000 + 12 * 0) (by omega) (by omega) ?_
  exact lp_1 ((h9 + 1) - 0) 0 H locs ls (by omega) hS h_x h_p hw hwm (fun j hj => absurd hj (Nat.not_lt_zero _)) (lv_sub hl [0, 1, 2, 3] rfl)

set_option maxHeartbeats 4000000 in
theorem m_X_orderNow (l : Launch) (g : GT) (sz ax ap : Nat) (la : LT) (sc : Nat → Int32) (sw : Int64) (ar fd tr ld : Nat → Nat → Int32) (n : CN) (xi : Nat → Int32) (sm : Int64) (pd : Nat → Int32) (hn : cN n) (hv : cV n fd tr ld) (h9 : Nat) (hh : h9 ≤ 120) : Cn l g yX1_orderNow cX1_orderNow 7 ((some .int)) 8 1560 10320 [.ref ax, .int (nI h9)] (fun q => sz ≤ q) (fun H => sz = H.size ∧ xw g (bA g) ax ap la (sc, sw, ar, fd, tr, ld, n) xi sm pd H) (fun Hp rv Hq => rv = some (.int (cOrd n (scCp sc, 0, arCp ar, fd, tr, ld) h9 3).1)) := by
  refine Cn.start (plainFor_of_name (by decide +kernel)) (Nat.le_of_ble_eq_true rfl) ?_
  intro p ev s m below meth c ls H locs hH hx hb hr hts hown hlocks hml hnm hK hP hS hl
  obtain ⟨hsz, hxw⟩ := hP
  have hszs : sz = s.heap.size := by rw [hsz, hH]
  have hAs : ∀ q, s.heap.size ≤ q → sz ≤ q := fun q h => by rw [hszs]; exact h
  have hAb : ∀ q, sz ≤ q → bA g q := fun q h => Nat.le_trans hK.2.2.sz (by rw [← hszs]; exact h)
  obtain ⟨hw, h_x, h_p, inx, inp, nxp, nfx, nfp⟩ := hxw
  have hwlt : ∀ q, cF la n q → q < sz := fun q h => by rw [hsz]; exact hw.1.ftlt q h
  have hxlt : ax < sz := by rw [hsz]; exact h_x.lt
  have hplt : ap < sz := by rw [hsz]; exact h_p.lt
  have hn9 := hn.1
  have hn8 := hn.2.1
  have hn7 := hn.2.2
  have h9s : h9 < 2 ^ 31 := by omega
  have fx : Fx p s m ([.ref ax, .int (nI h9)] : List Value).toArray c cX1_orderNow RX1 g (fun q => sz ≤ q) 7 := ⟨hx, hb, hts, hown, hK, hAb, hml⟩
  have hl : lv_has ls 7 [(0, .ref ax), (1, .int (nI h9))] := hl
  refine lv_iconst (v := 0) hx hb dX1_orderNow_0 (by decide) ?_
  refine lv_istore_n (lv' := [(2, .int 0), (0, .ref ax), (1, .int (nI h9))]) hx hb dX1_orderNow_1 rfl hl (by decide) rfl (fun ls hl => ?_)
  refine lv_iconst (v := (-1)) hx hb dX1_orderNow_2 (by decide) ?_
  refine lv_istore_n (lv' := [(3, .int (-1)), (2, .int 0), (0, .ref ax), (1, .int (nI h9))]) hx hb dX1_orderNow_3 rfl hl (by decide) rfl (fun ls hl => ?_)
  refine lv_iconst (v := 0) hx hb dX1_orderNow_4 (by decide) ?_
  refine lv_istore (lv' := [(4, .int 0), (3, .int (-1)), (2, .int 0), (0, .ref ax), (1, .int (nI h9))]) hx hb dX1_orderNow_5 hl (by decide) rfl (fun ls hl => ?_)
  have lp_1 : ∀ (d_2 o : Nat) (H : Heap) (locs : List Loc) (ls : Array Slot), o + d_2 = 3 → va_S (fun q => sz ≤ q) s.heap H locs → mAt g ax (.inr (0, [.ref (la.1 0 0), .ref ap, .int (xi 0), .int (xi 1), .int (xi 2), .int (xi 3), .int (xi 4), .int (xi 5), .int (xi 6), .long sm])) H → mAt g ap (.inl (g.2.1 0, 4, .inl pd)) H → cw g (bA g) la (sc, sw, ar, fd, tr, ld, n) H → lv_has ls 7 [(4, .int (nI o)), (3, .int ((cOrd n (scCp sc, 0, arCp ar, fd, tr, ld) h9 o).2)), (2, .int ((cOrd n (scCp sc, 0, arCp ar, fd, tr, ld) h9 o).1)), (0, .ref ax), (1, .int (nI h9))] → W p l ev (mR 8 1560 10320) s m ([.ref ax, .int (nI h9)] : List Value).toArray below meth c H locs (520 * o) (3440 * o) (MQ below (mQ (fun q => sz ≤ q) (fun Hp rv Hq => rv = some (.int (cOrd n (scCp sc, 0, arCp ar, fd, tr, ld) h9 3).1))) ([.ref ax, .int (nI h9)] : List Value).toArray s 1560 10320 (fun q => sz ≤ q)) (F0 m 7 ls []) := by
    intro d_2
    induction d_2 with
    | zero =>
      intro o H locs ls hid hS h_x h_p hw hl
      obtain rfl : 3 = o := by omega
      refine lv_iload hx hb dX1_orderNow_7 (lv_at hl 0 rfl) ?_
      refine lv_iconst (v := 3) hx hb dX1_orderNow_9 (by decide) ?_
      refine lv_icmp_ge (tgt := 80) hx hb dX1_orderNow_10 (by decide) (fun _ => ?_) (fun h9 => absurd (nI_le (Nat.le_refl _) (by decide)) h9)
      refine lv_iload_n hx hb dX1_orderNow_80 rfl (lv_at hl 2 rfl) ?_
      exact ri hx hb hr hlocks hS (rfl) ⟨(by omega), (by omega)⟩ dX1_orderNow_81
    | succ d_2 ih =>
      intro o H locs ls hid hS h_x h_p hw hl
      have hi_o : o < 3 := by omega
      refine lv_iload hx hb dX1_orderNow_7 (lv_at hl 0 rfl) ?_
      refine lv_iconst (v := 3) hx hb dX1_orderNow_9 (by decide) ?_
      refine lv_icmp_ge (tgt := 80) hx hb dX1_orderNow_10 (by decide) (fun h9 => absurd h9 (nI_ge (b := 3) hi_o (by decide))) (fun _ => ?_)
      refine lv_aload_n hx hb dX1_orderNow_13 rfl (lv_at hl 3 rfl) ?_
      refine mget fx tfX1 h_x 0 (by decide) q209 (fun _ h => h) (v := .ref (la.1 0 0)) rfl dX1_orderNow_14 ?_
      have hSb := hS
      refine kV fx (m_W_copy l g _ la sc sw ar fd tr ld n hn hv) (lw_V q459 q460 q461 q51 q462) hdX2_copy ⟨(Nat.le_of_ble_eq_true rfl), (Nat.le_of_ble_eq_true rfl)⟩ ⟨(by show 520 * o + 400 ≤ 1560; omega), (by show 3440 * o + 2000 ≤ 10320; omega)⟩ hl.1 hS tfX2.2.1 (cw.w hw) rfl (Nat.le_of_ble_eq_true rfl) (⟨rfl, hw⟩) (fun q h9 => hAs q (Nat.le_trans hS.1 h9)) dX1_orderNow_17 (fun rv9 H locs hQ hz9 hk9 hS => ?_)
      obtain ⟨lb, rfl, hwm9⟩ := hQ
      replace h_x := h_x.kept (hk9 _ h_x.lt (Nat.not_le.mpr h_x.lt))
      replace h_p := h_p.kept (hk9 _ h_p.lt (Nat.not_le.mpr h_p.lt))
      replace hw : cw g (bA g) la (sc, sw, ar, fd, tr, ld, n) H := cw.kept hw (fun q h9 _ => hk9 q h9 (Nat.not_le.mpr h9))
      have hwm : cw g (fun q => sz ≤ q) lb ((scCp sc), 0, (arCp ar), fd, tr, ld, n) H := cw.weaken hwm9 (fun q h9 => hAs q (Nat.le_trans hSb.1 h9))
      refine W.eq (g2 := F0 m 20 ls [.ref (lb.1 0 0)]) rfl ?_
      refine lv_astore (lv' := [(5, .ref (lb.1 0 0)), (4, .int (nI o)), (3, .int ((cOrd n (scCp sc, 0, arCp ar, fd, tr, ld) h9 o).2)), (2, .int ((cOrd n (scCp sc, 0, arCp ar, fd, tr, ld) h9 o).1)), (0, .ref ax), (1, .int (nI h9))]) hx hb dX1_orderNow_20 hl (by decide) rfl (fun ls hl => ?_)
      refine lv_aload hx hb dX1_orderNow_22 (lv_at hl 0 rfl) ?_
      refine lv_iload hx hb dX1_orderNow_24 (lv_at hl 1 rfl) ?_
      refine mputN fx tfX2 (cw.w hwm) hS (cw.inW hwm (by decide)) 15 (by decide) q150 (fun _ h => h) rfl rfl rfl (Nat.le_of_ble_eq_true rfl) dX1_orderNow_26 (fun H locs hat hz hoq hS => ?_)
      replace h_x := h_x.kept (hoq _ (Ne.symm ((fun q h9 => Nat.ne_of_gt (Nat.lt_of_lt_of_le hxlt (hwm.1.ft q h9))) _ ⟨0, 0, (by show 0 < 7; decide), rfl⟩)))
      replace h_p := h_p.kept (hoq _ (Ne.symm ((fun q h9 => Nat.ne_of_gt (Nat.lt_of_lt_of_le hplt (hwm.1.ft q h9))) _ ⟨0, 0, (by show 0 < 7; decide), rfl⟩)))
      replace hw : cw g (bA g) la (sc, sw, ar, fd, tr, ld, n) H := cw.kept hw (fun q h9 hf9 => hoq _ ((apF hwlt hwm.1.ft) q _ hf9 ⟨0, 0, (by show 0 < 7; decide), rfl⟩))
      replace hwm : cw g (fun q => sz ≤ q) lb (va_up (scCp sc) 9 (nI o), 0, (arCp ar), fd, tr, ld, n) H := cw.setW hwm hat (fun q _ h9 => hoq q h9)
      refine lv_iconst (v := 0) hx hb dX1_orderNow_29 (by decide) ?_
      refine lv_istore (lv' := [(6, .int 0), (5, .ref (lb.1 0 0)), (4, .int (nI o)), (3, .int ((cOrd n (scCp sc, 0, arCp ar, fd, tr, ld) h9 o).2)), (2, .int ((cOrd n (scCp sc, 0, arCp ar, fd, tr, ld) h9 o).1)), (0, .ref ax), (1, .int (nI h9))]) hx hb dX1_orderNow_30 hl (by decide) rfl (fun ls hl => ?_)
      have lp_3 : ∀ (d_4 j : Nat) (H : Heap) (locs : List Loc) (ls : Array Slot), j + d_4 = h9 → va_S (fun q => sz ≤ q) s.heap H locs → mAt g ax (.inr (0, [.ref (la.1 0 0), .ref ap, .int (xi 0), .int (xi 1), .int (xi 2), .int (xi 3), .int (xi 4), .int (xi 5), .int (xi 6), .long sm])) H → mAt g ap (.inl (g.2.1 0, 4, .inl pd)) H → cw g (bA g) la (sc, sw, ar, fd, tr, ld, n) H → cw g (fun q => sz ≤ q) lb (((cRun n (va_up (scCp sc) 9 (nI o), 0, arCp ar, fd, tr, ld) 25 0 j).1).1, ((cRun n (va_up (scCp sc) 9 (nI o), 0, arCp ar, fd, tr, ld) 25 0 j).1).2.1, ((cRun n (va_up (scCp sc) 9 (nI o), 0, arCp ar, fd, tr, ld) 25 0 j).1).2.2.1, ((cRun n (va_up (scCp sc) 9 (nI o), 0, arCp ar, fd, tr, ld) 25 0 j).1).2.2.2.1, ((cRun n (va_up (scCp sc) 9 (nI o), 0, arCp ar, fd, tr, ld) 25 0 j).1).2.2.2.2.1, ((cRun n (va_up (scCp sc) 9 (nI o), 0, arCp ar, fd, tr, ld) 25 0 j).1).2.2.2.2.2, n) H → lv_has ls 7 [(6, .int (nI j)), (5, .ref (lb.1 0 0)), (4, .int (nI o)), (3, .int ((cOrd n (scCp sc, 0, arCp ar, fd, tr, ld) h9 o).2)), (2, .int ((cOrd n (scCp sc, 0, arCp ar, fd, tr, ld) h9 o).1)), (0, .ref ax), (1, .int (nI h9))] → W p l ev (mR 8 1560 10320) s m ([.ref ax, .int (nI h9)] : List Value).toArray below meth c H locs (520 * o + 400 + j) (3440 * o + 2000 + 12 * j) (MQ below (mQ (fun q => sz ≤ q) (fun Hp rv Hq => rv = some (.int (cOrd n (scCp sc, 0, arCp ar, fd, tr, ld) h9 3).1))) ([.ref ax, .int (nI h9)] : List Value).toArray s 1560 10320 (fun q => sz ≤ q)) (F0 m 32 ls []) := by
        intro d_4
        induction d_4 with
        | zero =>
          intro j H locs ls hid hS h_x h_p hw hwm hl
          obtain rfl : h9 = j := by omega
          refine lv_iload hx hb dX1_orderNow_32 (lv_at hl 0 rfl) ?_
          refine lv_iload_n hx hb dX1_orderNow_34 rfl (lv_at hl 6 rfl) ?_
          refine lv_icmp_ge (tgt := 53) hx hb dX1_orderNow_35 (by decide) (fun _ => ?_) (fun h9 => absurd (nI_le (Nat.le_refl _) h9s) h9)
          refine lv_aload hx hb dX1_orderNow_53 (lv_at hl 1 rfl) ?_
          refine mgetN fx tfX2 (cw.w hwm) 16 (by decide) q152 (fun _ h => h) (v := .int ((((cRun n (va_up (scCp sc) 9 (nI o), 0, arCp ar, fd, tr, ld) 25 0 h9).1).1) 10)) rfl dX1_orderNow_55 ?_
          refine lv_iload_n hx hb dX1_orderNow_58 rfl (lv_at hl 3 rfl) ?_
          refine lv_icmp_gt (tgt := 65) hx hb dX1_orderNow_59 (by decide) (fun c_5 => ?_) (fun c_5 => ?_)
          · skip
            refine lv_aload hx hb dX1_orderNow_65 (lv_at hl 1 rfl) ?_
            refine mgetN fx tfX2 (cw.w hwm) 16 (by decide) q152 (fun _ h => h) (v := .int ((((cRun n (va_up (scCp sc) 9 (nI o), 0, arCp ar, fd, tr, ld) 25 0 h9).1).1) 10)) rfl dX1_orderNow_67 ?_
            refine lv_istore_n (lv' := [(3, .int ((((cRun n (va_up (scCp sc) 9 (nI o), 0, arCp ar, fd, tr, ld) 25 0 h9).1).1) 10)), (6, .int (nI h9)), (5, .ref (lb.1 0 0)), (4, .int (nI o)), (2, .int ((cOrd n (scCp sc, 0, arCp ar, fd, tr, ld) h9 o).1)), (0, .ref ax), (1, .int (nI h9))]) hx hb dX1_orderNow_70 rfl hl (by decide) rfl (fun ls hl => ?_)
            refine lv_iload hx hb dX1_orderNow_71 (lv_at hl 3 rfl) ?_
            refine lv_istore_n (lv' := [(2, .int (nI o)), (3, .int ((((cRun n (va_up (scCp sc) 9 (nI o), 0, arCp ar, fd, tr, ld) 25 0 h9).1).1) 10)), (6, .int (nI h9)), (5, .ref (lb.1 0 0)), (4, .int (nI o)), (0, .ref ax), (1, .int (nI h9))]) hx hb dX1_orderNow_73 rfl hl (by decide) rfl (fun ls hl => ?_)
            refine lv_iinc (v := nI (o + 1)) (lv' := [(4, .int (nI (o + 1))), (2, .int (nI o)), (3, .int ((((cRun n (va_up (scCp sc) 9 (nI o), 0, arCp ar, fd, tr, ld) 25 0 h9).1).1) 10)), (6, .int (nI h9)), (5, .ref (lb.1 0 0)), (0, .ref ax), (1, .int (nI h9))]) hx hb dX1_orderNow_74 hl (k := 4) rfl (nI_1 _) (by decide) rfl (fun ls hl => ?_)
            refine lv_goto (tgt := 7) hx hb dX1_orderNow_77 (by decide) ?_
            have e_6 : (.int ((((cRun n (va_up (scCp sc) 9 (nI o), 0, arCp ar, fd, tr, ld) 25 0 h9).1).1) 10) : Value) = .int ((cOrd n (scCp sc, 0, arCp ar, fd, tr, ld) h9 (o + 1)).2) := (congrArg Value.int (by show _ = (if (cRun n (va_up (scCp sc) 9 (nI o), 0, arCp ar, fd, tr, ld) 25 0 h9).1.1 10 ≤ (cOrd n (scCp sc, 0, arCp ar, fd, tr, ld) h9 o).2 then _ else _ : Int32 × Int32).2; rw [if_pos c_5]))
            rw [e_6] at hl
            have e_7 : (.int (nI o) : Value) = .int ((cOrd n (scCp sc, 0, arCp ar, fd, tr, ld) h9 (o + 1)).1) := (congrArg Value.int (by show _ = (if (cRun n (va_up (scCp sc) 9 (nI o), 0, arCp ar, fd, tr, ld) 25 0 h9).1.1 10 ≤ (cOrd n (scCp sc, 0, arCp ar, fd, tr, ld) h9 o).2 then _ else _ : Int32 × Int32).1; rw [if_pos c_5]))
            rw [e_7] at hl
            refine W.widen (k := 520 * (o + 1)) (n := 3440 * (o + 1)) (by omega) (by omega) ?_
            exact ih (o + 1) H locs ls (by omega) hS h_x h_p hw hwm (lv_sub hl [0, 2, 1, 5, 6] rfl)
          · skip
            refine lv_goto (tgt := 74) hx hb dX1_orderNow_62 (by decide) ?_
            refine lv_iinc (v := nI (o + 1)) (lv' := [(4, .int (nI (o + 1))), (6, .int (nI h9)), (5, .ref (lb.1 0 0)), (3, .int ((cOrd n (scCp sc, 0, arCp ar, fd, tr, ld) h9 o).2)), (2, .int ((cOrd n (scCp sc, 0, arCp ar, fd, tr, ld) h9 o).1)), (0, .ref ax), (1, .int (nI h9))]) hx hb dX1_orderNow_74 hl (k := 2) rfl (nI_1 _) (by decide) rfl (fun ls hl => ?_)
            refine lv_goto (tgt := 7) hx hb dX1_orderNow_77 (by decide) ?_
            have e_8 : (.int ((cOrd n (scCp sc, 0, arCp ar, fd, tr, ld) h9 o).2) : Value) = .int ((cOrd n (scCp sc, 0, arCp ar, fd, tr, ld) h9 (o + 1)).2) := (congrArg Value.int (by show _ = (if (cRun n (va_up (scCp sc) 9 (nI o), 0, arCp ar, fd, tr, ld) 25 0 h9).1.1 10 ≤ (cOrd n (scCp sc, 0, arCp ar, fd, tr, ld) h9 o).2 then _ else _ : Int32 × Int32).2; rw [if_neg c_5]))
            rw [e_8] at hl
            have e_9 : (.int ((cOrd n (scCp sc, 0, arCp ar, fd, tr, ld) h9 o).1) : Value) = .int ((cOrd n (scCp sc, 0, arCp ar, fd, tr, ld) h9 (o + 1)).1) := (congrArg Value.int (by show _ = (if (cRun n (va_up (scCp sc) 9 (nI o), 0, arCp ar, fd, tr, ld) 25 0 h9).1.1 10 ≤ (cOrd n (scCp sc, 0, arCp ar, fd, tr, ld) h9 o).2 then _ else _ : Int32 × Int32).1; rw [if_neg c_5]))
            rw [e_9] at hl
            refine W.widen (k := 520 * (o + 1)) (n := 3440 * (o + 1)) (by omega) (by omega) ?_
            exact ih (o + 1) H locs ls (by omega) hS h_x h_p hw hwm (lv_sub hl [0, 3, 4, 5, 6] rfl)
        | succ d_4 ih =>
          intro j H locs ls hid hS h_x h_p hw hwm hl
          have hi_j : j < h9 := by omega
          have hv1 : cV n ((cRun n (va_up (scCp sc) 9 (nI o), 0, arCp ar, fd, tr, ld) 25 0 j).1).2.2.2.1 ((cRun n (va_up (scCp sc) 9 (nI o), 0, arCp ar, fd, tr, ld) 25 0 j).1).2.2.2.2.1 ((cRun n (va_up (scCp sc) 9 (nI o), 0, arCp ar, fd, tr, ld) 25 0 j).1).2.2.2.2.2 := cVS.run (S := (va_up (scCp sc) 9 (nI o), 0, arCp ar, fd, tr, ld)) hn hv j
          refine lv_iload hx hb dX1_orderNow_32 (lv_at hl 0 rfl) ?_
          refine lv_iload_n hx hb dX1_orderNow_34 rfl (lv_at hl 6 rfl) ?_
          refine lv_icmp_ge (tgt := 53) hx hb dX1_orderNow_35 (by decide) (fun h9 => absurd h9 (nI_ge hi_j h9s)) (fun _ => ?_)
          refine lv_aload hx hb dX1_orderNow_38 (lv_at hl 1 rfl) ?_
          refine lv_bipush (v := 25) hx hb dX1_orderNow_40 (by decide) ?_
          refine lv_iconst (v := 0) hx hb dX1_orderNow_42 (by decide) ?_
          have hbk := cw.back hwm (fun q h9 => hAs q (Nat.le_trans hS.1 h9))
          have hSb := hS
          refine kV fx (m_W_pass l g _ lb (((cRun n (va_up (scCp sc) 9 (nI o), 0, arCp ar, fd, tr, ld) 25 0 j).1).1) (((cRun n (va_up (scCp sc) 9 (nI o), 0, arCp ar, fd, tr, ld) 25 0 j).1).2.1) (((cRun n (va_up (scCp sc) 9 (nI o), 0, arCp ar, fd, tr, ld) 25 0 j).1).2.2.1) (((cRun n (va_up (scCp sc) 9 (nI o), 0, arCp ar, fd, tr, ld) 25 0 j).1).2.2.2.1) (((cRun n (va_up (scCp sc) 9 (nI o), 0, arCp ar, fd, tr, ld) 25 0 j).1).2.2.2.2.1) (((cRun n (va_up (scCp sc) 9 (nI o), 0, arCp ar, fd, tr, ld) 25 0 j).1).2.2.2.2.2) n hn hv1 25 0) (lw_V q552 q553 q554 q51 q555) hdX2_pass ⟨(Nat.le_of_ble_eq_true rfl), (Nat.le_of_ble_eq_true rfl)⟩ ⟨(by show 520 * o + 400 + j + 1 ≤ 1560; omega), (by show 3440 * o + 2000 + 12 * j + 12 ≤ 10320; omega)⟩ hl.1 hS tfX2.2.1 (cw.w hwm) rfl (Nat.le_of_ble_eq_true rfl) (⟨rfl, cw.weaken hwm fx.2.2.2.2.2.1⟩) (fun q h9 => hbk q h9) dX1_orderNow_43 (fun rv9 H locs hQ hz9 hk9 hS => ?_)
          obtain ⟨rfl, hw9⟩ := hQ
          replace h_x := h_x.kept (hk9 _ h_x.lt (fun h9 => h9.elim (fun h8 => (fun q h9 => Nat.ne_of_gt (Nat.lt_of_lt_of_le hxlt (hwm.1.ft q h9))) _ h8 rfl) (Nat.not_le.mpr h_x.lt)))
          replace h_p := h_p.kept (hk9 _ h_p.lt (fun h9 => h9.elim (fun h8 => (fun q h9 => Nat.ne_of_gt (Nat.lt_of_lt_of_le hplt (hwm.1.ft q h9))) _ h8 rfl) (Nat.not_le.mpr h_p.lt)))
          replace hw : cw g (bA g) la (sc, sw, ar, fd, tr, ld, n) H := cw.kept hw (fun q h9 hf9 => hk9 _ h9 (fun h8 => h8.elim (fun h7 => (fun q a9 b9 => apF hwlt hwm.1.ft q q a9 b9 rfl) q hf9 h7) (Nat.not_le.mpr h9)))
          replace hwm : cw g (fun q => sz ≤ q) lb (((cPass n (((cRun n (va_up (scCp sc) 9 (nI o), 0, arCp ar, fd, tr, ld) 25 0 j).1).1, ((cRun n (va_up (scCp sc) 9 (nI o), 0, arCp ar, fd, tr, ld) 25 0 j).1).2.1, ((cRun n (va_up (scCp sc) 9 (nI o), 0, arCp ar, fd, tr, ld) 25 0 j).1).2.2.1, ((cRun n (va_up (scCp sc) 9 (nI o), 0, arCp ar, fd, tr, ld) 25 0 j).1).2.2.2.1, ((cRun n (va_up (scCp sc) 9 (nI o), 0, arCp ar, fd, tr, ld) 25 0 j).1).2.2.2.2.1, ((cRun n (va_up (scCp sc) 9 (nI o), 0, arCp ar, fd, tr, ld) 25 0 j).1).2.2.2.2.2) 25 0).1).1, ((cPass n (((cRun n (va_up (scCp sc) 9 (nI o), 0, arCp ar, fd, tr, ld) 25 0 j).1).1, ((cRun n (va_up (scCp sc) 9 (nI o), 0, arCp ar, fd, tr, ld) 25 0 j).1).2.1, ((cRun n (va_up (scCp sc) 9 (nI o), 0, arCp ar, fd, tr, ld) 25 0 j).1).2.2.1, ((cRun n (va_up (scCp sc) 9 (nI o), 0, arCp ar, fd, tr, ld) 25 0 j).1).2.2.2.1, ((cRun n (va_up (scCp sc) 9 (nI o), 0, arCp ar, fd, tr, ld) 25 0 j).1).2.2.2.2.1, ((cRun n (va_up (scCp sc) 9 (nI o), 0, arCp ar, fd, tr, ld) 25 0 j).1).2.2.2.2.2) 25 0).1).2.1, ((cPass n (((cRun n (va_up (scCp sc) 9 (nI o), 0, arCp ar, fd, tr, ld) 25 0 j).1).1, ((cRun n (va_up (scCp sc) 9 (nI o), 0, arCp ar, fd, tr, ld) 25 0 j).1).2.1, ((cRun n (va_up (scCp sc) 9 (nI o), 0, arCp ar, fd, tr, ld) 25 0 j).1).2.2.1, ((cRun n (va_up (scCp sc) 9 (nI o), 0, arCp ar, fd, tr, ld) 25 0 j).1).2.2.2.1, ((cRun n (va_up (scCp sc) 9 (nI o), 0, arCp ar, fd, tr, ld) 25 0 j).1).2.2.2.2.1, ((cRun n (va_up (scCp sc) 9 (nI o), 0, arCp ar, fd, tr, ld) 25 0 j).1).2.2.2.2.2) 25 0).1).2.2.1, ((cPass n (((cRun n (va_up (scCp sc) 9 (nI o), 0, arCp ar, fd, tr, ld) 25 0 j).1).1, ((cRun n (va_up (scCp sc) 9 (nI o), 0, arCp ar, fd, tr, ld) 25 0 j).1).2.1, ((cRun n (va_up (scCp sc) 9 (nI o), 0, arCp ar, fd, tr, ld) 25 0 j).1).2.2.1, ((cRun n (va_up (scCp sc) 9 (nI o), 0, arCp ar, fd, tr, ld) 25 0 j).1).2.2.2.1, ((cRun n (va_up (scCp sc) 9 (nI o), 0, arCp ar, fd, tr, ld) 25 0 j).1).2.2.2.2.1, ((cRun n (va_up (scCp sc) 9 (nI o), 0, arCp ar, fd, tr, ld) 25 0 j).1).2.2.2.2.2) 25 0).1).2.2.2.1, ((cPass n (((cRun n (va_up (scCp sc) 9 (nI o), 0, arCp ar, fd, tr, ld) 25 0 j).1).1, ((cRun n (va_up (scCp sc) 9 (nI o), 0, arCp ar, fd, tr, ld) 25 0 j).1).2.1, ((cRun n (va_up (scCp sc) 9 (nI o), 0, arCp ar, fd, tr, ld) 25 0 j).1).2.2.1, ((cRun n (va_up (scCp sc) 9 (nI o), 0, arCp ar, fd, tr, ld) 25 0 j).1).2.2.2.1, ((cRun n (va_up (scCp sc) 9 (nI o), 0, arCp ar, fd, tr, ld) 25 0 j).1).2.2.2.2.1, ((cRun n (va_up (scCp sc) 9 (nI o), 0, arCp ar, fd, tr, ld) 25 0 j).1).2.2.2.2.2) 25 0).1).2.2.2.2.1, ((cPass n (((cRun n (va_up (scCp sc) 9 (nI o), 0, arCp ar, fd, tr, ld) 25 0 j).1).1, ((cRun n (va_up (scCp sc) 9 (nI o), 0, arCp ar, fd, tr, ld) 25 0 j).1).2.1, ((cRun n (va_up (scCp sc) 9 (nI o), 0, arCp ar, fd, tr, ld) 25 0 j).1).2.2.1, ((cRun n (va_up (scCp sc) 9 (nI o), 0, arCp ar, fd, tr, ld) 25 0 j).1).2.2.2.1, ((cRun n (va_up (scCp sc) 9 (nI o), 0, arCp ar, fd, tr, ld) 25 0 j).1).2.2.2.2.1, ((cRun n (va_up (scCp sc) 9 (nI o), 0, arCp ar, fd, tr, ld) 25 0 j).1).2.2.2.2.2) 25 0).1).2.2.2.2.2, n) H := cw.weaken hw9 hbk
          refine W.eq (g2 := F0 m 46 ls [.int ((cPass n (((cRun n (va_up (scCp sc) 9 (nI o), 0, arCp ar, fd, tr, ld) 25 0 j).1).1, ((cRun n (va_up (scCp sc) 9 (nI o), 0, arCp ar, fd, tr, ld) 25 0 j).1).2.1, ((cRun n (va_up (scCp sc) 9 (nI o), 0, arCp ar, fd, tr, ld) 25 0 j).1).2.2.1, ((cRun n (va_up (scCp sc) 9 (nI o), 0, arCp ar, fd, tr, ld) 25 0 j).1).2.2.2.1, ((cRun n (va_up (scCp sc) 9 (nI o), 0, arCp ar, fd, tr, ld) 25 0 j).1).2.2.2.2.1, ((cRun n (va_up (scCp sc) 9 (nI o), 0, arCp ar, fd, tr, ld) 25 0 j).1).2.2.2.2.2) 25 0).2)]) rfl ?_
          refine lv_pop hx hb dX1_orderNow_46 rfl ?_
          refine lv_iinc (v := nI (j + 1)) (lv' := [(6, .int (nI (j + 1))), (5, .ref (lb.1 0 0)), (4, .int (nI o)), (3, .int ((cOrd n (scCp sc, 0, arCp ar, fd, tr, ld) h9 o).2)), (2, .int ((cOrd n (scCp sc, 0, arCp ar, fd, tr, ld) h9 o).1)), (0, .ref ax), (1, .int (nI h9))]) hx hb dX1_orderNow_47 hl (k := 0) rfl (nI_1 _) (by decide) rfl (fun ls hl => ?_)
          refine lv_goto (tgt := 32) hx hb dX1_orderNow_50 (by decide) ?_
          refine W.widen (k := 520 * o + 400 + (j + 1)) (n := 3440 * o + 2000 + 12 * (j + 1)) (by omega) (by omega) ?_
          exact ih (j + 1) H locs ls (by omega) hS h_x h_p hw hwm (lv_sub hl [0, 1, 2, 3, 4, 5, 6] rfl)
      refine W.widen (k := 520 * o + 400 + 0) (n := 3440 * o + 2000 + 12 * 0) (by omega) (by omega) ?_
      exact lp_3 (h9 - 0) 0 H locs ls (by omega) hS h_x h_p hw hwm (lv_sub hl [0, 1, 2, 3, 4, 5, 6] rfl)
  refine W.widen (k := 520 * 0) (n := 3440 * 0) (by omega) (by omega) ?_
  exact lp_1 (3 - 0) 0 H locs ls (by omega) hS h_x h_p hw (lv_sub hl [0, 1, 2, 3, 4] rfl)

theorem cV.f0x {n : CN} {fd tr ld : Nat → Nat → Int32} (h : cV n fd tr ld) : cV (nA (n 0) 0 0) fd (fun _ _ => 0) (fun _ _ => 0) :=
  ⟨fun k hk => h.1 k hk, fun k hk => absurd hk (Nat.not_lt_zero _), fun k hk => absurd hk (Nat.not_lt_zero _)⟩
set_option maxHeartbeats 4000000 in
theorem m_X_dayNow (l : Launch) (g : GT) (sz ax ap : Nat) (la : LT) (sc : Nat → Int32) (sw : Int64) (ar fd tr ld : Nat → Nat → Int32) (n : CN) (xi : Nat → Int32) (sm : Int64) (pd : Nat → Int32) (hn : cN n) (hv : cV n fd tr ld) (k d9 : Nat) (wa ra : Int32) (hk : k < n 0) (hd : d9 ≤ 60) : Cn l g yX1_dayNow cX1_dayNow 10 ((some .int)) 8 110 1000 [.ref ax, .int (nI k), .int (nI d9), .int wa, .int ra] (fun q => sz ≤ q) (fun H => sz = H.size ∧ xw g (bA g) ax ap la (sc, sw, ar, fd, tr, ld, n) xi sm pd H) (fun Hp rv Hq => rv = some (.int (cDayB (n 0) fd k wa ra d9).1)) := by
  refine Cn.start (plainFor_of_name (by decide +kernel)) (Nat.le_of_ble_eq_true rfl) ?_
  intro p ev s m below meth c ls H locs hH hx hb hr hts hown hlocks hml hnm hK hP hS hl
  obtain ⟨hsz, hxw⟩ := hP
  have hszs : sz = s.heap.size := by rw [hsz, hH]
  have hAs : ∀ q, s.heap.size ≤ q → sz ≤ q := fun q h => by rw [hszs]; exact h
  have hAb : ∀ q, sz ≤ q → bA g q := fun q h => Nat.le_trans hK.2.2.sz (by rw [← hszs]; exact h)
  obtain ⟨hw, h_x, h_p, inx, inp, nxp, nfx, nfp⟩ := hxw
  have hwlt : ∀ q, cF la n q → q < sz := fun q h => by rw [hsz]; exact hw.1.ftlt q h
  have hxlt : ax < sz := by rw [hsz]; exact h_x.lt
  have hplt : ap < sz := by rw [hsz]; exact h_p.lt
  have hn9 := hn.1
  have hn8 := hn.2.1
  have hn7 := hn.2.2
  have hd31 : d9 < 2 ^ 31 := by omega
  have hn1 : cN (nA (n 0) 0 0) := ⟨hn9, Nat.zero_le _, Nat.zero_le _⟩
  have fx : Fx p s m ([.ref ax, .int (nI k), .int (nI d9), .int wa, .int ra] : List Value).toArray c cX1_dayNow RX1 g (fun q => sz ≤ q) 10 := ⟨hx, hb, hts, hown, hK, hAb, hml⟩
  have hl : lv_has ls 10 [(0, .ref ax), (1, .int (nI k)), (2, .int (nI d9)), (3, .int wa), (4, .int ra)] := hl
  refine mnew fx [.null, .null, .null, .null, .null, .null, .int 0, .int 0, .int 0, .int 0, .int 0, .int 0, .int 0, .int 0, .int 0, .int 0, .int 0, .int 0, .int 0, .int 0, .int 0, .long 0] tfX2 q88 q89 q51 hS dv_X2 ⟨(Nat.le_of_ble_eq_true rfl), (Nat.le_of_ble_eq_true rfl)⟩ dX1_dayNow_0 (fun an_2 H ean_2 hloan_2 hat hz hoq hS => ?_)
  have ne_3 : ax ≠ an_2 := Nat.ne_of_lt (by rw [ean_2]; exact h_x.lt)
  replace h_x := h_x.kept (hoq _ (by rw [ean_2]; exact h_x.lt))
  have ne_4 : ap ≠ an_2 := Nat.ne_of_lt (by rw [ean_2]; exact h_p.lt)
  replace h_p := h_p.kept (hoq _ (by rw [ean_2]; exact h_p.lt))
  have nin_5 : ∀ q, cF la n q → q ≠ an_2 := fun q h9 => Nat.ne_of_lt (by rw [ean_2]; exact hw.1.ftlt q h9)
  replace hw : cw g (bA g) la (sc, sw, ar, fd, tr, ld, n) H := cw.kept hw (fun q h9 _ => hoq q (by rw [ean_2]; exact h9))
  have inan_2 := hAs an_2 hloan_2
  have hn_1 : mAt g an_2 (.inr (1, [.null, .null, .null, .null, .null, .null, .int 0, .int 0, .int 0, .int 0, .int 0, .int 0, .int 0, .int 0, .int 0, .int 0, .int 0, .int 0, .int 0, .int 0, .int 0, .long 0])) H := hat
  refine lv_dup hx hb dX1_dayNow_3 rfl ?_
  have hbk : ∀ q, fA (fun q => q = an_2) H.size q → (fun q => sz ≤ q) q := fun q h9 => h9.elim (fun h8 => by rw [h8]; exact inan_2) (fun h8 => hAs q (Nat.le_trans hS.1 h8))
  have hlt_6 := h_x.lt
  have hlt_7 := h_p.lt
  have hSb := hS
  refine kIN fx (m_W_init l g an_2 _ (fx.2.2.2.2.2.1 _ inan_2)) q92 q51 q90 q91 rfl hdX2_init ⟨(Nat.le_of_ble_eq_true rfl), (Nat.le_of_ble_eq_true rfl)⟩ ⟨(Nat.le_of_ble_eq_true rfl), (Nat.le_of_ble_eq_true rfl)⟩ hl.1 hS rfl (Nat.le_of_ble_eq_true rfl) (⟨rfl, hn_1⟩) (fun q h9 => hbk q h9) dX1_dayNow_4 (fun rv9 H locs hQ hz9 hk9 hS => ?_)
  obtain ⟨rfl, lb, hb0, hcap0, hwm9⟩ := hQ
  replace h_x := h_x.kept (hk9 _ h_x.lt (fun h9 => h9.elim (fun h8 => ne_3 h8) (Nat.not_le.mpr h_x.lt)))
  replace h_p := h_p.kept (hk9 _ h_p.lt (fun h9 => h9.elim (fun h8 => ne_4 h8) (Nat.not_le.mpr h_p.lt)))
  replace hw : cw g (bA g) la (sc, sw, ar, fd, tr, ld, n) H := cw.kept hw (fun q h9 hf9 => hk9 _ h9 (fun h8 => h8.elim (fun h7 => nin_5 q hf9 h7) (Nat.not_le.mpr h9)))
  have nin_8 : ∀ q, cF lb (nA 0 0 0) q → q ≠ ax := fun q h9 => ((cw.begin hwm9).1.ft q h9).elim (fun h8 => by rw [h8]; exact Ne.symm ne_3) (fun h8 => Nat.ne_of_gt (Nat.lt_of_lt_of_le hlt_6 h8))
  have nin_9 : ∀ q, cF lb (nA 0 0 0) q → q ≠ ap := fun q h9 => ((cw.begin hwm9).1.ft q h9).elim (fun h8 => by rw [h8]; exact Ne.symm ne_4) (fun h8 => Nat.ne_of_gt (Nat.lt_of_lt_of_le hlt_7 h8))
  have hwm : cw g (fun q => sz ≤ q) lb (scI, 0, (fun _ _ => 0), (fun _ _ => 0), (fun _ _ => 0), (fun _ _ => 0), (nA 0 0 0)) H := cw.begin (cw.weaken hwm9 hbk)
  refine W.eq (g2 := F0 m 7 ls [.ref (lb.1 0 0)]) (by rw [hb0]; rfl) ?_
  refine lv_astore (lv' := [(5, .ref (lb.1 0 0)), (0, .ref ax), (1, .int (nI k)), (2, .int (nI d9)), (3, .int wa), (4, .int ra)]) hx hb dX1_dayNow_7 hl (by decide) rfl (fun ls hl => ?_)
  refine lv_iconst (v := 0) hx hb dX1_dayNow_9 (by decide) ?_
  refine lv_istore (lv' := [(6, .int 0), (5, .ref (lb.1 0 0)), (0, .ref ax), (1, .int (nI k)), (2, .int (nI d9)), (3, .int wa), (4, .int ra)]) hx hb dX1_dayNow_10 hl (by decide) rfl (fun ls hl => ?_)
  have lp_10 : ∀ (d_11 i : Nat) (H : Heap) (locs : List Loc) (ls : Array Slot) (lb0 : LT), i + d_11 = n 0 → va_S (fun q => sz ≤ q) s.heap H locs → mAt g ax (.inr (0, [.ref (la.1 0 0), .ref ap, .int (xi 0), .int (xi 1), .int (xi 2), .int (xi 3), .int (xi 4), .int (xi 5), .int (xi 6), .long sm])) H → mAt g ap (.inl (g.2.1 0, 4, .inl pd)) H → cw g (bA g) la (sc, sw, ar, fd, tr, ld, n) H → cw g (fun q => sz ≤ q) lb0 (scI, 0, (fun _ _ => 0), cpF fd i, (fun _ _ => 0), (fun _ _ => 0), (nA i 0 0)) H → lv_has ls 10 [(6, .int (nI i)), (5, .ref (lb0.1 0 0)), (0, .ref ax), (1, .int (nI k)), (2, .int (nI d9)), (3, .int wa), (4, .int ra)] → W p l ev (mR 8 110 1000) s m ([.ref ax, .int (nI k), .int (nI d9), .int wa, .int ra] : List Value).toArray below meth c H locs (7 + (i + lb0.2.1 0)) (43 + (11 * i + 4 * lb0.2.1 0)) (MQ below (mQ (fun q => sz ≤ q) (fun Hp rv Hq => rv = some (.int (cDayB (n 0) fd k wa ra d9).1))) ([.ref ax, .int (nI k), .int (nI d9), .int wa, .int ra] : List Value).toArray s 110 1000 (fun q => sz ≤ q)) (F0 m 12 ls []) := by
    intro d_11
    induction d_11 with
    | zero =>
      intro i H locs ls lb0 hid hS h_x h_p hw hwm hl
      obtain rfl : n 0 = i := by omega
      have hcb0 : 2 * lb0.2.1 0 ≤ 20 + 3 * n 0 := (hwm.2 0 (by decide)).2.2.2
      replace hwm : cw g (fun q => sz ≤ q) lb0 (scI, 0, (fun _ _ => 0), fd, (fun _ _ => 0), (fun _ _ => 0), (nA (n 0) 0 0)) H := cw.congr hwm (fun _ _ => rfl) (fun _ _ => rfl) (fun _ _ => rfl) (fun i hi q hq => (cpF_at hi q hq).symm) (fun _ _ _ _ => rfl) (fun _ _ _ _ => rfl)
      refine lv_iload hx hb dX1_dayNow_12 (lv_at hl 0 rfl) ?_
      refine lv_aload_n hx hb dX1_dayNow_14 rfl (lv_at hl 2 rfl) ?_
      refine mget fx tfX1 h_x 0 (by decide) q209 (fun _ h => h) (v := .ref (la.1 0 0)) rfl dX1_dayNow_15 ?_
      refine mgetN fx tfX2 (cw.w hw) 0 (by decide) q121 (fun _ h => h) (v := .ref (la.1 0 1)) rfl dX1_dayNow_18 ?_
      refine kV fx (m_AL_size l g (la.1 0 1) (la.1 1 0) (la.2.2 0) (nI (n 0))) (lw_V q253 q254 q255 q54 q256) hdJ2_size ⟨(Nat.le_of_ble_eq_true rfl), (Nat.le_of_ble_eq_true rfl)⟩ ⟨(by show 7 + (n 0 + lb0.2.1 0) + 0 ≤ 110; omega), (by show 43 + (11 * (n 0) + 4 * lb0.2.1 0) + 0 ≤ 1000; omega)⟩ hl.1 hS tfJ2.2.1 (cw.al0 hw) rfl (Nat.le_of_ble_eq_true rfl) (cw.al0 hw) (fun _ h => h.elim) dX1_dayNow_21 (fun rv9 H locs hQ hz9 hk9 hS => ?_)
      obtain ⟨rfl, rfl⟩ := hQ
      refine W.eq (g2 := F0 m 24 ls [.int (nI (n 0)), .int (nI (n 0))]) rfl ?_
      refine lv_icmp_ge (tgt := 60) hx hb dX1_dayNow_24 (by decide) (fun _ => ?_) (fun h9 => absurd (nI_le (Nat.le_refl _) hn.h0) h9)
      refine lv_aload hx hb dX1_dayNow_60 (lv_at hl 1 rfl) ?_
      refine mgetN fx tfX2 (cw.w hwm) 0 (by decide) q121 (fun _ h => h) (v := .ref (lb0.1 0 1)) rfl dX1_dayNow_62 ?_
      refine lv_iload_n hx hb dX1_dayNow_65 rfl (lv_at hl 3 rfl) ?_
      refine kV fx (m_AL_get l g (lb0.1 0 1) (lb0.1 1 0) k ((nA (n 0) 0 0) 0) (lb0.2.1 0) (lb0.1 2 k) (lb0.2.2 0) (elF lb0.1 (nA (n 0) 0 0) 0) hk (cw.get hwm (k := 0) (by decide) hk).2.1 (cw.get hwm (k := 0) (by decide) hk).2.2.1 (cw.get hwm (k := 0) (by decide) hk).2.2.2) (lw_V q286 q263 q264 q54 q265) hdJ2_get ⟨(Nat.le_of_ble_eq_true rfl), (Nat.le_of_ble_eq_true rfl)⟩ ⟨(by show 7 + (n 0 + lb0.2.1 0) + 0 ≤ 110; omega), (by show 43 + (11 * (n 0) + 4 * lb0.2.1 0) + 0 ≤ 1000; omega)⟩ hl.1 hS tfJ2.2.1 (cw.al0 hwm) rfl (Nat.le_of_ble_eq_true rfl) (⟨(cw.al0 hwm), (cw.get hwm (k := 0) (by decide) hk).1⟩) (fun _ h => h.elim) dX1_dayNow_66 (fun rv9 H locs hQ hz9 hk9 hS => ?_)
      obtain ⟨rfl, rfl⟩ := hQ
      refine W.eq (g2 := F0 m 69 ls [.ref (lb0.1 2 k)]) rfl ?_
      refine mcast fx tfX5 (cw.f hwm hk) q287 dX1_dayNow_69 ?_
      refine lv_astore (lv' := [(6, .ref (lb0.1 2 k)), (5, .ref (lb0.1 0 0)), (0, .ref ax), (1, .int (nI k)), (2, .int (nI d9)), (3, .int wa), (4, .int ra)]) hx hb dX1_dayNow_72 hl (by decide) rfl (fun ls hl => ?_)
      refine lv_iconst (v := 0) hx hb dX1_dayNow_74 (by decide) ?_
      refine lv_istore (lv' := [(7, .int 0), (6, .ref (lb0.1 2 k)), (5, .ref (lb0.1 0 0)), (0, .ref ax), (1, .int (nI k)), (2, .int (nI d9)), (3, .int wa), (4, .int ra)]) hx hb dX1_dayNow_75 hl (by decide) rfl (fun ls hl => ?_)
      refine lv_aload hx hb dX1_dayNow_77 (lv_at hl 1 rfl) ?_
      refine mgetN fx tfX5 (cw.f hwm hk) 3 (by decide) q316 (fun _ h => h) (v := .int (fd k 3)) rfl dX1_dayNow_79 ?_
      refine lv_aload hx hb dX1_dayNow_82 (lv_at hl 1 rfl) ?_
      refine mgetN fx tfX5 (cw.f hwm hk) 4 (by decide) q318 (fun _ h => h) (v := .int (fd k 4)) rfl dX1_dayNow_84 ?_
      refine lv_imul hx hb dX1_dayNow_87 ?_
      refine lv_istore (lv' := [(8, .int ((fd k 3) * (fd k 4))), (7, .int 0), (6, .ref (lb0.1 2 k)), (5, .ref (lb0.1 0 0)), (0, .ref ax), (1, .int (nI k)), (2, .int (nI d9)), (3, .int wa), (4, .int ra)]) hx hb dX1_dayNow_88 hl (by decide) rfl (fun ls hl => ?_)
      refine lv_iconst (v := 1) hx hb dX1_dayNow_90 (by decide) ?_
      refine lv_istore (lv' := [(9, .int 1), (8, .int ((fd k 3) * (fd k 4))), (7, .int 0), (6, .ref (lb0.1 2 k)), (5, .ref (lb0.1 0 0)), (0, .ref ax), (1, .int (nI k)), (2, .int (nI d9)), (3, .int wa), (4, .int ra)]) hx hb dX1_dayNow_91 hl (by decide) rfl (fun ls hl => ?_)
      have lp_12 : ∀ (d_13 d : Nat) (H : Heap) (locs : List Loc) (ls : Array Slot), d + d_13 = d9 → va_S (fun q => sz ≤ q) s.heap H locs → cw g (fun q => sz ≤ q) lb0 (scI, 0, (fun _ _ => 0), cDayF (n 0) fd wa ra d, (fun _ _ => 0), (fun _ _ => 0), (nA (n 0) 0 0)) H → lv_has ls 10 [(9, .int (nI (d + 1))), (8, .int ((cDayB (n 0) fd k wa ra d).2)), (7, .int ((cDayB (n 0) fd k wa ra d).1)), (6, .ref (lb0.1 2 k)), (5, .ref (lb0.1 0 0)), (2, .int (nI d9)), (3, .int wa), (4, .int ra)] → W p l ev (mR 8 110 1000) s m ([.ref ax, .int (nI k), .int (nI d9), .int wa, .int ra] : List Value).toArray below meth c H locs (50 + d) (280 + 12 * d) (MQ below (mQ (fun q => sz ≤ q) (fun Hp rv Hq => rv = some (.int (cDayB (n 0) fd k wa ra d9).1))) ([.ref ax, .int (nI k), .int (nI d9), .int wa, .int ra] : List Value).toArray s 110 1000 (fun q => sz ≤ q)) (F0 m 93 ls []) := by
        intro d_13
        induction d_13 with
        | zero =>
          intro d H locs ls hid hS hwm hl
          obtain rfl : d9 = d := by omega
          refine lv_iload hx hb dX1_dayNow_93 (lv_at hl 0 rfl) ?_
          refine lv_iload_n hx hb dX1_dayNow_95 rfl (lv_at hl 5 rfl) ?_
          refine lv_icmp_gt (tgt := 149) hx hb dX1_dayNow_96 (by decide) (fun _ => ?_) (fun h9 => absurd (nI_lt (Nat.lt_succ_self _) (by omega)) h9)
          refine lv_iload hx hb dX1_dayNow_149 (lv_at hl 2 rfl) ?_
          exact ri hx hb hr hlocks hS (rfl) ⟨(by omega), (by omega)⟩ dX1_dayNow_151
        | succ d_13 ih =>
          intro d H locs ls hid hS hwm hl
          have hi_d : d < d9 := by omega
          have hv1 : cV (nA (n 0) 0 0) (cDayF (n 0) fd wa ra d) (fun _ _ => 0) (fun _ _ => 0) := (hv.dayF d).f0x
          refine lv_iload hx hb dX1_dayNow_93 (lv_at hl 0 rfl) ?_
          refine lv_iload_n hx hb dX1_dayNow_95 rfl (lv_at hl 5 rfl) ?_
          refine lv_icmp_gt (tgt := 149) hx hb dX1_dayNow_96 (by decide) (fun h9 => absurd h9 (nI_nlt hi_d (by omega))) (fun _ => ?_)
          refine lv_aload hx hb dX1_dayNow_99 (lv_at hl 4 rfl) ?_
          refine lv_iload_n hx hb dX1_dayNow_101 rfl (lv_at hl 6 rfl) ?_
          refine lv_iload hx hb dX1_dayNow_102 (lv_at hl 7 rfl) ?_
          have hbk := cw.back hwm (fun q h9 => hAs q (Nat.le_trans hS.1 h9))
          have hSb := hS
          refine kV fx (m_W_endFields l g _ lb0 scI 0 (fun _ _ => 0) (cDayF (n 0) fd wa ra d) (fun _ _ => 0) (fun _ _ => 0) (nA (n 0) 0 0) hn1 hv1 wa ra) (lw_V q418 q419 q420 q51 q421) hdX2_endFields ⟨(Nat.le_of_ble_eq_true rfl), (Nat.le_of_ble_eq_true rfl)⟩ ⟨(by show 50 + d + 1 ≤ 110; omega), (by show 280 + 12 * d + 12 ≤ 1000; omega)⟩ hl.1 hS tfX2.2.1 (cw.w hwm) rfl (Nat.le_of_ble_eq_true rfl) (⟨rfl, cw.weaken hwm fx.2.2.2.2.2.1⟩) (fun q h9 => hbk q h9) dX1_dayNow_104 (fun rv9 H locs hQ hz9 hk9 hS => ?_)
          obtain ⟨rfl, hw9⟩ := hQ
          replace hwm : cw g (fun q => sz ≤ q) lb0 (scI, 0, (fun _ _ => 0), cDayF (n 0) fd wa ra (d + 1), (fun _ _ => 0), (fun _ _ => 0), (nA (n 0) 0 0)) H := cw.weaken hw9 hbk
          refine W.eq (g2 := F0 m 107 ls []) rfl ?_
          refine lv_aload hx hb dX1_dayNow_107 (lv_at hl 3 rfl) ?_
          refine mgetN fx tfX5 (cw.f hwm hk) 3 (by decide) q316 (fun _ h => h) (v := .int ((cDayF (n 0) fd wa ra (d + 1)) k 3)) rfl dX1_dayNow_109 ?_
          refine lv_aload hx hb dX1_dayNow_112 (lv_at hl 3 rfl) ?_
          refine mgetN fx tfX5 (cw.f hwm hk) 4 (by decide) q318 (fun _ h => h) (v := .int ((cDayF (n 0) fd wa ra (d + 1)) k 4)) rfl dX1_dayNow_114 ?_
          refine lv_imul hx hb dX1_dayNow_117 ?_
          refine lv_iload hx hb dX1_dayNow_118 (lv_at hl 1 rfl) ?_
          refine lv_icmp_gt (tgt := 126) hx hb dX1_dayNow_120 (by decide) (fun c_14 => ?_) (fun c_14 => ?_)
          · skip
            refine lv_aload hx hb dX1_dayNow_126 (lv_at hl 3 rfl) ?_
            refine mgetN fx tfX5 (cw.f hwm hk) 3 (by decide) q316 (fun _ h => h) (v := .int ((cDayF (n 0) fd wa ra (d + 1)) k 3)) rfl dX1_dayNow_128 ?_
            refine lv_aload hx hb dX1_dayNow_131 (lv_at hl 3 rfl) ?_
            refine mgetN fx tfX5 (cw.f hwm hk) 4 (by decide) q318 (fun _ h => h) (v := .int ((cDayF (n 0) fd wa ra (d + 1)) k 4)) rfl dX1_dayNow_133 ?_
            refine lv_imul hx hb dX1_dayNow_136 ?_
            refine lv_istore (lv' := [(8, .int (((cDayF (n 0) fd wa ra (d + 1)) k 3) * ((cDayF (n 0) fd wa ra (d + 1)) k 4))), (9, .int (nI (d + 1))), (7, .int ((cDayB (n 0) fd k wa ra d).1)), (6, .ref (lb0.1 2 k)), (5, .ref (lb0.1 0 0)), (2, .int (nI d9)), (3, .int wa), (4, .int ra)]) hx hb dX1_dayNow_137 hl (by decide) rfl (fun ls hl => ?_)
            refine lv_iload hx hb dX1_dayNow_139 (lv_at hl 1 rfl) ?_
            refine lv_istore (lv' := [(7, .int (nI (d + 1))), (8, .int (((cDayF (n 0) fd wa ra (d + 1)) k 3) * ((cDayF (n 0) fd wa ra (d + 1)) k 4))), (9, .int (nI (d + 1))), (6, .ref (lb0.1 2 k)), (5, .ref (lb0.1 0 0)), (2, .int (nI d9)), (3, .int wa), (4, .int ra)]) hx hb dX1_dayNow_141 hl (by decide) rfl (fun ls hl => ?_)
            refine lv_iinc (v := nI ((d + 1) + 1)) (lv' := [(9, .int (nI ((d + 1) + 1))), (7, .int (nI (d + 1))), (8, .int (((cDayF (n 0) fd wa ra (d + 1)) k 3) * ((cDayF (n 0) fd wa ra (d + 1)) k 4))), (6, .ref (lb0.1 2 k)), (5, .ref (lb0.1 0 0)), (2, .int (nI d9)), (3, .int wa), (4, .int ra)]) hx hb dX1_dayNow_143 hl (k := 2) rfl (nI_1 _) (by decide) rfl (fun ls hl => ?_)
            refine lv_goto (tgt := 93) hx hb dX1_dayNow_146 (by decide) ?_
            have e_15 : (.int (((cDayF (n 0) fd wa ra (d + 1)) k 3) * ((cDayF (n 0) fd wa ra (d + 1)) k 4)) : Value) = .int ((cDayB (n 0) fd k wa ra (d + 1)).2) := (congrArg Value.int (by show _ = (if (cDayF (n 0) fd wa ra (d + 1)) k 3 * (cDayF (n 0) fd wa ra (d + 1)) k 4 ≤ (cDayB (n 0) fd k wa ra d).2 then _ else _ : Int32 × Int32).2; rw [if_pos c_14]))
            rw [e_15] at hl
            have e_16 : (.int (nI (d + 1)) : Value) = .int ((cDayB (n 0) fd k wa ra (d + 1)).1) := (congrArg Value.int (by show _ = (if (cDayF (n 0) fd wa ra (d + 1)) k 3 * (cDayF (n 0) fd wa ra (d + 1)) k 4 ≤ (cDayB (n 0) fd k wa ra d).2 then _ else _ : Int32 × Int32).1; rw [if_pos c_14]))
            rw [e_16] at hl
            refine W.widen (k := 50 + (d + 1)) (n := 280 + 12 * (d + 1)) (by omega) (by omega) ?_
            exact ih (d + 1) H locs ls (by omega) hS hwm (lv_sub hl [0, 2, 1, 3, 4, 5, 6, 7] rfl)
          · skip
            refine lv_goto (tgt := 143) hx hb dX1_dayNow_123 (by decide) ?_
            refine lv_iinc (v := nI ((d + 1) + 1)) (lv' := [(9, .int (nI ((d + 1) + 1))), (8, .int ((cDayB (n 0) fd k wa ra d).2)), (7, .int ((cDayB (n 0) fd k wa ra d).1)), (6, .ref (lb0.1 2 k)), (5, .ref (lb0.1 0 0)), (2, .int (nI d9)), (3, .int wa), (4, .int ra)]) hx hb dX1_dayNow_143 hl (k := 0) rfl (nI_1 _) (by decide) rfl (fun ls hl => ?_)
            refine lv_goto (tgt := 93) hx hb dX1_dayNow_146 (by decide) ?_
            have e_17 : (.int ((cDayB (n 0) fd k wa ra d).2) : Value) = .int ((cDayB (n 0) fd k wa ra (d + 1)).2) := (congrArg Value.int (by show _ = (if (cDayF (n 0) fd wa ra (d + 1)) k 3 * (cDayF (n 0) fd wa ra (d + 1)) k 4 ≤ (cDayB (n 0) fd k wa ra d).2 then _ else _ : Int32 × Int32).2; rw [if_neg c_14]))
            rw [e_17] at hl
            have e_18 : (.int ((cDayB (n 0) fd k wa ra d).1) : Value) = .int ((cDayB (n 0) fd k wa ra (d + 1)).1) := (congrArg Value.int (by show _ = (if (cDayF (n 0) fd wa ra (d + 1)) k 3 * (cDayF (n 0) fd wa ra (d + 1)) k 4 ≤ (cDayB (n 0) fd k wa ra d).2 then _ else _ : Int32 × Int32).1; rw [if_neg c_14]))
            rw [e_18] at hl
            refine W.widen (k := 50 + (d + 1)) (n := 280 + 12 * (d + 1)) (by omega) (by omega) ?_
            exact ih (d + 1) H locs ls (by omega) hS hwm (lv_sub hl [0, 1, 2, 3, 4, 5, 6, 7] rfl)
      refine W.widen (k := 50 + 0) (n := 280 + 12 * 0) (by omega) (by omega) ?_
      exact lp_12 (d9 - 0) 0 H locs ls (by omega) hS hwm (lv_sub hl [0, 1, 2, 3, 4, 7, 8, 9] rfl)
    | succ d_11 ih =>
      intro i H locs ls lb0 hid hS h_x h_p hw hwm hl
      have hi_i : i < n 0 := by omega
      have hcb0 : 2 * lb0.2.1 0 ≤ 20 + 3 * i := (hwm.2 0 (by decide)).2.2.2
      have hvi := hv.1 i hi_i
      refine lv_iload hx hb dX1_dayNow_12 (lv_at hl 0 rfl) ?_
      refine lv_aload_n hx hb dX1_dayNow_14 rfl (lv_at hl 2 rfl) ?_
      refine mget fx tfX1 h_x 0 (by decide) q209 (fun _ h => h) (v := .ref (la.1 0 0)) rfl dX1_dayNow_15 ?_
      refine mgetN fx tfX2 (cw.w hw) 0 (by decide) q121 (fun _ h => h) (v := .ref (la.1 0 1)) rfl dX1_dayNow_18 ?_
      refine kV fx (m_AL_size l g (la.1 0 1) (la.1 1 0) (la.2.2 0) (nI (n 0))) (lw_V q253 q254 q255 q54 q256) hdJ2_size ⟨(Nat.le_of_ble_eq_true rfl), (Nat.le_of_ble_eq_true rfl)⟩ ⟨(by show 7 + (i + lb0.2.1 0) + 0 ≤ 110; omega), (by show 43 + (11 * i + 4 * lb0.2.1 0) + 0 ≤ 1000; omega)⟩ hl.1 hS tfJ2.2.1 (cw.al0 hw) rfl (Nat.le_of_ble_eq_true rfl) (cw.al0 hw) (fun _ h => h.elim) dX1_dayNow_21 (fun rv9 H locs hQ hz9 hk9 hS => ?_)
      obtain ⟨rfl, rfl⟩ := hQ
      refine W.eq (g2 := F0 m 24 ls [.int (nI (n 0)), .int (nI i)]) rfl ?_
      refine lv_icmp_ge (tgt := 60) hx hb dX1_dayNow_24 (by decide) (fun h9 => absurd h9 (nI_ge hi_i hn.h0)) (fun _ => ?_)
      refine lv_aload hx hb dX1_dayNow_27 (lv_at hl 1 rfl) ?_
      refine mgetN fx tfX2 (cw.w hwm) 0 (by decide) q121 (fun _ h => h) (v := .ref (lb0.1 0 1)) rfl dX1_dayNow_29 ?_
      refine lv_aload_n hx hb dX1_dayNow_32 rfl (lv_at hl 2 rfl) ?_
      refine mget fx tfX1 h_x 0 (by decide) q209 (fun _ h => h) (v := .ref (la.1 0 0)) rfl dX1_dayNow_33 ?_
      refine mgetN fx tfX2 (cw.w hw) 0 (by decide) q121 (fun _ h => h) (v := .ref (la.1 0 1)) rfl dX1_dayNow_36 ?_
      refine lv_iload hx hb dX1_dayNow_39 (lv_at hl 0 rfl) ?_
      refine kV fx (m_AL_get l g (la.1 0 1) (la.1 1 0) i (n 0) (la.2.1 0) (la.1 2 i) (la.2.2 0) (elF la.1 n 0) hi_i (cw.get hw (k := 0) (by decide) hi_i).2.1 (cw.get hw (k := 0) (by decide) hi_i).2.2.1 (cw.get hw (k := 0) (by decide) hi_i).2.2.2) (lw_V q286 q263 q264 q54 q265) hdJ2_get ⟨(Nat.le_of_ble_eq_true rfl), (Nat.le_of_ble_eq_true rfl)⟩ ⟨(by show 7 + (i + lb0.2.1 0) + 0 ≤ 110; omega), (by show 43 + (11 * i + 4 * lb0.2.1 0) + 0 ≤ 1000; omega)⟩ hl.1 hS tfJ2.2.1 (cw.al0 hw) rfl (Nat.le_of_ble_eq_true rfl) (⟨(cw.al0 hw), (cw.get hw (k := 0) (by decide) hi_i).1⟩) (fun _ h => h.elim) dX1_dayNow_41 (fun rv9 H locs hQ hz9 hk9 hS => ?_)
      obtain ⟨rfl, rfl⟩ := hQ
      refine W.eq (g2 := F0 m 44 ls [.ref (la.1 2 i), .ref (lb0.1 0 1)]) rfl ?_
      refine mcast fx tfX5 (cw.f hw hi_i) q287 dX1_dayNow_44 ?_
      have hSb := hS
      refine kV fx (m_F_copy l g (la.1 2 i) _ (fd i 0) (fd i 1) (fd i 2) (fd i 3) (fd i 4) (fd i 5) (fd i 6) (fd i 7) (fd i 8) (fd i 9) (fd i 10) hvi.2.1 hvi.2.2.1 hvi.2.2.2) (lw_V q297 q298 q299 q65 q300) hdX5_copy ⟨(Nat.le_of_ble_eq_true rfl), (Nat.le_of_ble_eq_true rfl)⟩ ⟨(by show 7 + (i + lb0.2.1 0) + 1 ≤ 110; omega), (by show 43 + (11 * i + 4 * lb0.2.1 0) + 11 ≤ 1000; omega)⟩ hl.1 hS tfX5.2.1 (cw.f hw hi_i) rfl (Nat.le_of_ble_eq_true rfl) (⟨rfl, (cw.f hw hi_i)⟩) (fun q h => hAs q (Nat.le_trans hS.1 h)) dX1_dayNow_47 (fun rv9 H locs hQ hz9 hk9 hS => ?_)
      obtain ⟨an_19, rfl, hloan_19, hat⟩ := hQ
      have ne_21 : ax ≠ an_19 := Nat.ne_of_lt (Nat.lt_of_lt_of_le h_x.lt hloan_19)
      replace h_x := h_x.kept (hk9 _ h_x.lt (Nat.not_le.mpr h_x.lt))
      have ne_22 : ap ≠ an_19 := Nat.ne_of_lt (Nat.lt_of_lt_of_le h_p.lt hloan_19)
      replace h_p := h_p.kept (hk9 _ h_p.lt (Nat.not_le.mpr h_p.lt))
      have nin_23 : ∀ q, cF la n q → q ≠ an_19 := fun q h9 => Nat.ne_of_lt (Nat.lt_of_lt_of_le (hw.1.ftlt q h9) hloan_19)
      have nin_24 : ∀ q, cF lb0 (nA i 0 0) q → q ≠ an_19 := fun q h9 => Nat.ne_of_lt (Nat.lt_of_lt_of_le (hwm.1.ftlt q h9) hloan_19)
      replace hw : cw g (bA g) la (sc, sw, ar, fd, tr, ld, n) H := cw.kept hw (fun q h9 _ => hk9 q h9 (Nat.not_le.mpr h9))
      replace hwm : cw g (fun q => sz ≤ q) lb0 (scI, 0, (fun _ _ => 0), cpF fd i, (fun _ _ => 0), (fun _ _ => 0), (nA i 0 0)) H := cw.kept hwm (fun q h9 _ => hk9 q h9 (Nat.not_le.mpr h9))
      have inan_19 := hAs an_19 (Nat.le_trans hSb.1 hloan_19)
      have hn_20 : mAt g an_19 (.inr (5, [.int (fd i 0), .int (fd i 1), .int (fd i 2), .int (fd i 3), .int (fd i 4), .int (fd i 5), .int (fd i 6), .int (fd i 7), .int (fd i 8), .int (fd i 9), .int (fd i 10)])) H := hat
      refine W.eq (g2 := F0 m 50 ls [.ref an_19, .ref (lb0.1 0 1)]) rfl ?_
      obtain ⟨pa, pea, pe0, pnc, pc, pf, ped, pels, pfr, pcap⟩ := cw.addP0 hwm fx.2.2.2.2.2.1
      have hcp := newCap_le _ _ pnc pcap
      have hlt_25 := h_x.lt
      have hlt_26 := h_p.lt
      have hbk : ∀ q, fA (fun q => q = lb0.1 0 1 ∨ (lb0.2.1 0 ≠ 0 ∧ q = lb0.1 1 0)) H.size q → (fun q => sz ≤ q) q := fun q h9 => (pfr q h9).elim (hwm.1.ft q) (fun h8 => hAs q (Nat.le_trans hS.1 h8))
      have hSb := hS
      refine kV fx (m_AL_add l g (lb0.1 0 1) an_19 (lb0.1 1 0) ((nA i 0 0) 0) (lb0.2.1 0) _ (lb0.2.2 0) (elF lb0.1 (nA i 0 0) 0) pa pea pe0 (Ne.symm (nin_24 _ ⟨0, 1, (by show 1 < 7; decide), rfl⟩)) pnc pc pf) (lw_V q355 q356 q357 q54 q358) hdJ2_add ⟨(Nat.le_of_ble_eq_true rfl), (Nat.le_of_ble_eq_true rfl)⟩ ⟨(by have hnk : (nA i 0 0) 0 = i := rfl; have := hcp.2.2.1; have := hcp.2.1; show 7 + (i + lb0.2.1 0) + 1 + (if (nA i 0 0) 0 < lb0.2.1 0 then 0 else 1) ≤ 110; omega), (by have hnk : (nA i 0 0) 0 = i := rfl; have := hcp.2.2.2.1; have := hcp.2.1; show 43 + (11 * i + 4 * lb0.2.1 0) + 11 + (if (nA i 0 0) 0 < lb0.2.1 0 then 0 else newCap ((nA i 0 0) 0) (lb0.2.1 0)) ≤ 1000; omega)⟩ hl.1 hS tfJ2.2.1 (cw.al0 hwm) rfl (Nat.le_of_ble_eq_true rfl) (⟨rfl, (cw.al0 hwm), ped, pels, mEl_F hn_20⟩) (fun q h9 => hbk q h9) dX1_dayNow_50 (fun rv9 H locs hQ hz9 hk9 hS => ?_)
      obtain ⟨ea9, rfl, he9, hl9, hea9⟩ := hQ
      have hw9 := cw.addF hwm (by show i < 2 ^ 20; omega) hn_20 nin_24 he9 hl9 hea9 hk9
      replace h_x := h_x.kept (hk9 _ h_x.lt (fun h9 => (pfr _ h9).elim (fun h8 => (fun q h9 => Nat.ne_of_gt (Nat.lt_of_lt_of_le hxlt (hwm.1.ft q h9))) _ h8 rfl) (Nat.not_le.mpr h_x.lt)))
      replace h_p := h_p.kept (hk9 _ h_p.lt (fun h9 => (pfr _ h9).elim (fun h8 => (fun q h9 => Nat.ne_of_gt (Nat.lt_of_lt_of_le hplt (hwm.1.ft q h9))) _ h8 rfl) (Nat.not_le.mpr h_p.lt)))
      replace hw : cw g (bA g) la (sc, sw, ar, fd, tr, ld, n) H := cw.kept hw (fun q h9 hf9 => hk9 _ h9 (fun h8 => (pfr _ h8).elim (fun h7 => (apF hwlt hwm.1.ft) q q hf9 h7 rfl) (Nat.not_le.mpr h9)))
      obtain ⟨lc_27, hla⟩ : ∃ z, z = adA lb0 (nA i 0 0) 0 ea9 an_19 := ⟨_, rfl⟩
      rw [← hla] at hw9
      have hft9 := hw9.1.ft
      have hbk2 : ∀ q, (fA (cF lb0 (nA i 0 0)) _ q ∨ q = an_19) → (fun q => sz ≤ q) q := fun q h9 => h9.elim (fun h8 => h8.elim (hwm.1.ft q) (fun h7 => hAs q (Nat.le_trans hSb.1 h7))) (fun h8 => by rw [h8]; exact inan_19)
      replace hw9 := cw.weaken hw9 hbk2
      rw [nA_0] at hw9
      replace hwm : cw g (fun q => sz ≤ q) lc_27 (scI, 0, (fun _ _ => 0), va_up (cpF fd i) ((nA i 0 0) 0) (ob11 (fd i 0) (fd i 1) (fd i 2) (fd i 3) (fd i 4) (fd i 5) (fd i 6) (fd i 7) (fd i 8) (fd i 9) (fd i 10)), (fun _ _ => 0), (fun _ _ => 0), (nA (i + 1) 0 0)) H := hw9
      have nin_28 : ∀ q, cF lc_27 (nA (i + 1) 0 0) q → q ≠ ax := fun q h9 => (hft9 q (by rw [nA_0]; exact h9)).elim (fun h8 => h8.elim ((fun q h9 => Nat.ne_of_gt (Nat.lt_of_lt_of_le hxlt (hwm.1.ft q h9))) q) (fun h7 => Nat.ne_of_gt (Nat.lt_of_lt_of_le hlt_25 h7))) (fun h8 => by rw [h8]; exact (Ne.symm ne_21))
      have nin_29 : ∀ q, cF lc_27 (nA (i + 1) 0 0) q → q ≠ ap := fun q h9 => (hft9 q (by rw [nA_0]; exact h9)).elim (fun h8 => h8.elim ((fun q h9 => Nat.ne_of_gt (Nat.lt_of_lt_of_le hplt (hwm.1.ft q h9))) q) (fun h7 => Nat.ne_of_gt (Nat.lt_of_lt_of_le hlt_26 h7))) (fun h8 => by rw [h8]; exact (Ne.symm ne_22))
      have hq0 : lc_27.2.1 0 = newCap ((nA i 0 0) 0) (lb0.2.1 0) := by rw [hla]; rfl
      have hq1 : lc_27.2.1 1 = lb0.2.1 1 := by rw [hla]; rfl
      have hq2 : lc_27.2.1 2 = lb0.2.1 2 := by rw [hla]; rfl
      have h00 : lc_27.1 0 0 = lb0.1 0 0 := by rw [hla]; exact adA_0
      rw [← h00] at hl
      refine W.eq (g2 := F0 m 53 ls [.int 1]) rfl ?_
      refine lv_pop hx hb dX1_dayNow_53 rfl ?_
      refine lv_iinc (v := nI (i + 1)) (lv' := [(6, .int (nI (i + 1))), (5, .ref (lc_27.1 0 0)), (0, .ref ax), (1, .int (nI k)), (2, .int (nI d9)), (3, .int wa), (4, .int ra)]) hx hb dX1_dayNow_54 hl (k := 0) rfl (nI_1 _) (by decide) rfl (fun ls hl => ?_)
      refine lv_goto (tgt := 12) hx hb dX1_dayNow_57 (by decide) ?_
      refine W.widen (k := 7 + ((i + 1) + lb0.2.1 0)) (n := 43 + (11 * (i + 1) + 4 * lb0.2.1 0)) (by omega) (by omega) ?_
      exact ih (i + 1) H locs ls _ (by omega) hS h_x h_p hw hwm (lv_sub hl [0, 1, 2, 3, 4, 5, 6] rfl)
  refine W.widen (k := 7 + (0 + lb0.2.1 0)) (n := 43 + (11 * 0 + 4 * lb0.2.1 0)) (by omega) (by omega) ?_
  exact lp_10 (n 0 - 0) 0 H locs ls _ (by omega) hS h_x h_p hw hwm (lv_sub hl [0, 1, 2, 3, 4, 5, 6] rfl)

