/-! CANECRUSH: digest, the constructor -/
set_option maxRecDepth 100000
theorem hdX1_add : yX1_add.cls ≠ "java/lang/invoke/MethodHandle" ∧ yX1_add.cls ≠ "java/lang/invoke/VarHandle" ∧ (parseMethodDescriptor yX1_add.desc).map (fun d => d.parameters.length) = some 1 := by decide +kernel
theorem hdX1_areHours : yX1_areHours.cls ≠ "java/lang/invoke/MethodHandle" ∧ yX1_areHours.cls ≠ "java/lang/invoke/VarHandle" ∧ (parseMethodDescriptor yX1_areHours.desc).map (fun d => d.parameters.length) = some 1 := by decide +kernel
theorem hdX1_crushedNow : yX1_crushedNow.cls ≠ "java/lang/invoke/MethodHandle" ∧ yX1_crushedNow.cls ≠ "java/lang/invoke/VarHandle" ∧ (parseMethodDescriptor yX1_crushedNow.desc).map (fun d => d.parameters.length) = some 2 := by decide +kernel
theorem hdX1_dayNow : yX1_dayNow.cls ≠ "java/lang/invoke/MethodHandle" ∧ yX1_dayNow.cls ≠ "java/lang/invoke/VarHandle" ∧ (parseMethodDescriptor yX1_dayNow.desc).map (fun d => d.parameters.length) = some 4 := by decide +kernel
theorem hdX1_orderNow : yX1_orderNow.cls ≠ "java/lang/invoke/MethodHandle" ∧ yX1_orderNow.cls ≠ "java/lang/invoke/VarHandle" ∧ (parseMethodDescriptor yX1_orderNow.desc).map (fun d => d.parameters.length) = some 1 := by decide +kernel
theorem hdX1_stopsNow : yX1_stopsNow.cls ≠ "java/lang/invoke/MethodHandle" ∧ yX1_stopsNow.cls ≠ "java/lang/invoke/VarHandle" ∧ (parseMethodDescriptor yX1_stopsNow.desc).map (fun d => d.parameters.length) = some 1 := by decide +kernel
def dAdd (s : Int64) (x : Int32) : Int64 := s * 31 + x.toInt64
def dRow (f : Nat → Int32) (s : Int64) : Nat → Int64
  | 0 => s
  | k + 1 => dAdd (dRow f s k) (f k)
def dRows (f : Nat → Nat → Int32) (m : Nat) (s : Int64) : Nat → Int64
  | 0 => s
  | i + 1 => dRow (f i) (dRows f m s i) m
def dFlds (f : Nat → Nat → Int32) (b : Nat → Int32) (s : Int64) : Nat → Int64
  | 0 => s
  | i + 1 => dAdd (dRow (f i) (dFlds f b s i) 12) (b i)
def dEnd (s : Int64) (n2 : Nat) (a b c : Int32) : Int64 := dAdd (dAdd (if n2 = 0 then s else dAdd s a) b) c
theorem xw.back {g : GT} {A : Nat → Prop} {ax ap : Nat} {la : LT} {C : CT} {xi : Nat → Int32} {sm : Int64} {pd : Nat → Int32} {H : Heap} (h : xw g A ax ap la C xi sm pd H) (hAs : ∀ q, H.size ≤ q → A q) : ∀ q, fA (xF ax ap la C.2.2.2.2.2.2) H.size q → A q := fun q hq => hq.elim (h.ft q) (hAs q)
set_option maxHeartbeats 4000000 in
theorem m_X_add (l : Launch) (g : GT) (sz ax ap : Nat) (la : LT) (sc : Nat → Int32) (sw : Int64) (ar fd tr ld : Nat → Nat → Int32) (n : CN) (xi : Nat → Int32) (sm : Int64) (pd : Nat → Int32) (z : Int32) : Cn l g yX1_add cX1_add 2 (none) 0 0 0 [.ref ax, .int z] (fA (xF ax ap la n) sz) (fun H => sz = H.size ∧ xw g (bA g) ax ap la (sc, sw, ar, fd, tr, ld, n) xi sm pd H) (fun Hp rv Hq => rv = none ∧ xw g (fA (xF ax ap la n) sz) ax ap la (sc, sw, ar, fd, tr, ld, n) xi (dAdd sm z) pd Hq) := by
  refine Cn.start (plainFor_of_name (by decide +kernel)) (Nat.le_of_ble_eq_true rfl) ?_
  intro p ev s m below meth c ls H locs hH hx hb hr hts hown hlocks hml hnm hK hP hS hl
  obtain ⟨hsz, hxw⟩ := hP
  have hszs : sz = s.heap.size := by rw [hsz, hH]
  have hAs : ∀ q, s.heap.size ≤ q → (fA (xF ax ap la n) sz) q := fun q h => Or.inr (by rw [hszs]; exact h)
  have hAb : ∀ q, (fA (xF ax ap la n) sz) q → bA g q := fun q h => h.elim (hxw.ft q) (fun h => Nat.le_trans hK.2.2.sz (by rw [← hszs]; exact h))
  obtain ⟨hw, h_x, h_p, inx, inp, nxp, nfx, nfp⟩ := hxw.self sz
  have fx : Fx p s m ([.ref ax, .int z] : List Value).toArray c cX1_add RX1 g (fA (xF ax ap la n) sz) 2 := ⟨hx, hb, hts, hown, hK, hAb, hml⟩
  have hl : lv_has ls 2 [(0, .ref ax), (1, .int z)] := hl
  refine lv_aload_n hx hb dX1_add_0 rfl (lv_at hl 0 rfl) ?_
  refine lv_aload_n hx hb dX1_add_1 rfl (lv_at hl 0 rfl) ?_
  refine mget fx tfX1 h_x 9 (by decide) q218 (fun _ h => h) (v := .long sm) rfl dX1_add_2 ?_
  refine lv_ldc2 (v := 31) hx hb hown (hts _ q281) dX1_add_5 ?_
  refine lv_lmul hx hb dX1_add_8 ?_
  refine lv_iload_n hx hb dX1_add_9 rfl (lv_at hl 1 rfl) ?_
  refine lv_i2l (v := z.toInt64) hx hb dX1_add_10 rfl ?_
  refine lv_ladd hx hb dX1_add_11 ?_
  refine mput fx tfX1 h_x hS inx 9 (by decide) q218 (fun _ h => h) rfl rfl rfl (Nat.le_of_ble_eq_true rfl) dX1_add_12 (fun H locs hat hz hoq hS => ?_)
  replace h_p := h_p.kept (hoq _ (Ne.symm nxp))
  replace h_x : mAt g ax (.inr (0, [.ref (la.1 0 0), .ref ap, .int (xi 0), .int (xi 1), .int (xi 2), .int (xi 3), .int (xi 4), .int (xi 5), .int (xi 6), .long ((sm * 31) + z.toInt64)])) H := hat
  replace hw : cw g (fA (xF ax ap la n) sz) la (sc, sw, ar, fd, tr, ld, n) H := cw.kept hw (fun q h9 hf9 => hoq _ (nfx q hf9))
  exact rv hx hb hr hlocks hS (⟨rfl, hw, h_x, h_p, inx, inp, nxp, nfx, nfp⟩) ⟨(Nat.le_of_ble_eq_true rfl), (Nat.le_of_ble_eq_true rfl)⟩ dX1_add_15

set_option maxHeartbeats 4000000 in
theorem m_X_crushedIn (l : Launch) (g : GT) (sz ax ap : Nat) (la : LT) (sc : Nat → Int32) (sw : Int64) (ar fd tr ld : Nat → Nat → Int32) (n : CN) (xi : Nat → Int32) (sm : Int64) (pd : Nat → Int32) (hn : cN n) (hv : cV n fd tr ld) (k h9 : Nat) (hk : k < n 2) (hh : h9 ≤ 120) (hok : ¬ areHoursF (nI h9) = 0) : Cn l g yX1_crushedIn cX1_crushedIn 3 ((some .int)) 9 521 3452 [.ref ax, .int (nI k), .int (nI h9)] (fun q => sz ≤ q) (fun H => sz = H.size ∧ xw g (bA g) ax ap la (sc, sw, ar, fd, tr, ld, n) xi sm pd H) (fun Hp rv Hq => rv = some (.int (cCrushedIn n (scCp sc, 0, arCp ar, fd, tr, ld) k h9))) := by
  refine Cn.start (plainFor_of_name (by decide +kernel)) (Nat.le_of_ble_eq_true rfl) ?_
  intro p ev s m below meth c ls H locs hH hx hb hr hts hown hlocks hml hnm hK hP hS hl
  obtain ⟨hsz, hxw⟩ := hP
  have hszs : sz = s.heap.size := by rw [hsz, hH]
  have hAs : ∀ q, s.heap.size ≤ q → sz ≤ q := fun q h => by rw [hszs]; exact h
  have hAb : ∀ q, sz ≤ q → bA g q := fun q h => Nat.le_trans hK.2.2.sz (by rw [← hszs]; exact h)
  obtain ⟨hw, h_x, h_p, inx, inp, nxp, nfx, nfp⟩ := hxw
  have hwlt : ∀ q, cF la n q → q < sz := fun q h => by rw [hsz]; exact hw.1.ftlt q h
  have hxlt : ax < sz := by rw [hsz]; exact h_x.lt
  have hplt : ap < sz := by rw [hsz]; exact h_p.lt
  have hn9 := hn.1
  have hn8 := hn.2.1
  have hn7 := hn.2.2
  have fx : Fx p s m ([.ref ax, .int (nI k), .int (nI h9)] : List Value).toArray c cX1_crushedIn RX1 g (fun q => sz ≤ q) 3 := ⟨hx, hb, hts, hown, hK, hAb, hml⟩
  have hl : lv_has ls 3 [(0, .ref ax), (1, .int (nI k)), (2, .int (nI h9))] := hl
  refine lv_aload_n hx hb dX1_crushedIn_0 rfl (lv_at hl 0 rfl) ?_
  refine lv_iload_n hx hb dX1_crushedIn_1 rfl (lv_at hl 1 rfl) ?_
  refine kV fx (m_X_requireLoad l g ax ap la sc sw ar fd tr ld n xi sm pd hn k hk) (lw_V q884 q886 qs25 q50 q887) hdX1_requireLoad ⟨(Nat.le_of_ble_eq_true rfl), (Nat.le_of_ble_eq_true rfl)⟩ ⟨(Nat.le_of_ble_eq_true rfl), (Nat.le_of_ble_eq_true rfl)⟩ hl.1 hS tfX1.2.1 h_x rfl (Nat.le_of_ble_eq_true rfl) (⟨hw, h_x, h_p, inx, inp, nxp, nfx, nfp⟩) (fun _ h => h.elim) dX1_crushedIn_2 (fun rv9 H locs hQ hz9 hk9 hS => ?_)
  obtain ⟨rfl, rfl⟩ := hQ
  refine W.eq (g2 := F0 m 5 ls []) rfl ?_
  refine lv_iload_n hx hb dX1_crushedIn_5 rfl (lv_at hl 2 rfl) ?_
  refine kS fx (m_areHours l g (nI h9)) (lw_S q916 q917 q50 q918) hdX1_areHours ⟨(Nat.le_of_ble_eq_true rfl), (Nat.le_of_ble_eq_true rfl)⟩ ⟨(Nat.le_of_ble_eq_true rfl), (Nat.le_of_ble_eq_true rfl)⟩ hl.1 hS rfl (Nat.le_of_ble_eq_true rfl) trivial (fun _ h => h.elim) dX1_crushedIn_6 (fun rv9 H locs hQ hz9 hk9 hS => ?_)
  obtain ⟨rfl, rfl⟩ := hQ
  refine W.eq (g2 := F0 m 9 ls [.int (areHoursF (nI h9))]) rfl ?_
  refine kS fx (m_require l g (areHoursF (nI h9)) hok) (lw_S q723 q724 q50 q725) hdX1_require ⟨(Nat.le_of_ble_eq_true rfl), (Nat.le_of_ble_eq_true rfl)⟩ ⟨(Nat.le_of_ble_eq_true rfl), (Nat.le_of_ble_eq_true rfl)⟩ hl.1 hS rfl (Nat.le_of_ble_eq_true rfl) trivial (fun _ h => h.elim) dX1_crushedIn_9 (fun rv9 H locs hQ hz9 hk9 hS => ?_)
  obtain ⟨rfl, rfl⟩ := hQ
  refine W.eq (g2 := F0 m 12 ls []) rfl ?_
  refine lv_aload_n hx hb dX1_crushedIn_12 rfl (lv_at hl 0 rfl) ?_
  refine lv_iload_n hx hb dX1_crushedIn_13 rfl (lv_at hl 1 rfl) ?_
  refine lv_iload_n hx hb dX1_crushedIn_14 rfl (lv_at hl 2 rfl) ?_
  have hSb := hS
  refine kV fx (m_X_crushedNow l g _ ax ap la sc sw ar fd tr ld n xi sm pd hn hv k h9 hk hh) (lw_V q455 q457 qs12 q50 q458) hdX1_crushedNow ⟨(Nat.le_of_ble_eq_true rfl), (Nat.le_of_ble_eq_true rfl)⟩ ⟨(Nat.le_of_ble_eq_true rfl), (Nat.le_of_ble_eq_true rfl)⟩ hl.1 hS tfX1.2.1 h_x rfl (Nat.le_of_ble_eq_true rfl) (⟨rfl, ⟨hw, h_x, h_p, inx, inp, nxp, nfx, nfp⟩⟩) (fun q h9 => hAs q (Nat.le_trans hS.1 h9)) dX1_crushedIn_15 (fun rv9 H locs hQ hz9 hk9 hS => ?_)
  obtain rfl := hQ
  replace h_x := h_x.kept (hk9 _ h_x.lt (Nat.not_le.mpr h_x.lt))
  replace h_p := h_p.kept (hk9 _ h_p.lt (Nat.not_le.mpr h_p.lt))
  replace hw : cw g (bA g) la (sc, sw, ar, fd, tr, ld, n) H := cw.kept hw (fun q h9 _ => hk9 q h9 (Nat.not_le.mpr h9))
  refine W.eq (g2 := F0 m 18 ls [.int (cCrushedIn n (scCp sc, 0, arCp ar, fd, tr, ld) k h9)]) rfl ?_
  exact ri hx hb hr hlocks hS (rfl) ⟨(Nat.le_of_ble_eq_true rfl), (Nat.le_of_ble_eq_true rfl)⟩ dX1_crushedIn_18

set_option maxHeartbeats 4000000 in
theorem m_X_stopsIn (l : Launch) (g : GT) (sz ax ap : Nat) (la : LT) (sc : Nat → Int32) (sw : Int64) (ar fd tr ld : Nat → Nat → Int32) (n : CN) (xi : Nat → Int32) (sm : Int64) (pd : Nat → Int32) (hn : cN n) (hv : cV n fd tr ld) (h9 : Nat) (hh : h9 ≤ 120) (hok : ¬ areHoursF (nI h9) = 0) : Cn l g yX1_stopsIn cX1_stopsIn 2 ((some .int)) 9 521 3452 [.ref ax, .int (nI h9)] (fun q => sz ≤ q) (fun H => sz = H.size ∧ xw g (bA g) ax ap la (sc, sw, ar, fd, tr, ld, n) xi sm pd H) (fun Hp rv Hq => rv = some (.int (cStopsIn n (scCp sc, 0, arCp ar, fd, tr, ld) h9))) := by
  refine Cn.start (plainFor_of_name (by decide +kernel)) (Nat.le_of_ble_eq_true rfl) ?_
  intro p ev s m below meth c ls H locs hH hx hb hr hts hown hlocks hml hnm hK hP hS hl
  obtain ⟨hsz, hxw⟩ := hP
  have hszs : sz = s.heap.size := by rw [hsz, hH]
  have hAs : ∀ q, s.heap.size ≤ q → sz ≤ q := fun q h => by rw [hszs]; exact h
  have hAb : ∀ q, sz ≤ q → bA g q := fun q h => Nat.le_trans hK.2.2.sz (by rw [← hszs]; exact h)
  obtain ⟨hw, h_x, h_p, inx, inp, nxp, nfx, nfp⟩ := hxw
  have hwlt : ∀ q, cF la n q → q < sz := fun q h => by rw [hsz]; exact hw.1.ftlt q h
  have hxlt : ax < sz := by rw [hsz]; exact h_x.lt
  have hplt : ap < sz := by rw [hsz]; exact h_p.lt
  have hn9 := hn.1
  have hn8 := hn.2.1
  have hn7 := hn.2.2
  have fx : Fx p s m ([.ref ax, .int (nI h9)] : List Value).toArray c cX1_stopsIn RX1 g (fun q => sz ≤ q) 2 := ⟨hx, hb, hts, hown, hK, hAb, hml⟩
  have hl : lv_has ls 2 [(0, .ref ax), (1, .int (nI h9))] := hl
  refine lv_iload_n hx hb dX1_stopsIn_0 rfl (lv_at hl 1 rfl) ?_
  refine kS fx (m_areHours l g (nI h9)) (lw_S q916 q917 q50 q918) hdX1_areHours ⟨(Nat.le_of_ble_eq_true rfl), (Nat.le_of_ble_eq_true rfl)⟩ ⟨(Nat.le_of_ble_eq_true rfl), (Nat.le_of_ble_eq_true rfl)⟩ hl.1 hS rfl (Nat.le_of_ble_eq_true rfl) trivial (fun _ h => h.elim) dX1_stopsIn_1 (fun rv9 H locs hQ hz9 hk9 hS => ?_)
  obtain ⟨rfl, rfl⟩ := hQ
  refine W.eq (g2 := F0 m 4 ls [.int (areHoursF (nI h9))]) rfl ?_
  refine kS fx (m_require l g (areHoursF (nI h9)) hok) (lw_S q723 q724 q50 q725) hdX1_require ⟨(Nat.le_of_ble_eq_true rfl), (Nat.le_of_ble_eq_true rfl)⟩ ⟨(Nat.le_of_ble_eq_true rfl), (Nat.le_of_ble_eq_true rfl)⟩ hl.1 hS rfl (Nat.le_of_ble_eq_true rfl) trivial (fun _ h => h.elim) dX1_stopsIn_4 (fun rv9 H locs hQ hz9 hk9 hS => ?_)
  obtain ⟨rfl, rfl⟩ := hQ
  refine W.eq (g2 := F0 m 7 ls []) rfl ?_
  refine lv_aload_n hx hb dX1_stopsIn_7 rfl (lv_at hl 0 rfl) ?_
  refine lv_iload_n hx hb dX1_stopsIn_8 rfl (lv_at hl 1 rfl) ?_
  have hSb := hS
  refine kV fx (m_X_stopsNow l g _ ax ap la sc sw ar fd tr ld n xi sm pd hn hv h9 hh) (lw_V q602 q604 qs20 q50 q605) hdX1_stopsNow ⟨(Nat.le_of_ble_eq_true rfl), (Nat.le_of_ble_eq_true rfl)⟩ ⟨(Nat.le_of_ble_eq_true rfl), (Nat.le_of_ble_eq_true rfl)⟩ hl.1 hS tfX1.2.1 h_x rfl (Nat.le_of_ble_eq_true rfl) (⟨rfl, ⟨hw, h_x, h_p, inx, inp, nxp, nfx, nfp⟩⟩) (fun q h9 => hAs q (Nat.le_trans hS.1 h9)) dX1_stopsIn_9 (fun rv9 H locs hQ hz9 hk9 hS => ?_)
  obtain rfl := hQ
  replace h_x := h_x.kept (hk9 _ h_x.lt (Nat.not_le.mpr h_x.lt))
  replace h_p := h_p.kept (hk9 _ h_p.lt (Nat.not_le.mpr h_p.lt))
  replace hw : cw g (bA g) la (sc, sw, ar, fd, tr, ld, n) H := cw.kept hw (fun q h9 _ => hk9 q h9 (Nat.not_le.mpr h9))
  refine W.eq (g2 := F0 m 12 ls [.int (cStopsIn n (scCp sc, 0, arCp ar, fd, tr, ld) h9)]) rfl ?_
  exact ri hx hb hr hlocks hS (rfl) ⟨(Nat.le_of_ble_eq_true rfl), (Nat.le_of_ble_eq_true rfl)⟩ dX1_stopsIn_12

set_option maxHeartbeats 4000000 in
theorem m_X_bestOrder (l : Launch) (g : GT) (sz ax ap : Nat) (la : LT) (sc : Nat → Int32) (sw : Int64) (ar fd tr ld : Nat → Nat → Int32) (n : CN) (xi : Nat → Int32) (sm : Int64) (pd : Nat → Int32) (hn : cN n) (hv : cV n fd tr ld) (h9 : Nat) (hh : h9 ≤ 120) (hok : ¬ areHoursF (nI h9) = 0) : Cn l g yX1_bestOrder cX1_bestOrder 2 ((some .int)) 9 1560 10320 [.ref ax, .int (nI h9)] (fun q => sz ≤ q) (fun H => sz = H.size ∧ xw g (bA g) ax ap la (sc, sw, ar, fd, tr, ld, n) xi sm pd H) (fun Hp rv Hq => rv = some (.int ((cOrd n (scCp sc, 0, arCp ar, fd, tr, ld) h9 3).1))) := by
  refine Cn.start (plainFor_of_name (by decide +kernel)) (Nat.le_of_ble_eq_true rfl) ?_
  intro p ev s m below meth c ls H locs hH hx hb hr hts hown hlocks hml hnm hK hP hS hl
  obtain ⟨hsz, hxw⟩ := hP
  have hszs : sz = s.heap.size := by rw [hsz, hH]
  have hAs : ∀ q, s.heap.size ≤ q → sz ≤ q := fun q h => by rw [hszs]; exact h
  have hAb : ∀ q, sz ≤ q → bA g q := fun q h => Nat.le_trans hK.2.2.sz (by rw [← hszs]; exact h)
  obtain ⟨hw, h_x, h_p, inx, inp, nxp, nfx, nfp⟩ := hxw
  have hwlt : ∀ q, cF la n q → q < sz := fun q h => by rw [hsz]; exact hw.1.ftlt q h
  have hxlt : ax < sz := by rw [hsz]; exact h_x.lt
  have hplt : ap < sz := by rw [hsz]; exact h_p.lt
  have hn9 := hn.1
  have hn8 := hn.2.1
  have hn7 := hn.2.2
  have fx : Fx p s m ([.ref ax, .int (nI h9)] : List Value).toArray c cX1_bestOrder RX1 g (fun q => sz ≤ q) 2 := ⟨hx, hb, hts, hown, hK, hAb, hml⟩
  have hl : lv_has ls 2 [(0, .ref ax), (1, .int (nI h9))] := hl
  refine lv_iload_n hx hb dX1_bestOrder_0 rfl (lv_at hl 1 rfl) ?_
  refine kS fx (m_areHours l g (nI h9)) (lw_S q916 q917 q50 q918) hdX1_areHours ⟨(Nat.le_of_ble_eq_true rfl), (Nat.le_of_ble_eq_true rfl)⟩ ⟨(Nat.le_of_ble_eq_true rfl), (Nat.le_of_ble_eq_true rfl)⟩ hl.1 hS rfl (Nat.le_of_ble_eq_true rfl) trivial (fun _ h => h.elim) dX1_bestOrder_1 (fun rv9 H locs hQ hz9 hk9 hS => ?_)
  obtain ⟨rfl, rfl⟩ := hQ
  refine W.eq (g2 := F0 m 4 ls [.int (areHoursF (nI h9))]) rfl ?_
  refine kS fx (m_require l g (areHoursF (nI h9)) hok) (lw_S q723 q724 q50 q725) hdX1_require ⟨(Nat.le_of_ble_eq_true rfl), (Nat.le_of_ble_eq_true rfl)⟩ ⟨(Nat.le_of_ble_eq_true rfl), (Nat.le_of_ble_eq_true rfl)⟩ hl.1 hS rfl (Nat.le_of_ble_eq_true rfl) trivial (fun _ h => h.elim) dX1_bestOrder_4 (fun rv9 H locs hQ hz9 hk9 hS => ?_)
  obtain ⟨rfl, rfl⟩ := hQ
  refine W.eq (g2 := F0 m 7 ls []) rfl ?_
  refine lv_aload_n hx hb dX1_bestOrder_7 rfl (lv_at hl 0 rfl) ?_
  refine lv_iload_n hx hb dX1_bestOrder_8 rfl (lv_at hl 1 rfl) ?_
  have hSb := hS
  refine kV fx (m_X_orderNow l g _ ax ap la sc sw ar fd tr ld n xi sm pd hn hv h9 hh) (lw_V q606 q608 qs21 q50 q609) hdX1_orderNow ⟨(Nat.le_of_ble_eq_true rfl), (Nat.le_of_ble_eq_true rfl)⟩ ⟨(Nat.le_of_ble_eq_true rfl), (Nat.le_of_ble_eq_true rfl)⟩ hl.1 hS tfX1.2.1 h_x rfl (Nat.le_of_ble_eq_true rfl) (⟨rfl, ⟨hw, h_x, h_p, inx, inp, nxp, nfx, nfp⟩⟩) (fun q h9 => hAs q (Nat.le_trans hS.1 h9)) dX1_bestOrder_9 (fun rv9 H locs hQ hz9 hk9 hS => ?_)
  obtain rfl := hQ
  replace h_x := h_x.kept (hk9 _ h_x.lt (Nat.not_le.mpr h_x.lt))
  replace h_p := h_p.kept (hk9 _ h_p.lt (Nat.not_le.mpr h_p.lt))
  replace hw : cw g (bA g) la (sc, sw, ar, fd, tr, ld, n) H := cw.kept hw (fun q h9 _ => hk9 q h9 (Nat.not_le.mpr h9))
  refine W.eq (g2 := F0 m 12 ls [.int ((cOrd n (scCp sc, 0, arCp ar, fd, tr, ld) h9 3).1)]) rfl ?_
  exact ri hx hb hr hlocks hS (rfl) ⟨(Nat.le_of_ble_eq_true rfl), (Nat.le_of_ble_eq_true rfl)⟩ dX1_bestOrder_12

def dayOk (d w r : Int32) : Int32 := if isFromF 1 60 d = 0 then 0 else if isWeatherF w r = 0 then 0 else 1
set_option maxHeartbeats 4000000 in
theorem m_X_bestDay (l : Launch) (g : GT) (sz ax ap : Nat) (la : LT) (sc : Nat → Int32) (sw : Int64) (ar fd tr ld : Nat → Nat → Int32) (n : CN) (xi : Nat → Int32) (sm : Int64) (pd : Nat → Int32) (hn : cN n) (hv : cV n fd tr ld) (k d9 : Nat) (wa ra : Int32) (hk : k < n 0) (hd : d9 ≤ 60) (hok : ¬ dayOk (nI d9) wa ra = 0) : Cn l g yX1_bestDay cX1_bestDay 5 ((some .int)) 9 110 1000 [.ref ax, .int (nI k), .int (nI d9), .int wa, .int ra] (fun q => sz ≤ q) (fun H => sz = H.size ∧ xw g (bA g) ax ap la (sc, sw, ar, fd, tr, ld, n) xi sm pd H) (fun Hp rv Hq => rv = some (.int (cDayB (n 0) fd k wa ra d9).1)) := by
  refine Cn.start (plainFor_of_name (by decide +kernel)) (Nat.le_of_ble_eq_true rfl) ?_
  intro p ev s m below meth c ls H locs hH hx hb hr hts hown hlocks hml hnm hK hP hS hl
  obtain ⟨hsz, hxw⟩ := hP
  have hszs : sz = s.heap.size := by rw [hsz, hH]
  have hAs : ∀ q, s.heap.size ≤ q → sz ≤ q := fun q h => by rw [hszs]; exact h
  have hAb : ∀ q, sz ≤ q → bA g q := fun q h => Nat.le_trans hK.2.2.sz (by rw [← hszs]; exact h)
  obtain ⟨hw, h_x, h_p, inx, inp, nxp, nfx, nfp⟩ := hxw
  have hwlt : ∀ q, cF la n q → q < sz := fun q h => by rw [hsz]; exact hw.1.ftlt q h
  have hxlt : ax < sz := by rw [hsz]; exact h_x.lt
  have hplt : ap < sz := by rw [hsz]; exact h_p.lt
  have hn9 := hn.1
  have hn8 := hn.2.1
  have hn7 := hn.2.2
  have fx : Fx p s m ([.ref ax, .int (nI k), .int (nI d9), .int wa, .int ra] : List Value).toArray c cX1_bestDay RX1 g (fun q => sz ≤ q) 5 := ⟨hx, hb, hts, hown, hK, hAb, hml⟩
  have hl : lv_has ls 5 [(0, .ref ax), (1, .int (nI k)), (2, .int (nI d9)), (3, .int wa), (4, .int ra)] := hl
  refine lv_aload_n hx hb dX1_bestDay_0 rfl (lv_at hl 0 rfl) ?_
  refine lv_iload_n hx hb dX1_bestDay_1 rfl (lv_at hl 1 rfl) ?_
  refine kV fx (m_X_fieldAt l g ax ap la sc sw ar fd tr ld n xi sm pd hn k hk) (lw_V q775 q777 qs23 q50 q778) hdX1_fieldAt ⟨(Nat.le_of_ble_eq_true rfl), (Nat.le_of_ble_eq_true rfl)⟩ ⟨(Nat.le_of_ble_eq_true rfl), (Nat.le_of_ble_eq_true rfl)⟩ hl.1 hS tfX1.2.1 h_x rfl (Nat.le_of_ble_eq_true rfl) (⟨hw, h_x, h_p, inx, inp, nxp, nfx, nfp⟩) (fun _ h => h.elim) dX1_bestDay_2 (fun rv9 H locs hQ hz9 hk9 hS => ?_)
  obtain ⟨rfl, rfl⟩ := hQ
  refine W.eq (g2 := F0 m 5 ls [.ref (la.1 2 k)]) rfl ?_
  refine lv_pop hx hb dX1_bestDay_5 rfl ?_
  refine lv_iconst (v := 1) hx hb dX1_bestDay_6 (by decide) ?_
  refine lv_bipush (v := 60) hx hb dX1_bestDay_7 (by decide) ?_
  refine lv_iload_n hx hb dX1_bestDay_9 rfl (lv_at hl 2 rfl) ?_
  refine kS fx (m_isFrom l g 1 60 (nI d9)) (lw_S q720 q721 q50 q722) hdX1_isFrom ⟨(Nat.le_of_ble_eq_true rfl), (Nat.le_of_ble_eq_true rfl)⟩ ⟨(Nat.le_of_ble_eq_true rfl), (Nat.le_of_ble_eq_true rfl)⟩ hl.1 hS rfl (Nat.le_of_ble_eq_true rfl) trivial (fun _ h => h.elim) dX1_bestDay_10 (fun rv9 H locs hQ hz9 hk9 hS => ?_)
  obtain ⟨rfl, rfl⟩ := hQ
  refine W.eq (g2 := F0 m 13 ls [.int (isFromF 1 60 (nI d9))]) rfl ?_
  have K_3 : ∀ (locs : List Loc) (ls : Array Slot) (v_2 : Int32), v_2 = (if (isFromF 1 60 (nI d9)) = 0 then 0 else (if (isWeatherF wa ra) = 0 then 0 else 1)) → va_S (fun q => sz ≤ q) s.heap H locs → lv_has ls 5 [(0, .ref ax), (1, .int (nI k)), (2, .int (nI d9)), (3, .int wa), (4, .int ra)] → W p l ev (mR 9 110 1000) s m ([.ref ax, .int (nI k), .int (nI d9), .int wa, .int ra] : List Value).toArray below meth c H locs 0 0 (MQ below (mQ (fun q => sz ≤ q) (fun Hp rv Hq => rv = some (.int (cDayB (n 0) fd k wa ra d9).1))) ([.ref ax, .int (nI k), .int (nI d9), .int wa, .int ra] : List Value).toArray s 110 1000 (fun q => sz ≤ q)) (F0 m 30 ls [.int v_2]) := by
    intro locs ls v_2 hv_2 hS hl
    have bzv_2 : bz v_2 := by rw [hv_2]; (repeat' split) <;> first | exact Or.inl rfl | exact Or.inr rfl
    refine kS fx (m_require l g v_2 (by rw [hv_2]; exact hok)) (lw_S q723 q724 q50 q725) hdX1_require ⟨(Nat.le_of_ble_eq_true rfl), (Nat.le_of_ble_eq_true rfl)⟩ ⟨(Nat.le_of_ble_eq_true rfl), (Nat.le_of_ble_eq_true rfl)⟩ hl.1 hS rfl (Nat.le_of_ble_eq_true rfl) trivial (fun _ h => h.elim) dX1_bestDay_30 (fun rv9 H locs hQ hz9 hk9 hS => ?_)
    obtain ⟨rfl, rfl⟩ := hQ
    refine W.eq (g2 := F0 m 33 ls []) rfl ?_
    refine lv_aload_n hx hb dX1_bestDay_33 rfl (lv_at hl 0 rfl) ?_
    refine lv_iload_n hx hb dX1_bestDay_34 rfl (lv_at hl 1 rfl) ?_
    refine lv_iload_n hx hb dX1_bestDay_35 rfl (lv_at hl 2 rfl) ?_
    refine lv_iload_n hx hb dX1_bestDay_36 rfl (lv_at hl 3 rfl) ?_
    refine lv_iload hx hb dX1_bestDay_37 (lv_at hl 4 rfl) ?_
    have hSb := hS
    refine kV fx (m_X_dayNow l g _ ax ap la sc sw ar fd tr ld n xi sm pd hn hv k d9 wa ra hk hd) (lw_V q293 q295 qs4 q50 q296) hdX1_dayNow ⟨(Nat.le_of_ble_eq_true rfl), (Nat.le_of_ble_eq_true rfl)⟩ ⟨(Nat.le_of_ble_eq_true rfl), (Nat.le_of_ble_eq_true rfl)⟩ hl.1 hS tfX1.2.1 h_x rfl (Nat.le_of_ble_eq_true rfl) (⟨rfl, ⟨hw, h_x, h_p, inx, inp, nxp, nfx, nfp⟩⟩) (fun q h9 => hAs q (Nat.le_trans hS.1 h9)) dX1_bestDay_39 (fun rv9 H locs hQ hz9 hk9 hS => ?_)
    obtain rfl := hQ
    replace h_x := h_x.kept (hk9 _ h_x.lt (Nat.not_le.mpr h_x.lt))
    replace h_p := h_p.kept (hk9 _ h_p.lt (Nat.not_le.mpr h_p.lt))
    replace hw : cw g (bA g) la (sc, sw, ar, fd, tr, ld, n) H := cw.kept hw (fun q h9 _ => hk9 q h9 (Nat.not_le.mpr h9))
    refine W.eq (g2 := F0 m 42 ls [.int ((cDayB (n 0) fd k wa ra d9).1)]) rfl ?_
    exact ri hx hb hr hlocks hS (rfl) ⟨(Nat.le_of_ble_eq_true rfl), (Nat.le_of_ble_eq_true rfl)⟩ dX1_bestDay_42
  refine lv_if_eq (tgt := 29) hx hb dX1_bestDay_13 (by decide) (fun c_1 => ?_) (fun c_1 => ?_)
  · skip
    refine lv_iconst (v := 0) hx hb dX1_bestDay_29 (by decide) ?_
    exact K_3 _ _ 0 (by rw [if_pos c_1]) hS (lv_sub hl [0, 1, 2, 3, 4] rfl)
  · skip
    refine lv_iload_n hx hb dX1_bestDay_16 rfl (lv_at hl 3 rfl) ?_
    refine lv_iload hx hb dX1_bestDay_17 (lv_at hl 4 rfl) ?_
    refine kS fx (m_isWeather l g wa ra) (lw_S q867 q868 q50 q869) hdX1_isWeather ⟨(Nat.le_of_ble_eq_true rfl), (Nat.le_of_ble_eq_true rfl)⟩ ⟨(Nat.le_of_ble_eq_true rfl), (Nat.le_of_ble_eq_true rfl)⟩ hl.1 hS rfl (Nat.le_of_ble_eq_true rfl) trivial (fun _ h => h.elim) dX1_bestDay_19 (fun rv9 H locs hQ hz9 hk9 hS => ?_)
    obtain ⟨rfl, rfl⟩ := hQ
    refine W.eq (g2 := F0 m 22 ls [.int (isWeatherF wa ra)]) rfl ?_
    refine lv_if_eq (tgt := 29) hx hb dX1_bestDay_22 (by decide) (fun c_4 => ?_) (fun c_4 => ?_)
    · skip
      refine lv_iconst (v := 0) hx hb dX1_bestDay_29 (by decide) ?_
      exact K_3 _ _ 0 (by rw [if_neg c_1, if_pos c_4]) hS (lv_sub hl [0, 1, 2, 3, 4] rfl)
    · skip
      refine lv_iconst (v := 1) hx hb dX1_bestDay_25 (by decide) ?_
      refine lv_goto (tgt := 30) hx hb dX1_bestDay_26 (by decide) ?_
      exact K_3 _ _ 1 (by rw [if_neg c_1, if_neg c_4]) hS (lv_sub hl [0, 1, 2, 3, 4] rfl)

set_option maxHeartbeats 4000000 in
theorem m_X_digest (l : Launch) (g : GT) (sz ax ap : Nat) (la : LT) (sc : Nat → Int32) (sw : Int64) (ar fd tr ld : Nat → Nat → Int32) (n : CN) (xi : Nat → Int32) (sm : Int64) (pd : Nat → Int32) (hn : cN n) (hv : cV n fd tr ld) : Cn l g yX1_digest cX1_digest 3 ((some .long)) 9 3800 27300 [.ref ax] (fA (xF ax ap la n) sz) (fun H => sz = H.size ∧ xw g (bA g) ax ap la (sc, sw, ar, fd, tr, ld, n) xi sm pd H) (fun Hp rv Hq => rv = some (.long (dEnd (dRows (cOfG ar pd) 4 (dRows (cOfT tr) 4 (dRows (cOfL ld) 7 (dFlds (cOfF fd ld (n 2)) (fun i => (cDayB (n 0) fd i 25 2 20).1) (dRow (cMany sc ld n xi) 58204 20) (n 0)) (n 2)) (n 1)) 4) (n 2) (cCrushedIn n (scCp sc, 0, arCp ar, fd, tr, ld) (n 2 - 1) 40) (cStopsIn n (scCp sc, 0, arCp ar, fd, tr, ld) 40) (cOrd n (scCp sc, 0, arCp ar, fd, tr, ld) 20 3).1)) ∧ xw g (fA (xF ax ap la n) sz) ax ap la (sc, sw, ar, fd, tr, ld, n) xi (dEnd (dRows (cOfG ar pd) 4 (dRows (cOfT tr) 4 (dRows (cOfL ld) 7 (dFlds (cOfF fd ld (n 2)) (fun i => (cDayB (n 0) fd i 25 2 20).1) (dRow (cMany sc ld n xi) 58204 20) (n 0)) (n 2)) (n 1)) 4) (n 2) (cCrushedIn n (scCp sc, 0, arCp ar, fd, tr, ld) (n 2 - 1) 40) (cStopsIn n (scCp sc, 0, arCp ar, fd, tr, ld) 40) (cOrd n (scCp sc, 0, arCp ar, fd, tr, ld) 20 3).1) pd Hq) := by
  refine Cn.start (plainFor_of_name (by decide +kernel)) (Nat.le_of_ble_eq_true rfl) ?_
  intro p ev s m below meth c ls H locs hH hx hb hr hts hown hlocks hml hnm hK hP hS hl
  obtain ⟨hsz, hxw⟩ := hP
  have hszs : sz = s.heap.size := by rw [hsz, hH]
  have hAs : ∀ q, s.heap.size ≤ q → (fA (xF ax ap la n) sz) q := fun q h => Or.inr (by rw [hszs]; exact h)
  have hAb : ∀ q, (fA (xF ax ap la n) sz) q → bA g q := fun q h => h.elim (hxw.ft q) (fun h => Nat.le_trans hK.2.2.sz (by rw [← hszs]; exact h))
  obtain ⟨hw, h_x, h_p, inx, inp, nxp, nfx, nfp⟩ := hxw.self sz
  have hn9 := hn.1
  have fx : Fx p s m ([.ref ax] : List Value).toArray c cX1_digest RX1 g (fA (xF ax ap la n) sz) 3 := ⟨hx, hb, hts, hown, hK, hAb, hml⟩
  have hl : lv_has ls 3 [(0, .ref ax)] := hl
  refine lv_aload_n hx hb dX1_digest_0 rfl (lv_at hl 0 rfl) ?_
  refine lv_ldc2 (v := 58204) hx hb hown (hts _ q248) dX1_digest_1 ?_
  refine mput fx tfX1 h_x hS inx 9 (by decide) q218 (fun _ h => h) rfl rfl rfl (Nat.le_of_ble_eq_true rfl) dX1_digest_4 (fun H locs hat hz hoq hS => ?_)
  replace h_p := h_p.kept (hoq _ (Ne.symm nxp))
  replace h_x : mAt g ax (.inr (0, [.ref (la.1 0 0), .ref ap, .int (xi 0), .int (xi 1), .int (xi 2), .int (xi 3), .int (xi 4), .int (xi 5), .int (xi 6), .long 58204])) H := hat
  replace hw : cw g (fA (xF ax ap la n) sz) la (sc, sw, ar, fd, tr, ld, n) H := cw.kept hw (fun q h9 hf9 => hoq _ (nfx q hf9))
  refine lv_iconst (v := 0) hx hb dX1_digest_7 (by decide) ?_
  refine lv_istore_n (lv' := [(1, .int 0), (0, .ref ax)]) hx hb dX1_digest_8 rfl hl (by decide) rfl (fun ls hl => ?_)
  have lp_1 : ∀ (d_2 q : Nat) (H : Heap) (locs : List Loc) (ls : Array Slot), q + d_2 = 20 → va_S (fA (xF ax ap la n) sz) s.heap H locs → mAt g ax (.inr (0, [.ref (la.1 0 0), .ref ap, .int (xi 0), .int (xi 1), .int (xi 2), .int (xi 3), .int (xi 4), .int (xi 5), .int (xi 6), .long (dRow (cMany sc ld n xi) 58204 q)])) H → mAt g ap (.inl (g.2.1 0, 4, .inl pd)) H → cw g (fA (xF ax ap la n) sz) la (sc, sw, ar, fd, tr, ld, n) H → lv_has ls 3 [(1, .int (nI q)), (0, .ref ax)] → W p l ev (mR 9 3800 27300) s m ([.ref ax] : List Value).toArray below meth c H locs 0 0 (MQ below (mQ (fA (xF ax ap la n) sz) (fun Hp rv Hq => rv = some (.long (dEnd (dRows (cOfG ar pd) 4 (dRows (cOfT tr) 4 (dRows (cOfL ld) 7 (dFlds (cOfF fd ld (n 2)) (fun i => (cDayB (n 0) fd i 25 2 20).1) (dRow (cMany sc ld n xi) 58204 20) (n 0)) (n 2)) (n 1)) 4) (n 2) (cCrushedIn n (scCp sc, 0, arCp ar, fd, tr, ld) (n 2 - 1) 40) (cStopsIn n (scCp sc, 0, arCp ar, fd, tr, ld) 40) (cOrd n (scCp sc, 0, arCp ar, fd, tr, ld) 20 3).1)) ∧ xw g (fA (xF ax ap la n) sz) ax ap la (sc, sw, ar, fd, tr, ld, n) xi (dEnd (dRows (cOfG ar pd) 4 (dRows (cOfT tr) 4 (dRows (cOfL ld) 7 (dFlds (cOfF fd ld (n 2)) (fun i => (cDayB (n 0) fd i 25 2 20).1) (dRow (cMany sc ld n xi) 58204 20) (n 0)) (n 2)) (n 1)) 4) (n 2) (cCrushedIn n (scCp sc, 0, arCp ar, fd, tr, ld) (n 2 - 1) 40) (cStopsIn n (scCp sc, 0, arCp ar, fd, tr, ld) 40) (cOrd n (scCp sc, 0, arCp ar, fd, tr, ld) 20 3).1) pd Hq)) ([.ref ax] : List Value).toArray s 3800 27300 (fA (xF ax ap la n) sz)) (F0 m 9 ls []) := by
    intro d_2
    induction d_2 with
    | zero =>
      intro q H locs ls hid hS h_x h_p hw hl
      obtain rfl : 20 = q := by omega
      refine lv_iload_n hx hb dX1_digest_9 rfl (lv_at hl 0 rfl) ?_
      refine lv_bipush (v := 19) hx hb dX1_digest_10 (by decide) ?_
      refine lv_icmp_gt (tgt := 30) hx hb dX1_digest_12 (by decide) (fun _ => ?_) (fun h9 => absurd (by decide) h9)
      refine lv_iconst (v := 0) hx hb dX1_digest_30 (by decide) ?_
      refine lv_istore_n (lv' := [(1, .int 0), (0, .ref ax)]) hx hb dX1_digest_31 rfl hl (by decide) rfl (fun ls hl => ?_)
      have lp_3 : ∀ (d_4 i : Nat) (H : Heap) (locs : List Loc) (ls : Array Slot), i + d_4 = n 0 → va_S (fA (xF ax ap la n) sz) s.heap H locs → mAt g ax (.inr (0, [.ref (la.1 0 0), .ref ap, .int (xi 0), .int (xi 1), .int (xi 2), .int (xi 3), .int (xi 4), .int (xi 5), .int (xi 6), .long (dFlds (cOfF fd ld (n 2)) (fun i => (cDayB (n 0) fd i 25 2 20).1) (dRow (cMany sc ld n xi) 58204 20) i)])) H → mAt g ap (.inl (g.2.1 0, 4, .inl pd)) H → cw g (fA (xF ax ap la n) sz) la (sc, sw, ar, fd, tr, ld, n) H → lv_has ls 3 [(1, .int (nI i)), (0, .ref ax)] → W p l ev (mR 9 3800 27300) s m ([.ref ax] : List Value).toArray below meth c H locs (110 * i) (1000 * i) (MQ below (mQ (fA (xF ax ap la n) sz) (fun Hp rv Hq => rv = some (.long (dEnd (dRows (cOfG ar pd) 4 (dRows (cOfT tr) 4 (dRows (cOfL ld) 7 (dFlds (cOfF fd ld (n 2)) (fun i => (cDayB (n 0) fd i 25 2 20).1) (dRow (cMany sc ld n xi) 58204 20) (n 0)) (n 2)) (n 1)) 4) (n 2) (cCrushedIn n (scCp sc, 0, arCp ar, fd, tr, ld) (n 2 - 1) 40) (cStopsIn n (scCp sc, 0, arCp ar, fd, tr, ld) 40) (cOrd n (scCp sc, 0, arCp ar, fd, tr, ld) 20 3).1)) ∧ xw g (fA (xF ax ap la n) sz) ax ap la (sc, sw, ar, fd, tr, ld, n) xi (dEnd (dRows (cOfG ar pd) 4 (dRows (cOfT tr) 4 (dRows (cOfL ld) 7 (dFlds (cOfF fd ld (n 2)) (fun i => (cDayB (n 0) fd i 25 2 20).1) (dRow (cMany sc ld n xi) 58204 20) (n 0)) (n 2)) (n 1)) 4) (n 2) (cCrushedIn n (scCp sc, 0, arCp ar, fd, tr, ld) (n 2 - 1) 40) (cStopsIn n (scCp sc, 0, arCp ar, fd, tr, ld) 40) (cOrd n (scCp sc, 0, arCp ar, fd, tr, ld) 20 3).1) pd Hq)) ([.ref ax] : List Value).toArray s 3800 27300 (fA (xF ax ap la n) sz)) (F0 m 32 ls []) := by
        intro d_4
        induction d_4 with
        | zero =>
          intro i H locs ls hid hS h_x h_p hw hl
          obtain rfl : n 0 = i := by omega
          refine lv_iload_n hx hb dX1_digest_32 rfl (lv_at hl 0 rfl) ?_
          refine lv_aload_n hx hb dX1_digest_33 rfl (lv_at hl 1 rfl) ?_
          refine mget fx tfX1 h_x 0 (by decide) q209 (fun _ h => h) (v := .ref (la.1 0 0)) rfl dX1_digest_34 ?_
          refine mgetN fx tfX2 (cw.w hw) 0 (by decide) q121 (fun _ h => h) (v := .ref (la.1 0 1)) rfl dX1_digest_37 ?_
          refine kV fx (m_AL_size l g (la.1 0 1) (la.1 1 0) (la.2.2 0) (nI (n 0))) (lw_V q253 q254 q255 q54 q256) hdJ2_size ⟨(Nat.le_of_ble_eq_true rfl), (Nat.le_of_ble_eq_true rfl)⟩ ⟨(by show 110 * n 0 + 0 ≤ 3800; omega), (by show 1000 * n 0 + 0 ≤ 27300; omega)⟩ hl.1 hS tfJ2.2.1 (cw.al0 hw) rfl (Nat.le_of_ble_eq_true rfl) (cw.al0 hw) (fun _ h => h.elim) dX1_digest_40 (fun rv9 H locs hQ hz9 hk9 hS => ?_)
          obtain ⟨rfl, rfl⟩ := hQ
          refine W.eq (g2 := F0 m 43 ls [.int (nI (n 0)), .int (nI (n 0))]) rfl ?_
          refine lv_icmp_ge (tgt := 90) hx hb dX1_digest_43 (by decide) (fun _ => ?_) (fun h9 => absurd (nI_le (Nat.le_refl _) hn.h0) h9)
          refine lv_iconst (v := 0) hx hb dX1_digest_90 (by decide) ?_
          refine lv_istore_n (lv' := [(1, .int 0), (0, .ref ax)]) hx hb dX1_digest_91 rfl hl (by decide) rfl (fun ls hl => ?_)
          have lp_5 : ∀ (d_6 i : Nat) (H : Heap) (locs : List Loc) (ls : Array Slot), i + d_6 = n 2 → va_S (fA (xF ax ap la n) sz) s.heap H locs → mAt g ax (.inr (0, [.ref (la.1 0 0), .ref ap, .int (xi 0), .int (xi 1), .int (xi 2), .int (xi 3), .int (xi 4), .int (xi 5), .int (xi 6), .long (dRows (cOfL ld) 7 (dFlds (cOfF fd ld (n 2)) (fun i => (cDayB (n 0) fd i 25 2 20).1) (dRow (cMany sc ld n xi) 58204 20) (n 0)) i)])) H → mAt g ap (.inl (g.2.1 0, 4, .inl pd)) H → cw g (fA (xF ax ap la n) sz) la (sc, sw, ar, fd, tr, ld, n) H → lv_has ls 3 [(1, .int (nI i)), (0, .ref ax)] → W p l ev (mR 9 3800 27300) s m ([.ref ax] : List Value).toArray below meth c H locs 1100 10000 (MQ below (mQ (fA (xF ax ap la n) sz) (fun Hp rv Hq => rv = some (.long (dEnd (dRows (cOfG ar pd) 4 (dRows (cOfT tr) 4 (dRows (cOfL ld) 7 (dFlds (cOfF fd ld (n 2)) (fun i => (cDayB (n 0) fd i 25 2 20).1) (dRow (cMany sc ld n xi) 58204 20) (n 0)) (n 2)) (n 1)) 4) (n 2) (cCrushedIn n (scCp sc, 0, arCp ar, fd, tr, ld) (n 2 - 1) 40) (cStopsIn n (scCp sc, 0, arCp ar, fd, tr, ld) 40) (cOrd n (scCp sc, 0, arCp ar, fd, tr, ld) 20 3).1)) ∧ xw g (fA (xF ax ap la n) sz) ax ap la (sc, sw, ar, fd, tr, ld, n) xi (dEnd (dRows (cOfG ar pd) 4 (dRows (cOfT tr) 4 (dRows (cOfL ld) 7 (dFlds (cOfF fd ld (n 2)) (fun i => (cDayB (n 0) fd i 25 2 20).1) (dRow (cMany sc ld n xi) 58204 20) (n 0)) (n 2)) (n 1)) 4) (n 2) (cCrushedIn n (scCp sc, 0, arCp ar, fd, tr, ld) (n 2 - 1) 40) (cStopsIn n (scCp sc, 0, arCp ar, fd, tr, ld) 40) (cOrd n (scCp sc, 0, arCp ar, fd, tr, ld) 20 3).1) pd Hq)) ([.ref ax] : List Value).toArray s 3800 27300 (fA (xF ax ap la n) sz)) (F0 m 92 ls []) := by
            intro d_6
            induction d_6 with
            | zero =>
              intro i H locs ls hid hS h_x h_p hw hl
              obtain rfl : n 2 = i := by omega
              refine lv_iload_n hx hb dX1_digest_92 rfl (lv_at hl 0 rfl) ?_
              refine lv_aload_n hx hb dX1_digest_93 rfl (lv_at hl 1 rfl) ?_
              refine mget fx tfX1 h_x 0 (by decide) q209 (fun _ h => h) (v := .ref (la.1 0 0)) rfl dX1_digest_94 ?_
              refine mgetN fx tfX2 (cw.w hw) 2 (by decide) q125 (fun _ h => h) (v := .ref (la.1 0 3)) rfl dX1_digest_97 ?_
              refine kV fx (m_AL_size l g (la.1 0 3) (la.1 1 2) (la.2.2 2) (nI (n 2))) (lw_V q253 q254 q255 q54 q256) hdJ2_size ⟨(Nat.le_of_ble_eq_true rfl), (Nat.le_of_ble_eq_true rfl)⟩ ⟨(Nat.le_of_ble_eq_true rfl), (Nat.le_of_ble_eq_true rfl)⟩ hl.1 hS tfJ2.2.1 (cw.al2 hw) rfl (Nat.le_of_ble_eq_true rfl) (cw.al2 hw) (fun _ h => h.elim) dX1_digest_100 (fun rv9 H locs hQ hz9 hk9 hS => ?_)
              obtain ⟨rfl, rfl⟩ := hQ
              refine W.eq (g2 := F0 m 103 ls [.int (nI (n 2)), .int (nI (n 2))]) rfl ?_
              refine lv_icmp_ge (tgt := 136) hx hb dX1_digest_103 (by decide) (fun _ => ?_) (fun h9 => absurd (nI_le (Nat.le_refl _) hn.h2) h9)
              refine lv_iconst (v := 0) hx hb dX1_digest_136 (by decide) ?_
              refine lv_istore_n (lv' := [(1, .int 0), (0, .ref ax)]) hx hb dX1_digest_137 rfl hl (by decide) rfl (fun ls hl => ?_)
              have lp_7 : ∀ (d_8 i : Nat) (H : Heap) (locs : List Loc) (ls : Array Slot), i + d_8 = n 1 → va_S (fA (xF ax ap la n) sz) s.heap H locs → mAt g ax (.inr (0, [.ref (la.1 0 0), .ref ap, .int (xi 0), .int (xi 1), .int (xi 2), .int (xi 3), .int (xi 4), .int (xi 5), .int (xi 6), .long (dRows (cOfT tr) 4 (dRows (cOfL ld) 7 (dFlds (cOfF fd ld (n 2)) (fun i => (cDayB (n 0) fd i 25 2 20).1) (dRow (cMany sc ld n xi) 58204 20) (n 0)) (n 2)) i)])) H → mAt g ap (.inl (g.2.1 0, 4, .inl pd)) H → cw g (fA (xF ax ap la n) sz) la (sc, sw, ar, fd, tr, ld, n) H → lv_has ls 3 [(1, .int (nI i)), (0, .ref ax)] → W p l ev (mR 9 3800 27300) s m ([.ref ax] : List Value).toArray below meth c H locs 1100 10000 (MQ below (mQ (fA (xF ax ap la n) sz) (fun Hp rv Hq => rv = some (.long (dEnd (dRows (cOfG ar pd) 4 (dRows (cOfT tr) 4 (dRows (cOfL ld) 7 (dFlds (cOfF fd ld (n 2)) (fun i => (cDayB (n 0) fd i 25 2 20).1) (dRow (cMany sc ld n xi) 58204 20) (n 0)) (n 2)) (n 1)) 4) (n 2) (cCrushedIn n (scCp sc, 0, arCp ar, fd, tr, ld) (n 2 - 1) 40) (cStopsIn n (scCp sc, 0, arCp ar, fd, tr, ld) 40) (cOrd n (scCp sc, 0, arCp ar, fd, tr, ld) 20 3).1)) ∧ xw g (fA (xF ax ap la n) sz) ax ap la (sc, sw, ar, fd, tr, ld, n) xi (dEnd (dRows (cOfG ar pd) 4 (dRows (cOfT tr) 4 (dRows (cOfL ld) 7 (dFlds (cOfF fd ld (n 2)) (fun i => (cDayB (n 0) fd i 25 2 20).1) (dRow (cMany sc ld n xi) 58204 20) (n 0)) (n 2)) (n 1)) 4) (n 2) (cCrushedIn n (scCp sc, 0, arCp ar, fd, tr, ld) (n 2 - 1) 40) (cStopsIn n (scCp sc, 0, arCp ar, fd, tr, ld) 40) (cOrd n (scCp sc, 0, arCp ar, fd, tr, ld) 20 3).1) pd Hq)) ([.ref ax] : List Value).toArray s 3800 27300 (fA (xF ax ap la n) sz)) (F0 m 138 ls []) := by
                intro d_8
                induction d_8 with
                | zero =>
                  intro i H locs ls hid hS h_x h_p hw hl
                  obtain rfl : n 1 = i := by omega
                  refine lv_iload_n hx hb dX1_digest_138 rfl (lv_at hl 0 rfl) ?_
                  refine lv_aload_n hx hb dX1_digest_139 rfl (lv_at hl 1 rfl) ?_
                  refine mget fx tfX1 h_x 0 (by decide) q209 (fun _ h => h) (v := .ref (la.1 0 0)) rfl dX1_digest_140 ?_
                  refine mgetN fx tfX2 (cw.w hw) 1 (by decide) q123 (fun _ h => h) (v := .ref (la.1 0 2)) rfl dX1_digest_143 ?_
                  refine kV fx (m_AL_size l g (la.1 0 2) (la.1 1 1) (la.2.2 1) (nI (n 1))) (lw_V q253 q254 q255 q54 q256) hdJ2_size ⟨(Nat.le_of_ble_eq_true rfl), (Nat.le_of_ble_eq_true rfl)⟩ ⟨(Nat.le_of_ble_eq_true rfl), (Nat.le_of_ble_eq_true rfl)⟩ hl.1 hS tfJ2.2.1 (cw.al1 hw) rfl (Nat.le_of_ble_eq_true rfl) (cw.al1 hw) (fun _ h => h.elim) dX1_digest_146 (fun rv9 H locs hQ hz9 hk9 hS => ?_)
                  obtain ⟨rfl, rfl⟩ := hQ
                  refine W.eq (g2 := F0 m 149 ls [.int (nI (n 1)), .int (nI (n 1))]) rfl ?_
                  refine lv_icmp_ge (tgt := 181) hx hb dX1_digest_149 (by decide) (fun _ => ?_) (fun h9 => absurd (nI_le (Nat.le_refl _) hn.h1) h9)
                  refine lv_iconst (v := 0) hx hb dX1_digest_181 (by decide) ?_
                  refine lv_istore_n (lv' := [(1, .int 0), (0, .ref ax)]) hx hb dX1_digest_182 rfl hl (by decide) rfl (fun ls hl => ?_)
                  have lp_9 : ∀ (d_10 i : Nat) (H : Heap) (locs : List Loc) (ls : Array Slot), i + d_10 = 4 → va_S (fA (xF ax ap la n) sz) s.heap H locs → mAt g ax (.inr (0, [.ref (la.1 0 0), .ref ap, .int (xi 0), .int (xi 1), .int (xi 2), .int (xi 3), .int (xi 4), .int (xi 5), .int (xi 6), .long (dRows (cOfG ar pd) 4 (dRows (cOfT tr) 4 (dRows (cOfL ld) 7 (dFlds (cOfF fd ld (n 2)) (fun i => (cDayB (n 0) fd i 25 2 20).1) (dRow (cMany sc ld n xi) 58204 20) (n 0)) (n 2)) (n 1)) i)])) H → mAt g ap (.inl (g.2.1 0, 4, .inl pd)) H → cw g (fA (xF ax ap la n) sz) la (sc, sw, ar, fd, tr, ld, n) H → lv_has ls 3 [(1, .int (nI i)), (0, .ref ax)] → W p l ev (mR 9 3800 27300) s m ([.ref ax] : List Value).toArray below meth c H locs 1100 10000 (MQ below (mQ (fA (xF ax ap la n) sz) (fun Hp rv Hq => rv = some (.long (dEnd (dRows (cOfG ar pd) 4 (dRows (cOfT tr) 4 (dRows (cOfL ld) 7 (dFlds (cOfF fd ld (n 2)) (fun i => (cDayB (n 0) fd i 25 2 20).1) (dRow (cMany sc ld n xi) 58204 20) (n 0)) (n 2)) (n 1)) 4) (n 2) (cCrushedIn n (scCp sc, 0, arCp ar, fd, tr, ld) (n 2 - 1) 40) (cStopsIn n (scCp sc, 0, arCp ar, fd, tr, ld) 40) (cOrd n (scCp sc, 0, arCp ar, fd, tr, ld) 20 3).1)) ∧ xw g (fA (xF ax ap la n) sz) ax ap la (sc, sw, ar, fd, tr, ld, n) xi (dEnd (dRows (cOfG ar pd) 4 (dRows (cOfT tr) 4 (dRows (cOfL ld) 7 (dFlds (cOfF fd ld (n 2)) (fun i => (cDayB (n 0) fd i 25 2 20).1) (dRow (cMany sc ld n xi) 58204 20) (n 0)) (n 2)) (n 1)) 4) (n 2) (cCrushedIn n (scCp sc, 0, arCp ar, fd, tr, ld) (n 2 - 1) 40) (cStopsIn n (scCp sc, 0, arCp ar, fd, tr, ld) 40) (cOrd n (scCp sc, 0, arCp ar, fd, tr, ld) 20 3).1) pd Hq)) ([.ref ax] : List Value).toArray s 3800 27300 (fA (xF ax ap la n) sz)) (F0 m 183 ls []) := by
                    intro d_10
                    induction d_10 with
                    | zero =>
                      intro i H locs ls hid hS h_x h_p hw hl
                      obtain rfl : 4 = i := by omega
                      refine lv_iload_n hx hb dX1_digest_183 rfl (lv_at hl 0 rfl) ?_
                      refine lv_iconst (v := 4) hx hb dX1_digest_184 (by decide) ?_
                      refine lv_icmp_ge (tgt := 217) hx hb dX1_digest_185 (by decide) (fun _ => ?_) (fun h9 => absurd (nI_le (Nat.le_refl _) (by decide)) h9)
                      refine lv_aload_n hx hb dX1_digest_217 rfl (lv_at hl 1 rfl) ?_
                      refine mget fx tfX1 h_x 0 (by decide) q209 (fun _ h => h) (v := .ref (la.1 0 0)) rfl dX1_digest_218 ?_
                      refine mgetN fx tfX2 (cw.w hw) 2 (by decide) q125 (fun _ h => h) (v := .ref (la.1 0 3)) rfl dX1_digest_221 ?_
                      refine kV fx (m_AL_size l g (la.1 0 3) (la.1 1 2) (la.2.2 2) (nI (n 2))) (lw_V q253 q254 q255 q54 q256) hdJ2_size ⟨(Nat.le_of_ble_eq_true rfl), (Nat.le_of_ble_eq_true rfl)⟩ ⟨(Nat.le_of_ble_eq_true rfl), (Nat.le_of_ble_eq_true rfl)⟩ hl.1 hS tfJ2.2.1 (cw.al2 hw) rfl (Nat.le_of_ble_eq_true rfl) (cw.al2 hw) (fun _ h => h.elim) dX1_digest_224 (fun rv9 H locs hQ hz9 hk9 hS => ?_)
                      obtain ⟨rfl, rfl⟩ := hQ
                      refine W.eq (g2 := F0 m 227 ls [.int (nI (n 2))]) rfl ?_
                      refine lv_if_le (tgt := 252) hx hb dX1_digest_227 (by decide) (fun c_11 => ?_) (fun c_11 => ?_)
                      · skip
                        refine lv_aload_n hx hb dX1_digest_252 rfl (lv_at hl 1 rfl) ?_
                        refine lv_aload_n hx hb dX1_digest_253 rfl (lv_at hl 1 rfl) ?_
                        refine lv_bipush (v := 40) hx hb dX1_digest_254 (by decide) ?_
                        have hSb := hS
                        refine kV fx (m_X_stopsNow l g _ ax ap la sc sw ar fd tr ld n xi (dRows (cOfG ar pd) 4 (dRows (cOfT tr) 4 (dRows (cOfL ld) 7 (dFlds (cOfF fd ld (n 2)) (fun i => (cDayB (n 0) fd i 25 2 20).1) (dRow (cMany sc ld n xi) 58204 20) (n 0)) (n 2)) (n 1)) 4) pd hn hv 40 (by decide)) (lw_V q602 q604 qs20 q50 q605) hdX1_stopsNow ⟨(Nat.le_of_ble_eq_true rfl), (Nat.le_of_ble_eq_true rfl)⟩ ⟨(Nat.le_of_ble_eq_true rfl), (Nat.le_of_ble_eq_true rfl)⟩ hl.1 hS tfX1.2.1 h_x rfl (Nat.le_of_ble_eq_true rfl) (⟨rfl, (xw.weaken ⟨hw, h_x, h_p, inx, inp, nxp, nfx, nfp⟩ fx.2.2.2.2.2.1)⟩) (fun q h9 => hAs q (Nat.le_trans hS.1 h9)) dX1_digest_256 (fun rv9 H locs hQ hz9 hk9 hS => ?_)
                        obtain rfl := hQ
                        replace h_x := h_x.kept (hk9 _ h_x.lt (Nat.not_le.mpr h_x.lt))
                        replace h_p := h_p.kept (hk9 _ h_p.lt (Nat.not_le.mpr h_p.lt))
                        replace hw : cw g (fA (xF ax ap la n) sz) la (sc, sw, ar, fd, tr, ld, n) H := cw.kept hw (fun q h9 _ => hk9 q h9 (Nat.not_le.mpr h9))
                        refine W.eq (g2 := F0 m 259 ls [.int (cStopsIn n (scCp sc, 0, arCp ar, fd, tr, ld) 40), .ref ax]) rfl ?_
                        have hbk := xw.back (show xw g (fA (xF ax ap la n) sz) ax ap la (sc, sw, ar, fd, tr, ld, n) xi (dRows (cOfG ar pd) 4 (dRows (cOfT tr) 4 (dRows (cOfL ld) 7 (dFlds (cOfF fd ld (n 2)) (fun i => (cDayB (n 0) fd i 25 2 20).1) (dRow (cMany sc ld n xi) 58204 20) (n 0)) (n 2)) (n 1)) 4) pd H from ⟨hw, h_x, h_p, inx, inp, nxp, nfx, nfp⟩) (fun q h9 => hAs q (Nat.le_trans hS.1 h9))
                        refine kV fx (m_X_add l g _ ax ap la sc sw ar fd tr ld n xi (dRows (cOfG ar pd) 4 (dRows (cOfT tr) 4 (dRows (cOfL ld) 7 (dFlds (cOfF fd ld (n 2)) (fun i => (cDayB (n 0) fd i 25 2 20).1) (dRow (cMany sc ld n xi) 58204 20) (n 0)) (n 2)) (n 1)) 4) pd (cStopsIn n (scCp sc, 0, arCp ar, fd, tr, ld) 40)) (lw_V q277 q279 qs1 q50 q280) hdX1_add ⟨(Nat.le_of_ble_eq_true rfl), (Nat.le_of_ble_eq_true rfl)⟩ ⟨(Nat.le_of_ble_eq_true rfl), (Nat.le_of_ble_eq_true rfl)⟩ hl.1 hS tfX1.2.1 h_x rfl (Nat.le_of_ble_eq_true rfl) (⟨rfl, (xw.weaken ⟨hw, h_x, h_p, inx, inp, nxp, nfx, nfp⟩ fx.2.2.2.2.2.1)⟩) (fun q h9 => hbk q h9) dX1_digest_259 (fun rv9 H locs hQ hz9 hk9 hS => ?_)
                        obtain ⟨rfl, hxw9⟩ := hQ
                        replace hxw9 := hxw9.weaken hbk
                        obtain ⟨hw, h_x, h_p, inx, inp, nxp, nfx, nfp⟩ := hxw9
                        refine W.eq (g2 := F0 m 262 ls []) rfl ?_
                        refine lv_aload_n hx hb dX1_digest_262 rfl (lv_at hl 1 rfl) ?_
                        refine lv_aload_n hx hb dX1_digest_263 rfl (lv_at hl 1 rfl) ?_
                        refine lv_bipush (v := 20) hx hb dX1_digest_264 (by decide) ?_
                        have hSb := hS
                        refine kV fx (m_X_orderNow l g _ ax ap la sc sw ar fd tr ld n xi (dAdd (dRows (cOfG ar pd) 4 (dRows (cOfT tr) 4 (dRows (cOfL ld) 7 (dFlds (cOfF fd ld (n 2)) (fun i => (cDayB (n 0) fd i 25 2 20).1) (dRow (cMany sc ld n xi) 58204 20) (n 0)) (n 2)) (n 1)) 4) (cStopsIn n (scCp sc, 0, arCp ar, fd, tr, ld) 40)) pd hn hv 20 (by decide)) (lw_V q606 q608 qs21 q50 q609) hdX1_orderNow ⟨(Nat.le_of_ble_eq_true rfl), (Nat.le_of_ble_eq_true rfl)⟩ ⟨(Nat.le_of_ble_eq_true rfl), (Nat.le_of_ble_eq_true rfl)⟩ hl.1 hS tfX1.2.1 h_x rfl (Nat.le_of_ble_eq_true rfl) (⟨rfl, (xw.weaken ⟨hw, h_x, h_p, inx, inp, nxp, nfx, nfp⟩ fx.2.2.2.2.2.1)⟩) (fun q h9 => hAs q (Nat.le_trans hS.1 h9)) dX1_digest_266 (fun rv9 H locs hQ hz9 hk9 hS => ?_)
                        obtain rfl := hQ
                        replace h_x := h_x.kept (hk9 _ h_x.lt (Nat.not_le.mpr h_x.lt))
                        replace h_p := h_p.kept (hk9 _ h_p.lt (Nat.not_le.mpr h_p.lt))
                        replace hw : cw g (fA (xF ax ap la n) sz) la (sc, sw, ar, fd, tr, ld, n) H := cw.kept hw (fun q h9 _ => hk9 q h9 (Nat.not_le.mpr h9))
                        refine W.eq (g2 := F0 m 269 ls [.int ((cOrd n (scCp sc, 0, arCp ar, fd, tr, ld) 20 3).1), .ref ax]) rfl ?_
                        have hbk := xw.back (show xw g (fA (xF ax ap la n) sz) ax ap la (sc, sw, ar, fd, tr, ld, n) xi (dAdd (dRows (cOfG ar pd) 4 (dRows (cOfT tr) 4 (dRows (cOfL ld) 7 (dFlds (cOfF fd ld (n 2)) (fun i => (cDayB (n 0) fd i 25 2 20).1) (dRow (cMany sc ld n xi) 58204 20) (n 0)) (n 2)) (n 1)) 4) (cStopsIn n (scCp sc, 0, arCp ar, fd, tr, ld) 40)) pd H from ⟨hw, h_x, h_p, inx, inp, nxp, nfx, nfp⟩) (fun q h9 => hAs q (Nat.le_trans hS.1 h9))
                        refine kV fx (m_X_add l g _ ax ap la sc sw ar fd tr ld n xi (dAdd (dRows (cOfG ar pd) 4 (dRows (cOfT tr) 4 (dRows (cOfL ld) 7 (dFlds (cOfF fd ld (n 2)) (fun i => (cDayB (n 0) fd i 25 2 20).1) (dRow (cMany sc ld n xi) 58204 20) (n 0)) (n 2)) (n 1)) 4) (cStopsIn n (scCp sc, 0, arCp ar, fd, tr, ld) 40)) pd ((cOrd n (scCp sc, 0, arCp ar, fd, tr, ld) 20 3).1)) (lw_V q277 q279 qs1 q50 q280) hdX1_add ⟨(Nat.le_of_ble_eq_true rfl), (Nat.le_of_ble_eq_true rfl)⟩ ⟨(Nat.le_of_ble_eq_true rfl), (Nat.le_of_ble_eq_true rfl)⟩ hl.1 hS tfX1.2.1 h_x rfl (Nat.le_of_ble_eq_true rfl) (⟨rfl, (xw.weaken ⟨hw, h_x, h_p, inx, inp, nxp, nfx, nfp⟩ fx.2.2.2.2.2.1)⟩) (fun q h9 => hbk q h9) dX1_digest_269 (fun rv9 H locs hQ hz9 hk9 hS => ?_)
                        obtain ⟨rfl, hxw9⟩ := hQ
                        replace hxw9 := hxw9.weaken hbk
                        obtain ⟨hw, h_x, h_p, inx, inp, nxp, nfx, nfp⟩ := hxw9
                        refine W.eq (g2 := F0 m 272 ls []) rfl ?_
                        refine lv_aload_n hx hb dX1_digest_272 rfl (lv_at hl 1 rfl) ?_
                        refine mget fx tfX1 h_x 9 (by decide) q218 (fun _ h => h) (v := .long (dAdd (dAdd (dRows (cOfG ar pd) 4 (dRows (cOfT tr) 4 (dRows (cOfL ld) 7 (dFlds (cOfF fd ld (n 2)) (fun i => (cDayB (n 0) fd i 25 2 20).1) (dRow (cMany sc ld n xi) 58204 20) (n 0)) (n 2)) (n 1)) 4) (cStopsIn n (scCp sc, 0, arCp ar, fd, tr, ld) 40)) ((cOrd n (scCp sc, 0, arCp ar, fd, tr, ld) 20 3).1))) rfl dX1_digest_273 ?_
                        exact rl hx hb hr hlocks hS (by rw [dEnd, (if_pos (show n 2 = 0 from Decidable.byContradiction fun h8 => nI_nle (Nat.pos_of_ne_zero h8) hn.h2 c_11))]; exact ⟨rfl, hw, h_x, h_p, inx, inp, nxp, nfx, nfp⟩) ⟨(Nat.le_of_ble_eq_true rfl), (Nat.le_of_ble_eq_true rfl)⟩ dX1_digest_276
                      have hn2 : n 2 = (n 2 - 1) + 1 := by have h8 : n 2 ≠ 0 := fun h7 => c_11 (by rw [h7]; decide); omega
                      · skip
                        refine lv_aload_n hx hb dX1_digest_230 rfl (lv_at hl 1 rfl) ?_
                        refine lv_aload_n hx hb dX1_digest_231 rfl (lv_at hl 1 rfl) ?_
                        refine lv_aload_n hx hb dX1_digest_232 rfl (lv_at hl 1 rfl) ?_
                        refine mget fx tfX1 h_x 0 (by decide) q209 (fun _ h => h) (v := .ref (la.1 0 0)) rfl dX1_digest_233 ?_
                        refine mgetN fx tfX2 (cw.w hw) 2 (by decide) q125 (fun _ h => h) (v := .ref (la.1 0 3)) rfl dX1_digest_236 ?_
                        refine kV fx (m_AL_size l g (la.1 0 3) (la.1 1 2) (la.2.2 2) (nI (n 2))) (lw_V q253 q254 q255 q54 q256) hdJ2_size ⟨(Nat.le_of_ble_eq_true rfl), (Nat.le_of_ble_eq_true rfl)⟩ ⟨(Nat.le_of_ble_eq_true rfl), (Nat.le_of_ble_eq_true rfl)⟩ hl.1 hS tfJ2.2.1 (cw.al2 hw) rfl (Nat.le_of_ble_eq_true rfl) (cw.al2 hw) (fun _ h => h.elim) dX1_digest_239 (fun rv9 H locs hQ hz9 hk9 hS => ?_)
                        obtain ⟨rfl, rfl⟩ := hQ
                        refine W.eq (g2 := F0 m 242 ls [.int (nI (n 2)), .ref ax, .ref ax]) rfl ?_
                        refine lv_iconst (v := 1) hx hb dX1_digest_242 (by decide) ?_
                        refine lv_isub hx hb dX1_digest_243 ?_
                        refine lv_bipush (v := 40) hx hb dX1_digest_244 (by decide) ?_
                        have hSb := hS
                        refine kV fx (m_X_crushedNow l g _ ax ap la sc sw ar fd tr ld n xi (dRows (cOfG ar pd) 4 (dRows (cOfT tr) 4 (dRows (cOfL ld) 7 (dFlds (cOfF fd ld (n 2)) (fun i => (cDayB (n 0) fd i 25 2 20).1) (dRow (cMany sc ld n xi) 58204 20) (n 0)) (n 2)) (n 1)) 4) pd hn hv (n 2 - 1) 40 (by omega) (by decide)) (lw_V q455 q457 qs12 q50 q458) hdX1_crushedNow ⟨(Nat.le_of_ble_eq_true rfl), (Nat.le_of_ble_eq_true rfl)⟩ ⟨(Nat.le_of_ble_eq_true rfl), (Nat.le_of_ble_eq_true rfl)⟩ hl.1 hS tfX1.2.1 h_x rfl (Nat.le_of_ble_eq_true rfl) (⟨rfl, (xw.weaken ⟨hw, h_x, h_p, inx, inp, nxp, nfx, nfp⟩ fx.2.2.2.2.2.1)⟩) (fun q h9 => hAs q (Nat.le_trans hS.1 h9)) dX1_digest_246 (fun rv9 H locs hQ hz9 hk9 hS => ?_)
                        obtain rfl := hQ
                        replace h_x := h_x.kept (hk9 _ h_x.lt (Nat.not_le.mpr h_x.lt))
                        replace h_p := h_p.kept (hk9 _ h_p.lt (Nat.not_le.mpr h_p.lt))
                        replace hw : cw g (fA (xF ax ap la n) sz) la (sc, sw, ar, fd, tr, ld, n) H := cw.kept hw (fun q h9 _ => hk9 q h9 (Nat.not_le.mpr h9))
                        refine W.eq (g2 := F0 m 249 ls [.int (cCrushedIn n (scCp sc, 0, arCp ar, fd, tr, ld) (n 2 - 1) 40), .ref ax]) rfl ?_
                        have hbk := xw.back (show xw g (fA (xF ax ap la n) sz) ax ap la (sc, sw, ar, fd, tr, ld, n) xi (dRows (cOfG ar pd) 4 (dRows (cOfT tr) 4 (dRows (cOfL ld) 7 (dFlds (cOfF fd ld (n 2)) (fun i => (cDayB (n 0) fd i 25 2 20).1) (dRow (cMany sc ld n xi) 58204 20) (n 0)) (n 2)) (n 1)) 4) pd H from ⟨hw, h_x, h_p, inx, inp, nxp, nfx, nfp⟩) (fun q h9 => hAs q (Nat.le_trans hS.1 h9))
                        refine kV fx (m_X_add l g _ ax ap la sc sw ar fd tr ld n xi (dRows (cOfG ar pd) 4 (dRows (cOfT tr) 4 (dRows (cOfL ld) 7 (dFlds (cOfF fd ld (n 2)) (fun i => (cDayB (n 0) fd i 25 2 20).1) (dRow (cMany sc ld n xi) 58204 20) (n 0)) (n 2)) (n 1)) 4) pd (cCrushedIn n (scCp sc, 0, arCp ar, fd, tr, ld) (n 2 - 1) 40)) (lw_V q277 q279 qs1 q50 q280) hdX1_add ⟨(Nat.le_of_ble_eq_true rfl), (Nat.le_of_ble_eq_true rfl)⟩ ⟨(Nat.le_of_ble_eq_true rfl), (Nat.le_of_ble_eq_true rfl)⟩ hl.1 hS tfX1.2.1 h_x rfl (Nat.le_of_ble_eq_true rfl) (⟨rfl, (xw.weaken ⟨hw, h_x, h_p, inx, inp, nxp, nfx, nfp⟩ fx.2.2.2.2.2.1)⟩) (fun q h9 => hbk q h9) dX1_digest_249 (fun rv9 H locs hQ hz9 hk9 hS => ?_)
                        obtain ⟨rfl, hxw9⟩ := hQ
                        replace hxw9 := hxw9.weaken hbk
                        obtain ⟨hw, h_x, h_p, inx, inp, nxp, nfx, nfp⟩ := hxw9
                        refine W.eq (g2 := F0 m 252 ls []) rfl ?_
                        refine lv_aload_n hx hb dX1_digest_252 rfl (lv_at hl 1 rfl) ?_
                        refine lv_aload_n hx hb dX1_digest_253 rfl (lv_at hl 1 rfl) ?_
                        refine lv_bipush (v := 40) hx hb dX1_digest_254 (by decide) ?_
                        have hSb := hS
                        refine kV fx (m_X_stopsNow l g _ ax ap la sc sw ar fd tr ld n xi (dAdd (dRows (cOfG ar pd) 4 (dRows (cOfT tr) 4 (dRows (cOfL ld) 7 (dFlds (cOfF fd ld (n 2)) (fun i => (cDayB (n 0) fd i 25 2 20).1) (dRow (cMany sc ld n xi) 58204 20) (n 0)) (n 2)) (n 1)) 4) (cCrushedIn n (scCp sc, 0, arCp ar, fd, tr, ld) (n 2 - 1) 40)) pd hn hv 40 (by decide)) (lw_V q602 q604 qs20 q50 q605) hdX1_stopsNow ⟨(Nat.le_of_ble_eq_true rfl), (Nat.le_of_ble_eq_true rfl)⟩ ⟨(Nat.le_of_ble_eq_true rfl), (Nat.le_of_ble_eq_true rfl)⟩ hl.1 hS tfX1.2.1 h_x rfl (Nat.le_of_ble_eq_true rfl) (⟨rfl, (xw.weaken ⟨hw, h_x, h_p, inx, inp, nxp, nfx, nfp⟩ fx.2.2.2.2.2.1)⟩) (fun q h9 => hAs q (Nat.le_trans hS.1 h9)) dX1_digest_256 (fun rv9 H locs hQ hz9 hk9 hS => ?_)
                        obtain rfl := hQ
                        replace h_x := h_x.kept (hk9 _ h_x.lt (Nat.not_le.mpr h_x.lt))
                        replace h_p := h_p.kept (hk9 _ h_p.lt (Nat.not_le.mpr h_p.lt))
                        replace hw : cw g (fA (xF ax ap la n) sz) la (sc, sw, ar, fd, tr, ld, n) H := cw.kept hw (fun q h9 _ => hk9 q h9 (Nat.not_le.mpr h9))
                        refine W.eq (g2 := F0 m 259 ls [.int (cStopsIn n (scCp sc, 0, arCp ar, fd, tr, ld) 40), .ref ax]) rfl ?_
                        have hbk := xw.back (show xw g (fA (xF ax ap la n) sz) ax ap la (sc, sw, ar, fd, tr, ld, n) xi (dAdd (dRows (cOfG ar pd) 4 (dRows (cOfT tr) 4 (dRows (cOfL ld) 7 (dFlds (cOfF fd ld (n 2)) (fun i => (cDayB (n 0) fd i 25 2 20).1) (dRow (cMany sc ld n xi) 58204 20) (n 0)) (n 2)) (n 1)) 4) (cCrushedIn n (scCp sc, 0, arCp ar, fd, tr, ld) (n 2 - 1) 40)) pd H from ⟨hw, h_x, h_p, inx, inp, nxp, nfx, nfp⟩) (fun q h9 => hAs q (Nat.le_trans hS.1 h9))
                        refine kV fx (m_X_add l g _ ax ap la sc sw ar fd tr ld n xi (dAdd (dRows (cOfG ar pd) 4 (dRows (cOfT tr) 4 (dRows (cOfL ld) 7 (dFlds (cOfF fd ld (n 2)) (fun i => (cDayB (n 0) fd i 25 2 20).1) (dRow (cMany sc ld n xi) 58204 20) (n 0)) (n 2)) (n 1)) 4) (cCrushedIn n (scCp sc, 0, arCp ar, fd, tr, ld) (n 2 - 1) 40)) pd (cStopsIn n (scCp sc, 0, arCp ar, fd, tr, ld) 40)) (lw_V q277 q279 qs1 q50 q280) hdX1_add ⟨(Nat.le_of_ble_eq_true rfl), (Nat.le_of_ble_eq_true rfl)⟩ ⟨(Nat.le_of_ble_eq_true rfl), (Nat.le_of_ble_eq_true rfl)⟩ hl.1 hS tfX1.2.1 h_x rfl (Nat.le_of_ble_eq_true rfl) (⟨rfl, (xw.weaken ⟨hw, h_x, h_p, inx, inp, nxp, nfx, nfp⟩ fx.2.2.2.2.2.1)⟩) (fun q h9 => hbk q h9) dX1_digest_259 (fun rv9 H locs hQ hz9 hk9 hS => ?_)
                        obtain ⟨rfl, hxw9⟩ := hQ
                        replace hxw9 := hxw9.weaken hbk
                        obtain ⟨hw, h_x, h_p, inx, inp, nxp, nfx, nfp⟩ := hxw9
                        refine W.eq (g2 := F0 m 262 ls []) rfl ?_
                        refine lv_aload_n hx hb dX1_digest_262 rfl (lv_at hl 1 rfl) ?_
                        refine lv_aload_n hx hb dX1_digest_263 rfl (lv_at hl 1 rfl) ?_
                        refine lv_bipush (v := 20) hx hb dX1_digest_264 (by decide) ?_
                        have hSb := hS
                        refine kV fx (m_X_orderNow l g _ ax ap la sc sw ar fd tr ld n xi (dAdd (dAdd (dRows (cOfG ar pd) 4 (dRows (cOfT tr) 4 (dRows (cOfL ld) 7 (dFlds (cOfF fd ld (n 2)) (fun i => (cDayB (n 0) fd i 25 2 20).1) (dRow (cMany sc ld n xi) 58204 20) (n 0)) (n 2)) (n 1)) 4) (cCrushedIn n (scCp sc, 0, arCp ar, fd, tr, ld) (n 2 - 1) 40)) (cStopsIn n (scCp sc, 0, arCp ar, fd, tr, ld) 40)) pd hn hv 20 (by decide)) (lw_V q606 q608 qs21 q50 q609) hdX1_orderNow ⟨(Nat.le_of_ble_eq_true rfl), (Nat.le_of_ble_eq_true rfl)⟩ ⟨(Nat.le_of_ble_eq_true rfl), (Nat.le_of_ble_eq_true rfl)⟩ hl.1 hS tfX1.2.1 h_x rfl (Nat.le_of_ble_eq_true rfl) (⟨rfl, (xw.weaken ⟨hw, h_x, h_p, inx, inp, nxp, nfx, nfp⟩ fx.2.2.2.2.2.1)⟩) (fun q h9 => hAs q (Nat.le_trans hS.1 h9)) dX1_digest_266 (fun rv9 H locs hQ hz9 hk9 hS => ?_)
                        obtain rfl := hQ
                        replace h_x := h_x.kept (hk9 _ h_x.lt (Nat.not_le.mpr h_x.lt))
                        replace h_p := h_p.kept (hk9 _ h_p.lt (Nat.not_le.mpr h_p.lt))
                        replace hw : cw g (fA (xF ax ap la n) sz) la (sc, sw, ar, fd, tr, ld, n) H := cw.kept hw (fun q h9 _ => hk9 q h9 (Nat.not_le.mpr h9))
                        refine W.eq (g2 := F0 m 269 ls [.int ((cOrd n (scCp sc, 0, arCp ar, fd, tr, ld) 20 3).1), .ref ax]) rfl ?_
                        have hbk := xw.back (show xw g (fA (xF ax ap la n) sz) ax ap la (sc, sw, ar, fd, tr, ld, n) xi (dAdd (dAdd (dRows (cOfG ar pd) 4 (dRows (cOfT tr) 4 (dRows (cOfL ld) 7 (dFlds (cOfF fd ld (n 2)) (fun i => (cDayB (n 0) fd i 25 2 20).1) (dRow (cMany sc ld n xi) 58204 20) (n 0)) (n 2)) (n 1)) 4) (cCrushedIn n (scCp sc, 0, arCp ar, fd, tr, ld) (n 2 - 1) 40)) (cStopsIn n (scCp sc, 0, arCp ar, fd, tr, ld) 40)) pd H from ⟨hw, h_x, h_p, inx, inp, nxp, nfx, nfp⟩) (fun q h9 => hAs q (Nat.le_trans hS.1 h9))
                        refine kV fx (m_X_add l g _ ax ap la sc sw ar fd tr ld n xi (dAdd (dAdd (dRows (cOfG ar pd) 4 (dRows (cOfT tr) 4 (dRows (cOfL ld) 7 (dFlds (cOfF fd ld (n 2)) (fun i => (cDayB (n 0) fd i 25 2 20).1) (dRow (cMany sc ld n xi) 58204 20) (n 0)) (n 2)) (n 1)) 4) (cCrushedIn n (scCp sc, 0, arCp ar, fd, tr, ld) (n 2 - 1) 40)) (cStopsIn n (scCp sc, 0, arCp ar, fd, tr, ld) 40)) pd ((cOrd n (scCp sc, 0, arCp ar, fd, tr, ld) 20 3).1)) (lw_V q277 q279 qs1 q50 q280) hdX1_add ⟨(Nat.le_of_ble_eq_true rfl), (Nat.le_of_ble_eq_true rfl)⟩ ⟨(Nat.le_of_ble_eq_true rfl), (Nat.le_of_ble_eq_true rfl)⟩ hl.1 hS tfX1.2.1 h_x rfl (Nat.le_of_ble_eq_true rfl) (⟨rfl, (xw.weaken ⟨hw, h_x, h_p, inx, inp, nxp, nfx, nfp⟩ fx.2.2.2.2.2.1)⟩) (fun q h9 => hbk q h9) dX1_digest_269 (fun rv9 H locs hQ hz9 hk9 hS => ?_)
                        obtain ⟨rfl, hxw9⟩ := hQ
                        replace hxw9 := hxw9.weaken hbk
                        obtain ⟨hw, h_x, h_p, inx, inp, nxp, nfx, nfp⟩ := hxw9
                        refine W.eq (g2 := F0 m 272 ls []) rfl ?_
                        refine lv_aload_n hx hb dX1_digest_272 rfl (lv_at hl 1 rfl) ?_
                        refine mget fx tfX1 h_x 9 (by decide) q218 (fun _ h => h) (v := .long (dAdd (dAdd (dAdd (dRows (cOfG ar pd) 4 (dRows (cOfT tr) 4 (dRows (cOfL ld) 7 (dFlds (cOfF fd ld (n 2)) (fun i => (cDayB (n 0) fd i 25 2 20).1) (dRow (cMany sc ld n xi) 58204 20) (n 0)) (n 2)) (n 1)) 4) (cCrushedIn n (scCp sc, 0, arCp ar, fd, tr, ld) (n 2 - 1) 40)) (cStopsIn n (scCp sc, 0, arCp ar, fd, tr, ld) 40)) ((cOrd n (scCp sc, 0, arCp ar, fd, tr, ld) 20 3).1))) rfl dX1_digest_273 ?_
                        exact rl hx hb hr hlocks hS (by rw [dEnd, (if_neg (show ¬ n 2 = 0 from fun h7 => c_11 (by rw [h7]; decide)))]; exact ⟨rfl, hw, h_x, h_p, inx, inp, nxp, nfx, nfp⟩) ⟨(Nat.le_of_ble_eq_true rfl), (Nat.le_of_ble_eq_true rfl)⟩ dX1_digest_276
                    | succ d_10 ih =>
                      intro i H locs ls hid hS h_x h_p hw hl
                      have hi_i : i < 4 := by omega
                      refine lv_iload_n hx hb dX1_digest_183 rfl (lv_at hl 0 rfl) ?_
                      refine lv_iconst (v := 4) hx hb dX1_digest_184 (by decide) ?_
                      refine lv_icmp_ge (tgt := 217) hx hb dX1_digest_185 (by decide) (fun h9 => absurd h9 (nI_ge (b := 4) hi_i (by decide))) (fun _ => ?_)
                      refine lv_iconst (v := 0) hx hb dX1_digest_188 (by decide) ?_
                      refine lv_istore_n (lv' := [(2, .int 0), (1, .int (nI i)), (0, .ref ax)]) hx hb dX1_digest_189 rfl hl (by decide) rfl (fun ls hl => ?_)
                      have lp_12 : ∀ (d_13 q : Nat) (H : Heap) (locs : List Loc) (ls : Array Slot), q + d_13 = 4 → va_S (fA (xF ax ap la n) sz) s.heap H locs → mAt g ax (.inr (0, [.ref (la.1 0 0), .ref ap, .int (xi 0), .int (xi 1), .int (xi 2), .int (xi 3), .int (xi 4), .int (xi 5), .int (xi 6), .long (dRow (cOfG ar pd i) (dRows (cOfG ar pd) 4 (dRows (cOfT tr) 4 (dRows (cOfL ld) 7 (dFlds (cOfF fd ld (n 2)) (fun i => (cDayB (n 0) fd i 25 2 20).1) (dRow (cMany sc ld n xi) 58204 20) (n 0)) (n 2)) (n 1)) i) q)])) H → mAt g ap (.inl (g.2.1 0, 4, .inl pd)) H → cw g (fA (xF ax ap la n) sz) la (sc, sw, ar, fd, tr, ld, n) H → lv_has ls 3 [(2, .int (nI q)), (1, .int (nI i)), (0, .ref ax)] → W p l ev (mR 9 3800 27300) s m ([.ref ax] : List Value).toArray below meth c H locs 1100 10000 (MQ below (mQ (fA (xF ax ap la n) sz) (fun Hp rv Hq => rv = some (.long (dEnd (dRows (cOfG ar pd) 4 (dRows (cOfT tr) 4 (dRows (cOfL ld) 7 (dFlds (cOfF fd ld (n 2)) (fun i => (cDayB (n 0) fd i 25 2 20).1) (dRow (cMany sc ld n xi) 58204 20) (n 0)) (n 2)) (n 1)) 4) (n 2) (cCrushedIn n (scCp sc, 0, arCp ar, fd, tr, ld) (n 2 - 1) 40) (cStopsIn n (scCp sc, 0, arCp ar, fd, tr, ld) 40) (cOrd n (scCp sc, 0, arCp ar, fd, tr, ld) 20 3).1)) ∧ xw g (fA (xF ax ap la n) sz) ax ap la (sc, sw, ar, fd, tr, ld, n) xi (dEnd (dRows (cOfG ar pd) 4 (dRows (cOfT tr) 4 (dRows (cOfL ld) 7 (dFlds (cOfF fd ld (n 2)) (fun i => (cDayB (n 0) fd i 25 2 20).1) (dRow (cMany sc ld n xi) 58204 20) (n 0)) (n 2)) (n 1)) 4) (n 2) (cCrushedIn n (scCp sc, 0, arCp ar, fd, tr, ld) (n 2 - 1) 40) (cStopsIn n (scCp sc, 0, arCp ar, fd, tr, ld) 40) (cOrd n (scCp sc, 0, arCp ar, fd, tr, ld) 20 3).1) pd Hq)) ([.ref ax] : List Value).toArray s 3800 27300 (fA (xF ax ap la n) sz)) (F0 m 190 ls []) := by
                        intro d_13
                        induction d_13 with
                        | zero =>
                          intro q H locs ls hid hS h_x h_p hw hl
                          obtain rfl : 4 = q := by omega
                          refine lv_iload_n hx hb dX1_digest_190 rfl (lv_at hl 0 rfl) ?_
                          refine lv_iconst (v := 3) hx hb dX1_digest_191 (by decide) ?_
                          refine lv_icmp_gt (tgt := 211) hx hb dX1_digest_192 (by decide) (fun _ => ?_) (fun h9 => absurd (by decide) h9)
                          refine lv_iinc (v := nI (i + 1)) (lv' := [(1, .int (nI (i + 1))), (2, .int (nI 4)), (0, .ref ax)]) hx hb dX1_digest_211 hl (k := 1) rfl (nI_1 _) (by decide) rfl (fun ls hl => ?_)
                          refine lv_goto (tgt := 183) hx hb dX1_digest_214 (by decide) ?_
                          exact ih (i + 1) H locs ls (by omega) hS h_x h_p hw (lv_sub hl [0, 2] rfl)
                        | succ d_13 ih =>
                          intro q H locs ls hid hS h_x h_p hw hl
                          have hi_q : q < 4 := by omega
                          refine lv_iload_n hx hb dX1_digest_190 rfl (lv_at hl 0 rfl) ?_
                          refine lv_iconst (v := 3) hx hb dX1_digest_191 (by decide) ?_
                          refine lv_icmp_gt (tgt := 211) hx hb dX1_digest_192 (by decide) (fun h9 => absurd h9 (nI_nlt (a := 3) (Nat.le_of_lt_succ hi_q) (by decide))) (fun _ => ?_)
                          refine lv_aload_n hx hb dX1_digest_195 rfl (lv_at hl 2 rfl) ?_
                          refine lv_aload_n hx hb dX1_digest_196 rfl (lv_at hl 2 rfl) ?_
                          refine lv_iload_n hx hb dX1_digest_197 rfl (lv_at hl 1 rfl) ?_
                          refine lv_iload_n hx hb dX1_digest_198 rfl (lv_at hl 0 rfl) ?_
                          refine kV fx (m_X_ofGrowerNow l g ax ap la sc sw ar fd tr ld n xi (dRow (cOfG ar pd i) (dRows (cOfG ar pd) 4 (dRows (cOfT tr) 4 (dRows (cOfL ld) 7 (dFlds (cOfF fd ld (n 2)) (fun i => (cDayB (n 0) fd i 25 2 20).1) (dRow (cMany sc ld n xi) 58204 20) (n 0)) (n 2)) (n 1)) i) q) pd  i hi_i q hi_q) (lw_V q451 q453 qs11 q50 q454) hdX1_ofGrowerNow ⟨(Nat.le_of_ble_eq_true rfl), (Nat.le_of_ble_eq_true rfl)⟩ ⟨(Nat.le_of_ble_eq_true rfl), (Nat.le_of_ble_eq_true rfl)⟩ hl.1 hS tfX1.2.1 h_x rfl (Nat.le_of_ble_eq_true rfl) (xw.weaken ⟨hw, h_x, h_p, inx, inp, nxp, nfx, nfp⟩ fx.2.2.2.2.2.1) (fun _ h => h.elim) dX1_digest_199 (fun rv9 H locs hQ hz9 hk9 hS => ?_)
                          obtain ⟨rfl, rfl⟩ := hQ
                          refine W.eq (g2 := F0 m 202 ls [.int (cOfG ar pd i q), .ref ax]) rfl ?_
                          have hbk := xw.back (show xw g (fA (xF ax ap la n) sz) ax ap la (sc, sw, ar, fd, tr, ld, n) xi (dRow (cOfG ar pd i) (dRows (cOfG ar pd) 4 (dRows (cOfT tr) 4 (dRows (cOfL ld) 7 (dFlds (cOfF fd ld (n 2)) (fun i => (cDayB (n 0) fd i 25 2 20).1) (dRow (cMany sc ld n xi) 58204 20) (n 0)) (n 2)) (n 1)) i) q) pd H from ⟨hw, h_x, h_p, inx, inp, nxp, nfx, nfp⟩) (fun q h9 => hAs q (Nat.le_trans hS.1 h9))
                          refine kV fx (m_X_add l g _ ax ap la sc sw ar fd tr ld n xi (dRow (cOfG ar pd i) (dRows (cOfG ar pd) 4 (dRows (cOfT tr) 4 (dRows (cOfL ld) 7 (dFlds (cOfF fd ld (n 2)) (fun i => (cDayB (n 0) fd i 25 2 20).1) (dRow (cMany sc ld n xi) 58204 20) (n 0)) (n 2)) (n 1)) i) q) pd (cOfG ar pd i q)) (lw_V q277 q279 qs1 q50 q280) hdX1_add ⟨(Nat.le_of_ble_eq_true rfl), (Nat.le_of_ble_eq_true rfl)⟩ ⟨(Nat.le_of_ble_eq_true rfl), (Nat.le_of_ble_eq_true rfl)⟩ hl.1 hS tfX1.2.1 h_x rfl (Nat.le_of_ble_eq_true rfl) (⟨rfl, (xw.weaken ⟨hw, h_x, h_p, inx, inp, nxp, nfx, nfp⟩ fx.2.2.2.2.2.1)⟩) (fun q h9 => hbk q h9) dX1_digest_202 (fun rv9 H locs hQ hz9 hk9 hS => ?_)
                          obtain ⟨rfl, hxw9⟩ := hQ
                          replace hxw9 := hxw9.weaken hbk
                          obtain ⟨hw, h_x, h_p, inx, inp, nxp, nfx, nfp⟩ := hxw9
                          refine W.eq (g2 := F0 m 205 ls []) rfl ?_
                          refine lv_iinc (v := nI (q + 1)) (lv' := [(2, .int (nI (q + 1))), (1, .int (nI i)), (0, .ref ax)]) hx hb dX1_digest_205 hl (k := 0) rfl (nI_1 _) (by decide) rfl (fun ls hl => ?_)
                          refine lv_goto (tgt := 190) hx hb dX1_digest_208 (by decide) ?_
                          exact ih (q + 1) H locs ls (by omega) hS h_x h_p hw (lv_sub hl [0, 1, 2] rfl)
                      exact lp_12 (4 - 0) 0 H locs ls (by omega) hS h_x h_p hw (lv_sub hl [0, 1, 2] rfl)
                  exact lp_9 (4 - 0) 0 H locs ls (by omega) hS h_x h_p hw (lv_sub hl [0, 1] rfl)
                | succ d_8 ih =>
                  intro i H locs ls hid hS h_x h_p hw hl
                  have hi_i : i < n 1 := by omega
                  refine lv_iload_n hx hb dX1_digest_138 rfl (lv_at hl 0 rfl) ?_
                  refine lv_aload_n hx hb dX1_digest_139 rfl (lv_at hl 1 rfl) ?_
                  refine mget fx tfX1 h_x 0 (by decide) q209 (fun _ h => h) (v := .ref (la.1 0 0)) rfl dX1_digest_140 ?_
                  refine mgetN fx tfX2 (cw.w hw) 1 (by decide) q123 (fun _ h => h) (v := .ref (la.1 0 2)) rfl dX1_digest_143 ?_
                  refine kV fx (m_AL_size l g (la.1 0 2) (la.1 1 1) (la.2.2 1) (nI (n 1))) (lw_V q253 q254 q255 q54 q256) hdJ2_size ⟨(Nat.le_of_ble_eq_true rfl), (Nat.le_of_ble_eq_true rfl)⟩ ⟨(Nat.le_of_ble_eq_true rfl), (Nat.le_of_ble_eq_true rfl)⟩ hl.1 hS tfJ2.2.1 (cw.al1 hw) rfl (Nat.le_of_ble_eq_true rfl) (cw.al1 hw) (fun _ h => h.elim) dX1_digest_146 (fun rv9 H locs hQ hz9 hk9 hS => ?_)
                  obtain ⟨rfl, rfl⟩ := hQ
                  refine W.eq (g2 := F0 m 149 ls [.int (nI (n 1)), .int (nI i)]) rfl ?_
                  refine lv_icmp_ge (tgt := 181) hx hb dX1_digest_149 (by decide) (fun h9 => absurd h9 (nI_ge hi_i hn.h1)) (fun _ => ?_)
                  refine lv_iconst (v := 0) hx hb dX1_digest_152 (by decide) ?_
                  refine lv_istore_n (lv' := [(2, .int 0), (1, .int (nI i)), (0, .ref ax)]) hx hb dX1_digest_153 rfl hl (by decide) rfl (fun ls hl => ?_)
                  have lp_14 : ∀ (d_15 q : Nat) (H : Heap) (locs : List Loc) (ls : Array Slot), q + d_15 = 4 → va_S (fA (xF ax ap la n) sz) s.heap H locs → mAt g ax (.inr (0, [.ref (la.1 0 0), .ref ap, .int (xi 0), .int (xi 1), .int (xi 2), .int (xi 3), .int (xi 4), .int (xi 5), .int (xi 6), .long (dRow (cOfT tr i) (dRows (cOfT tr) 4 (dRows (cOfL ld) 7 (dFlds (cOfF fd ld (n 2)) (fun i => (cDayB (n 0) fd i 25 2 20).1) (dRow (cMany sc ld n xi) 58204 20) (n 0)) (n 2)) i) q)])) H → mAt g ap (.inl (g.2.1 0, 4, .inl pd)) H → cw g (fA (xF ax ap la n) sz) la (sc, sw, ar, fd, tr, ld, n) H → lv_has ls 3 [(2, .int (nI q)), (1, .int (nI i)), (0, .ref ax)] → W p l ev (mR 9 3800 27300) s m ([.ref ax] : List Value).toArray below meth c H locs 1100 10000 (MQ below (mQ (fA (xF ax ap la n) sz) (fun Hp rv Hq => rv = some (.long (dEnd (dRows (cOfG ar pd) 4 (dRows (cOfT tr) 4 (dRows (cOfL ld) 7 (dFlds (cOfF fd ld (n 2)) (fun i => (cDayB (n 0) fd i 25 2 20).1) (dRow (cMany sc ld n xi) 58204 20) (n 0)) (n 2)) (n 1)) 4) (n 2) (cCrushedIn n (scCp sc, 0, arCp ar, fd, tr, ld) (n 2 - 1) 40) (cStopsIn n (scCp sc, 0, arCp ar, fd, tr, ld) 40) (cOrd n (scCp sc, 0, arCp ar, fd, tr, ld) 20 3).1)) ∧ xw g (fA (xF ax ap la n) sz) ax ap la (sc, sw, ar, fd, tr, ld, n) xi (dEnd (dRows (cOfG ar pd) 4 (dRows (cOfT tr) 4 (dRows (cOfL ld) 7 (dFlds (cOfF fd ld (n 2)) (fun i => (cDayB (n 0) fd i 25 2 20).1) (dRow (cMany sc ld n xi) 58204 20) (n 0)) (n 2)) (n 1)) 4) (n 2) (cCrushedIn n (scCp sc, 0, arCp ar, fd, tr, ld) (n 2 - 1) 40) (cStopsIn n (scCp sc, 0, arCp ar, fd, tr, ld) 40) (cOrd n (scCp sc, 0, arCp ar, fd, tr, ld) 20 3).1) pd Hq)) ([.ref ax] : List Value).toArray s 3800 27300 (fA (xF ax ap la n) sz)) (F0 m 154 ls []) := by
                    intro d_15
                    induction d_15 with
                    | zero =>
                      intro q H locs ls hid hS h_x h_p hw hl
                      obtain rfl : 4 = q := by omega
                      refine lv_iload_n hx hb dX1_digest_154 rfl (lv_at hl 0 rfl) ?_
                      refine lv_iconst (v := 3) hx hb dX1_digest_155 (by decide) ?_
                      refine lv_icmp_gt (tgt := 175) hx hb dX1_digest_156 (by decide) (fun _ => ?_) (fun h9 => absurd (by decide) h9)
                      refine lv_iinc (v := nI (i + 1)) (lv' := [(1, .int (nI (i + 1))), (2, .int (nI 4)), (0, .ref ax)]) hx hb dX1_digest_175 hl (k := 1) rfl (nI_1 _) (by decide) rfl (fun ls hl => ?_)
                      refine lv_goto (tgt := 138) hx hb dX1_digest_178 (by decide) ?_
                      exact ih (i + 1) H locs ls (by omega) hS h_x h_p hw (lv_sub hl [0, 2] rfl)
                    | succ d_15 ih =>
                      intro q H locs ls hid hS h_x h_p hw hl
                      have hi_q : q < 4 := by omega
                      refine lv_iload_n hx hb dX1_digest_154 rfl (lv_at hl 0 rfl) ?_
                      refine lv_iconst (v := 3) hx hb dX1_digest_155 (by decide) ?_
                      refine lv_icmp_gt (tgt := 175) hx hb dX1_digest_156 (by decide) (fun h9 => absurd h9 (nI_nlt (a := 3) (Nat.le_of_lt_succ hi_q) (by decide))) (fun _ => ?_)
                      refine lv_aload_n hx hb dX1_digest_159 rfl (lv_at hl 2 rfl) ?_
                      refine lv_aload_n hx hb dX1_digest_160 rfl (lv_at hl 2 rfl) ?_
                      refine lv_iload_n hx hb dX1_digest_161 rfl (lv_at hl 1 rfl) ?_
                      refine lv_iload_n hx hb dX1_digest_162 rfl (lv_at hl 0 rfl) ?_
                      refine kV fx (m_X_ofTruckNow l g ax ap la sc sw ar fd tr ld n xi (dRow (cOfT tr i) (dRows (cOfT tr) 4 (dRows (cOfL ld) 7 (dFlds (cOfF fd ld (n 2)) (fun i => (cDayB (n 0) fd i 25 2 20).1) (dRow (cMany sc ld n xi) 58204 20) (n 0)) (n 2)) i) q) pd hn i hi_i q hi_q) (lw_V q446 q448 qs10 q50 q449) hdX1_ofTruckNow ⟨(Nat.le_of_ble_eq_true rfl), (Nat.le_of_ble_eq_true rfl)⟩ ⟨(Nat.le_of_ble_eq_true rfl), (Nat.le_of_ble_eq_true rfl)⟩ hl.1 hS tfX1.2.1 h_x rfl (Nat.le_of_ble_eq_true rfl) (xw.weaken ⟨hw, h_x, h_p, inx, inp, nxp, nfx, nfp⟩ fx.2.2.2.2.2.1) (fun _ h => h.elim) dX1_digest_163 (fun rv9 H locs hQ hz9 hk9 hS => ?_)
                      obtain ⟨rfl, rfl⟩ := hQ
                      refine W.eq (g2 := F0 m 166 ls [.int (cOfT tr i q), .ref ax]) rfl ?_
                      have hbk := xw.back (show xw g (fA (xF ax ap la n) sz) ax ap la (sc, sw, ar, fd, tr, ld, n) xi (dRow (cOfT tr i) (dRows (cOfT tr) 4 (dRows (cOfL ld) 7 (dFlds (cOfF fd ld (n 2)) (fun i => (cDayB (n 0) fd i 25 2 20).1) (dRow (cMany sc ld n xi) 58204 20) (n 0)) (n 2)) i) q) pd H from ⟨hw, h_x, h_p, inx, inp, nxp, nfx, nfp⟩) (fun q h9 => hAs q (Nat.le_trans hS.1 h9))
                      refine kV fx (m_X_add l g _ ax ap la sc sw ar fd tr ld n xi (dRow (cOfT tr i) (dRows (cOfT tr) 4 (dRows (cOfL ld) 7 (dFlds (cOfF fd ld (n 2)) (fun i => (cDayB (n 0) fd i 25 2 20).1) (dRow (cMany sc ld n xi) 58204 20) (n 0)) (n 2)) i) q) pd (cOfT tr i q)) (lw_V q277 q279 qs1 q50 q280) hdX1_add ⟨(Nat.le_of_ble_eq_true rfl), (Nat.le_of_ble_eq_true rfl)⟩ ⟨(Nat.le_of_ble_eq_true rfl), (Nat.le_of_ble_eq_true rfl)⟩ hl.1 hS tfX1.2.1 h_x rfl (Nat.le_of_ble_eq_true rfl) (⟨rfl, (xw.weaken ⟨hw, h_x, h_p, inx, inp, nxp, nfx, nfp⟩ fx.2.2.2.2.2.1)⟩) (fun q h9 => hbk q h9) dX1_digest_166 (fun rv9 H locs hQ hz9 hk9 hS => ?_)
                      obtain ⟨rfl, hxw9⟩ := hQ
                      replace hxw9 := hxw9.weaken hbk
                      obtain ⟨hw, h_x, h_p, inx, inp, nxp, nfx, nfp⟩ := hxw9
                      refine W.eq (g2 := F0 m 169 ls []) rfl ?_
                      refine lv_iinc (v := nI (q + 1)) (lv' := [(2, .int (nI (q + 1))), (1, .int (nI i)), (0, .ref ax)]) hx hb dX1_digest_169 hl (k := 0) rfl (nI_1 _) (by decide) rfl (fun ls hl => ?_)
                      refine lv_goto (tgt := 154) hx hb dX1_digest_172 (by decide) ?_
                      exact ih (q + 1) H locs ls (by omega) hS h_x h_p hw (lv_sub hl [0, 1, 2] rfl)
                  exact lp_14 (4 - 0) 0 H locs ls (by omega) hS h_x h_p hw (lv_sub hl [0, 1, 2] rfl)
              exact lp_7 (n 1 - 0) 0 H locs ls (by omega) hS h_x h_p hw (lv_sub hl [0, 1] rfl)
            | succ d_6 ih =>
              intro i H locs ls hid hS h_x h_p hw hl
              have hi_i : i < n 2 := by omega
              refine lv_iload_n hx hb dX1_digest_92 rfl (lv_at hl 0 rfl) ?_
              refine lv_aload_n hx hb dX1_digest_93 rfl (lv_at hl 1 rfl) ?_
              refine mget fx tfX1 h_x 0 (by decide) q209 (fun _ h => h) (v := .ref (la.1 0 0)) rfl dX1_digest_94 ?_
              refine mgetN fx tfX2 (cw.w hw) 2 (by decide) q125 (fun _ h => h) (v := .ref (la.1 0 3)) rfl dX1_digest_97 ?_
              refine kV fx (m_AL_size l g (la.1 0 3) (la.1 1 2) (la.2.2 2) (nI (n 2))) (lw_V q253 q254 q255 q54 q256) hdJ2_size ⟨(Nat.le_of_ble_eq_true rfl), (Nat.le_of_ble_eq_true rfl)⟩ ⟨(Nat.le_of_ble_eq_true rfl), (Nat.le_of_ble_eq_true rfl)⟩ hl.1 hS tfJ2.2.1 (cw.al2 hw) rfl (Nat.le_of_ble_eq_true rfl) (cw.al2 hw) (fun _ h => h.elim) dX1_digest_100 (fun rv9 H locs hQ hz9 hk9 hS => ?_)
              obtain ⟨rfl, rfl⟩ := hQ
              refine W.eq (g2 := F0 m 103 ls [.int (nI (n 2)), .int (nI i)]) rfl ?_
              refine lv_icmp_ge (tgt := 136) hx hb dX1_digest_103 (by decide) (fun h9 => absurd h9 (nI_ge hi_i hn.h2)) (fun _ => ?_)
              refine lv_iconst (v := 0) hx hb dX1_digest_106 (by decide) ?_
              refine lv_istore_n (lv' := [(2, .int 0), (1, .int (nI i)), (0, .ref ax)]) hx hb dX1_digest_107 rfl hl (by decide) rfl (fun ls hl => ?_)
              have lp_16 : ∀ (d_17 q : Nat) (H : Heap) (locs : List Loc) (ls : Array Slot), q + d_17 = 7 → va_S (fA (xF ax ap la n) sz) s.heap H locs → mAt g ax (.inr (0, [.ref (la.1 0 0), .ref ap, .int (xi 0), .int (xi 1), .int (xi 2), .int (xi 3), .int (xi 4), .int (xi 5), .int (xi 6), .long (dRow (cOfL ld i) (dRows (cOfL ld) 7 (dFlds (cOfF fd ld (n 2)) (fun i => (cDayB (n 0) fd i 25 2 20).1) (dRow (cMany sc ld n xi) 58204 20) (n 0)) i) q)])) H → mAt g ap (.inl (g.2.1 0, 4, .inl pd)) H → cw g (fA (xF ax ap la n) sz) la (sc, sw, ar, fd, tr, ld, n) H → lv_has ls 3 [(2, .int (nI q)), (1, .int (nI i)), (0, .ref ax)] → W p l ev (mR 9 3800 27300) s m ([.ref ax] : List Value).toArray below meth c H locs 1100 10000 (MQ below (mQ (fA (xF ax ap la n) sz) (fun Hp rv Hq => rv = some (.long (dEnd (dRows (cOfG ar pd) 4 (dRows (cOfT tr) 4 (dRows (cOfL ld) 7 (dFlds (cOfF fd ld (n 2)) (fun i => (cDayB (n 0) fd i 25 2 20).1) (dRow (cMany sc ld n xi) 58204 20) (n 0)) (n 2)) (n 1)) 4) (n 2) (cCrushedIn n (scCp sc, 0, arCp ar, fd, tr, ld) (n 2 - 1) 40) (cStopsIn n (scCp sc, 0, arCp ar, fd, tr, ld) 40) (cOrd n (scCp sc, 0, arCp ar, fd, tr, ld) 20 3).1)) ∧ xw g (fA (xF ax ap la n) sz) ax ap la (sc, sw, ar, fd, tr, ld, n) xi (dEnd (dRows (cOfG ar pd) 4 (dRows (cOfT tr) 4 (dRows (cOfL ld) 7 (dFlds (cOfF fd ld (n 2)) (fun i => (cDayB (n 0) fd i 25 2 20).1) (dRow (cMany sc ld n xi) 58204 20) (n 0)) (n 2)) (n 1)) 4) (n 2) (cCrushedIn n (scCp sc, 0, arCp ar, fd, tr, ld) (n 2 - 1) 40) (cStopsIn n (scCp sc, 0, arCp ar, fd, tr, ld) 40) (cOrd n (scCp sc, 0, arCp ar, fd, tr, ld) 20 3).1) pd Hq)) ([.ref ax] : List Value).toArray s 3800 27300 (fA (xF ax ap la n) sz)) (F0 m 108 ls []) := by
                intro d_17
                induction d_17 with
                | zero =>
                  intro q H locs ls hid hS h_x h_p hw hl
                  obtain rfl : 7 = q := by omega
                  refine lv_iload_n hx hb dX1_digest_108 rfl (lv_at hl 0 rfl) ?_
                  refine lv_bipush (v := 6) hx hb dX1_digest_109 (by decide) ?_
                  refine lv_icmp_gt (tgt := 130) hx hb dX1_digest_111 (by decide) (fun _ => ?_) (fun h9 => absurd (by decide) h9)
                  refine lv_iinc (v := nI (i + 1)) (lv' := [(1, .int (nI (i + 1))), (2, .int (nI 7)), (0, .ref ax)]) hx hb dX1_digest_130 hl (k := 1) rfl (nI_1 _) (by decide) rfl (fun ls hl => ?_)
                  refine lv_goto (tgt := 92) hx hb dX1_digest_133 (by decide) ?_
                  exact ih (i + 1) H locs ls (by omega) hS h_x h_p hw (lv_sub hl [0, 2] rfl)
                | succ d_17 ih =>
                  intro q H locs ls hid hS h_x h_p hw hl
                  have hi_q : q < 7 := by omega
                  refine lv_iload_n hx hb dX1_digest_108 rfl (lv_at hl 0 rfl) ?_
                  refine lv_bipush (v := 6) hx hb dX1_digest_109 (by decide) ?_
                  refine lv_icmp_gt (tgt := 130) hx hb dX1_digest_111 (by decide) (fun h9 => absurd h9 (nI_nlt (a := 6) (Nat.le_of_lt_succ hi_q) (by decide))) (fun _ => ?_)
                  refine lv_aload_n hx hb dX1_digest_114 rfl (lv_at hl 2 rfl) ?_
                  refine lv_aload_n hx hb dX1_digest_115 rfl (lv_at hl 2 rfl) ?_
                  refine lv_iload_n hx hb dX1_digest_116 rfl (lv_at hl 1 rfl) ?_
                  refine lv_iload_n hx hb dX1_digest_117 rfl (lv_at hl 0 rfl) ?_
                  refine kV fx (m_X_ofLoadNow l g ax ap la sc sw ar fd tr ld n xi (dRow (cOfL ld i) (dRows (cOfL ld) 7 (dFlds (cOfF fd ld (n 2)) (fun i => (cDayB (n 0) fd i 25 2 20).1) (dRow (cMany sc ld n xi) 58204 20) (n 0)) i) q) pd hn i hi_i q hi_q) (lw_V q442 q444 qs9 q50 q445) hdX1_ofLoadNow ⟨(Nat.le_of_ble_eq_true rfl), (Nat.le_of_ble_eq_true rfl)⟩ ⟨(Nat.le_of_ble_eq_true rfl), (Nat.le_of_ble_eq_true rfl)⟩ hl.1 hS tfX1.2.1 h_x rfl (Nat.le_of_ble_eq_true rfl) (xw.weaken ⟨hw, h_x, h_p, inx, inp, nxp, nfx, nfp⟩ fx.2.2.2.2.2.1) (fun _ h => h.elim) dX1_digest_118 (fun rv9 H locs hQ hz9 hk9 hS => ?_)
                  obtain ⟨rfl, rfl⟩ := hQ
                  refine W.eq (g2 := F0 m 121 ls [.int (cOfL ld i q), .ref ax]) rfl ?_
                  have hbk := xw.back (show xw g (fA (xF ax ap la n) sz) ax ap la (sc, sw, ar, fd, tr, ld, n) xi (dRow (cOfL ld i) (dRows (cOfL ld) 7 (dFlds (cOfF fd ld (n 2)) (fun i => (cDayB (n 0) fd i 25 2 20).1) (dRow (cMany sc ld n xi) 58204 20) (n 0)) i) q) pd H from ⟨hw, h_x, h_p, inx, inp, nxp, nfx, nfp⟩) (fun q h9 => hAs q (Nat.le_trans hS.1 h9))
                  refine kV fx (m_X_add l g _ ax ap la sc sw ar fd tr ld n xi (dRow (cOfL ld i) (dRows (cOfL ld) 7 (dFlds (cOfF fd ld (n 2)) (fun i => (cDayB (n 0) fd i 25 2 20).1) (dRow (cMany sc ld n xi) 58204 20) (n 0)) i) q) pd (cOfL ld i q)) (lw_V q277 q279 qs1 q50 q280) hdX1_add ⟨(Nat.le_of_ble_eq_true rfl), (Nat.le_of_ble_eq_true rfl)⟩ ⟨(Nat.le_of_ble_eq_true rfl), (Nat.le_of_ble_eq_true rfl)⟩ hl.1 hS tfX1.2.1 h_x rfl (Nat.le_of_ble_eq_true rfl) (⟨rfl, (xw.weaken ⟨hw, h_x, h_p, inx, inp, nxp, nfx, nfp⟩ fx.2.2.2.2.2.1)⟩) (fun q h9 => hbk q h9) dX1_digest_121 (fun rv9 H locs hQ hz9 hk9 hS => ?_)
                  obtain ⟨rfl, hxw9⟩ := hQ
                  replace hxw9 := hxw9.weaken hbk
                  obtain ⟨hw, h_x, h_p, inx, inp, nxp, nfx, nfp⟩ := hxw9
                  refine W.eq (g2 := F0 m 124 ls []) rfl ?_
                  refine lv_iinc (v := nI (q + 1)) (lv' := [(2, .int (nI (q + 1))), (1, .int (nI i)), (0, .ref ax)]) hx hb dX1_digest_124 hl (k := 0) rfl (nI_1 _) (by decide) rfl (fun ls hl => ?_)
                  refine lv_goto (tgt := 108) hx hb dX1_digest_127 (by decide) ?_
                  exact ih (q + 1) H locs ls (by omega) hS h_x h_p hw (lv_sub hl [0, 1, 2] rfl)
              exact lp_16 (7 - 0) 0 H locs ls (by omega) hS h_x h_p hw (lv_sub hl [0, 1, 2] rfl)
          refine W.widen (k := 1100) (n := 10000) (by omega) (by omega) ?_
          exact lp_5 (n 2 - 0) 0 H locs ls (by omega) hS h_x h_p hw (lv_sub hl [0, 1] rfl)
        | succ d_4 ih =>
          intro i H locs ls hid hS h_x h_p hw hl
          have hi_i : i < n 0 := by omega
          refine lv_iload_n hx hb dX1_digest_32 rfl (lv_at hl 0 rfl) ?_
          refine lv_aload_n hx hb dX1_digest_33 rfl (lv_at hl 1 rfl) ?_
          refine mget fx tfX1 h_x 0 (by decide) q209 (fun _ h => h) (v := .ref (la.1 0 0)) rfl dX1_digest_34 ?_
          refine mgetN fx tfX2 (cw.w hw) 0 (by decide) q121 (fun _ h => h) (v := .ref (la.1 0 1)) rfl dX1_digest_37 ?_
          refine kV fx (m_AL_size l g (la.1 0 1) (la.1 1 0) (la.2.2 0) (nI (n 0))) (lw_V q253 q254 q255 q54 q256) hdJ2_size ⟨(Nat.le_of_ble_eq_true rfl), (Nat.le_of_ble_eq_true rfl)⟩ ⟨(by show 110 * i + 0 ≤ 3800; omega), (by show 1000 * i + 0 ≤ 27300; omega)⟩ hl.1 hS tfJ2.2.1 (cw.al0 hw) rfl (Nat.le_of_ble_eq_true rfl) (cw.al0 hw) (fun _ h => h.elim) dX1_digest_40 (fun rv9 H locs hQ hz9 hk9 hS => ?_)
          obtain ⟨rfl, rfl⟩ := hQ
          refine W.eq (g2 := F0 m 43 ls [.int (nI (n 0)), .int (nI i)]) rfl ?_
          refine lv_icmp_ge (tgt := 90) hx hb dX1_digest_43 (by decide) (fun h9 => absurd h9 (nI_ge hi_i hn.h0)) (fun _ => ?_)
          refine lv_iconst (v := 0) hx hb dX1_digest_46 (by decide) ?_
          refine lv_istore_n (lv' := [(2, .int 0), (1, .int (nI i)), (0, .ref ax)]) hx hb dX1_digest_47 rfl hl (by decide) rfl (fun ls hl => ?_)
          have lp_18 : ∀ (d_19 q : Nat) (H : Heap) (locs : List Loc) (ls : Array Slot), q + d_19 = 12 → va_S (fA (xF ax ap la n) sz) s.heap H locs → mAt g ax (.inr (0, [.ref (la.1 0 0), .ref ap, .int (xi 0), .int (xi 1), .int (xi 2), .int (xi 3), .int (xi 4), .int (xi 5), .int (xi 6), .long (dRow (cOfF fd ld (n 2) i) (dFlds (cOfF fd ld (n 2)) (fun i => (cDayB (n 0) fd i 25 2 20).1) (dRow (cMany sc ld n xi) 58204 20) i) q)])) H → mAt g ap (.inl (g.2.1 0, 4, .inl pd)) H → cw g (fA (xF ax ap la n) sz) la (sc, sw, ar, fd, tr, ld, n) H → lv_has ls 3 [(2, .int (nI q)), (1, .int (nI i)), (0, .ref ax)] → W p l ev (mR 9 3800 27300) s m ([.ref ax] : List Value).toArray below meth c H locs (110 * i) (1000 * i) (MQ below (mQ (fA (xF ax ap la n) sz) (fun Hp rv Hq => rv = some (.long (dEnd (dRows (cOfG ar pd) 4 (dRows (cOfT tr) 4 (dRows (cOfL ld) 7 (dFlds (cOfF fd ld (n 2)) (fun i => (cDayB (n 0) fd i 25 2 20).1) (dRow (cMany sc ld n xi) 58204 20) (n 0)) (n 2)) (n 1)) 4) (n 2) (cCrushedIn n (scCp sc, 0, arCp ar, fd, tr, ld) (n 2 - 1) 40) (cStopsIn n (scCp sc, 0, arCp ar, fd, tr, ld) 40) (cOrd n (scCp sc, 0, arCp ar, fd, tr, ld) 20 3).1)) ∧ xw g (fA (xF ax ap la n) sz) ax ap la (sc, sw, ar, fd, tr, ld, n) xi (dEnd (dRows (cOfG ar pd) 4 (dRows (cOfT tr) 4 (dRows (cOfL ld) 7 (dFlds (cOfF fd ld (n 2)) (fun i => (cDayB (n 0) fd i 25 2 20).1) (dRow (cMany sc ld n xi) 58204 20) (n 0)) (n 2)) (n 1)) 4) (n 2) (cCrushedIn n (scCp sc, 0, arCp ar, fd, tr, ld) (n 2 - 1) 40) (cStopsIn n (scCp sc, 0, arCp ar, fd, tr, ld) 40) (cOrd n (scCp sc, 0, arCp ar, fd, tr, ld) 20 3).1) pd Hq)) ([.ref ax] : List Value).toArray s 3800 27300 (fA (xF ax ap la n) sz)) (F0 m 48 ls []) := by
            intro d_19
            induction d_19 with
            | zero =>
              intro q H locs ls hid hS h_x h_p hw hl
              obtain rfl : 12 = q := by omega
              refine lv_iload_n hx hb dX1_digest_48 rfl (lv_at hl 0 rfl) ?_
              refine lv_bipush (v := 11) hx hb dX1_digest_49 (by decide) ?_
              refine lv_icmp_gt (tgt := 70) hx hb dX1_digest_51 (by decide) (fun _ => ?_) (fun h9 => absurd (by decide) h9)
              refine lv_aload_n hx hb dX1_digest_70 rfl (lv_at hl 2 rfl) ?_
              refine lv_aload_n hx hb dX1_digest_71 rfl (lv_at hl 2 rfl) ?_
              refine lv_iload_n hx hb dX1_digest_72 rfl (lv_at hl 1 rfl) ?_
              refine lv_bipush (v := 20) hx hb dX1_digest_73 (by decide) ?_
              refine lv_bipush (v := 25) hx hb dX1_digest_75 (by decide) ?_
              refine lv_iconst (v := 2) hx hb dX1_digest_77 (by decide) ?_
              have hSb := hS
              refine kV fx (m_X_dayNow l g _ ax ap la sc sw ar fd tr ld n xi (dRow (cOfF fd ld (n 2) i) (dFlds (cOfF fd ld (n 2)) (fun i => (cDayB (n 0) fd i 25 2 20).1) (dRow (cMany sc ld n xi) 58204 20) i) 12) pd hn hv i 20 25 2 hi_i (by decide)) (lw_V q293 q295 qs4 q50 q296) hdX1_dayNow ⟨(Nat.le_of_ble_eq_true rfl), (Nat.le_of_ble_eq_true rfl)⟩ ⟨(by show 110 * i + 110 ≤ 3800; omega), (by show 1000 * i + 1000 ≤ 27300; omega)⟩ hl.1 hS tfX1.2.1 h_x rfl (Nat.le_of_ble_eq_true rfl) (⟨rfl, (xw.weaken ⟨hw, h_x, h_p, inx, inp, nxp, nfx, nfp⟩ fx.2.2.2.2.2.1)⟩) (fun q h9 => hAs q (Nat.le_trans hS.1 h9)) dX1_digest_78 (fun rv9 H locs hQ hz9 hk9 hS => ?_)
              obtain rfl := hQ
              replace h_x := h_x.kept (hk9 _ h_x.lt (Nat.not_le.mpr h_x.lt))
              replace h_p := h_p.kept (hk9 _ h_p.lt (Nat.not_le.mpr h_p.lt))
              replace hw : cw g (fA (xF ax ap la n) sz) la (sc, sw, ar, fd, tr, ld, n) H := cw.kept hw (fun q h9 _ => hk9 q h9 (Nat.not_le.mpr h9))
              refine W.eq (g2 := F0 m 81 ls [.int ((cDayB (n 0) fd i 25 2 20).1), .ref ax]) rfl ?_
              have hbk := xw.back (show xw g (fA (xF ax ap la n) sz) ax ap la (sc, sw, ar, fd, tr, ld, n) xi (dRow (cOfF fd ld (n 2) i) (dFlds (cOfF fd ld (n 2)) (fun i => (cDayB (n 0) fd i 25 2 20).1) (dRow (cMany sc ld n xi) 58204 20) i) 12) pd H from ⟨hw, h_x, h_p, inx, inp, nxp, nfx, nfp⟩) (fun q h9 => hAs q (Nat.le_trans hS.1 h9))
              refine kV fx (m_X_add l g _ ax ap la sc sw ar fd tr ld n xi (dRow (cOfF fd ld (n 2) i) (dFlds (cOfF fd ld (n 2)) (fun i => (cDayB (n 0) fd i 25 2 20).1) (dRow (cMany sc ld n xi) 58204 20) i) 12) pd ((cDayB (n 0) fd i 25 2 20).1)) (lw_V q277 q279 qs1 q50 q280) hdX1_add ⟨(Nat.le_of_ble_eq_true rfl), (Nat.le_of_ble_eq_true rfl)⟩ ⟨(by show 110 * i + 110 + 0 ≤ 3800; omega), (by show 1000 * i + 1000 + 0 ≤ 27300; omega)⟩ hl.1 hS tfX1.2.1 h_x rfl (Nat.le_of_ble_eq_true rfl) (⟨rfl, (xw.weaken ⟨hw, h_x, h_p, inx, inp, nxp, nfx, nfp⟩ fx.2.2.2.2.2.1)⟩) (fun q h9 => hbk q h9) dX1_digest_81 (fun rv9 H locs hQ hz9 hk9 hS => ?_)
              obtain ⟨rfl, hxw9⟩ := hQ
              replace hxw9 := hxw9.weaken hbk
              obtain ⟨hw, h_x, h_p, inx, inp, nxp, nfx, nfp⟩ := hxw9
              refine W.eq (g2 := F0 m 84 ls []) rfl ?_
              refine lv_iinc (v := nI (i + 1)) (lv' := [(1, .int (nI (i + 1))), (2, .int (nI 12)), (0, .ref ax)]) hx hb dX1_digest_84 hl (k := 1) rfl (nI_1 _) (by decide) rfl (fun ls hl => ?_)
              refine lv_goto (tgt := 32) hx hb dX1_digest_87 (by decide) ?_
              refine W.widen (k := 110 * (i + 1)) (n := 1000 * (i + 1)) (by omega) (by omega) ?_
              exact ih (i + 1) H locs ls (by omega) hS h_x h_p hw (lv_sub hl [0, 2] rfl)
            | succ d_19 ih =>
              intro q H locs ls hid hS h_x h_p hw hl
              have hi_q : q < 12 := by omega
              refine lv_iload_n hx hb dX1_digest_48 rfl (lv_at hl 0 rfl) ?_
              refine lv_bipush (v := 11) hx hb dX1_digest_49 (by decide) ?_
              refine lv_icmp_gt (tgt := 70) hx hb dX1_digest_51 (by decide) (fun h9 => absurd h9 (nI_nlt (a := 11) (Nat.le_of_lt_succ hi_q) (by decide))) (fun _ => ?_)
              refine lv_aload_n hx hb dX1_digest_54 rfl (lv_at hl 2 rfl) ?_
              refine lv_aload_n hx hb dX1_digest_55 rfl (lv_at hl 2 rfl) ?_
              refine lv_iload_n hx hb dX1_digest_56 rfl (lv_at hl 1 rfl) ?_
              refine lv_iload_n hx hb dX1_digest_57 rfl (lv_at hl 0 rfl) ?_
              refine kV fx (m_X_ofFieldNow l g ax ap la sc sw ar fd tr ld n xi (dRow (cOfF fd ld (n 2) i) (dFlds (cOfF fd ld (n 2)) (fun i => (cDayB (n 0) fd i 25 2 20).1) (dRow (cMany sc ld n xi) 58204 20) i) q) pd hn i hi_i q hi_q) (lw_V q282 q284 qs2 q50 q285) hdX1_ofFieldNow ⟨(Nat.le_of_ble_eq_true rfl), (Nat.le_of_ble_eq_true rfl)⟩ ⟨(by show 110 * i + 0 ≤ 3800; omega), (by show 1000 * i + 0 ≤ 27300; omega)⟩ hl.1 hS tfX1.2.1 h_x rfl (Nat.le_of_ble_eq_true rfl) (xw.weaken ⟨hw, h_x, h_p, inx, inp, nxp, nfx, nfp⟩ fx.2.2.2.2.2.1) (fun _ h => h.elim) dX1_digest_58 (fun rv9 H locs hQ hz9 hk9 hS => ?_)
              obtain ⟨rfl, rfl⟩ := hQ
              refine W.eq (g2 := F0 m 61 ls [.int (cOfF fd ld (n 2) i q), .ref ax]) rfl ?_
              have hbk := xw.back (show xw g (fA (xF ax ap la n) sz) ax ap la (sc, sw, ar, fd, tr, ld, n) xi (dRow (cOfF fd ld (n 2) i) (dFlds (cOfF fd ld (n 2)) (fun i => (cDayB (n 0) fd i 25 2 20).1) (dRow (cMany sc ld n xi) 58204 20) i) q) pd H from ⟨hw, h_x, h_p, inx, inp, nxp, nfx, nfp⟩) (fun q h9 => hAs q (Nat.le_trans hS.1 h9))
              refine kV fx (m_X_add l g _ ax ap la sc sw ar fd tr ld n xi (dRow (cOfF fd ld (n 2) i) (dFlds (cOfF fd ld (n 2)) (fun i => (cDayB (n 0) fd i 25 2 20).1) (dRow (cMany sc ld n xi) 58204 20) i) q) pd (cOfF fd ld (n 2) i q)) (lw_V q277 q279 qs1 q50 q280) hdX1_add ⟨(Nat.le_of_ble_eq_true rfl), (Nat.le_of_ble_eq_true rfl)⟩ ⟨(by show 110 * i + 0 ≤ 3800; omega), (by show 1000 * i + 0 ≤ 27300; omega)⟩ hl.1 hS tfX1.2.1 h_x rfl (Nat.le_of_ble_eq_true rfl) (⟨rfl, (xw.weaken ⟨hw, h_x, h_p, inx, inp, nxp, nfx, nfp⟩ fx.2.2.2.2.2.1)⟩) (fun q h9 => hbk q h9) dX1_digest_61 (fun rv9 H locs hQ hz9 hk9 hS => ?_)
              obtain ⟨rfl, hxw9⟩ := hQ
              replace hxw9 := hxw9.weaken hbk
              obtain ⟨hw, h_x, h_p, inx, inp, nxp, nfx, nfp⟩ := hxw9
              refine W.eq (g2 := F0 m 64 ls []) rfl ?_
              refine lv_iinc (v := nI (q + 1)) (lv' := [(2, .int (nI (q + 1))), (1, .int (nI i)), (0, .ref ax)]) hx hb dX1_digest_64 hl (k := 0) rfl (nI_1 _) (by decide) rfl (fun ls hl => ?_)
              refine lv_goto (tgt := 48) hx hb dX1_digest_67 (by decide) ?_
              exact ih (q + 1) H locs ls (by omega) hS h_x h_p hw (lv_sub hl [0, 1, 2] rfl)
          exact lp_18 (12 - 0) 0 H locs ls (by omega) hS h_x h_p hw (lv_sub hl [0, 1, 2] rfl)
      refine W.widen (k := 110 * 0) (n := 1000 * 0) (by omega) (by omega) ?_
      exact lp_3 (n 0 - 0) 0 H locs ls (by omega) hS h_x h_p hw (lv_sub hl [0, 1] rfl)
    | succ d_2 ih =>
      intro q H locs ls hid hS h_x h_p hw hl
      have hi_q : q < 20 := by omega
      refine lv_iload_n hx hb dX1_digest_9 rfl (lv_at hl 0 rfl) ?_
      refine lv_bipush (v := 19) hx hb dX1_digest_10 (by decide) ?_
      refine lv_icmp_gt (tgt := 30) hx hb dX1_digest_12 (by decide) (fun h9 => absurd h9 (nI_nlt (a := 19) (Nat.le_of_lt_succ hi_q) (by decide))) (fun _ => ?_)
      refine lv_aload_n hx hb dX1_digest_15 rfl (lv_at hl 1 rfl) ?_
      refine lv_aload_n hx hb dX1_digest_16 rfl (lv_at hl 1 rfl) ?_
      refine lv_iload_n hx hb dX1_digest_17 rfl (lv_at hl 0 rfl) ?_
      refine kV fx (m_X_manyNow l g ax ap la sc sw ar fd tr ld n xi (dRow (cMany sc ld n xi) 58204 q) pd hn q hi_q) (lw_V q249 q251 qs0 q50 q252) hdX1_manyNow ⟨(Nat.le_of_ble_eq_true rfl), (Nat.le_of_ble_eq_true rfl)⟩ ⟨(Nat.le_of_ble_eq_true rfl), (Nat.le_of_ble_eq_true rfl)⟩ hl.1 hS tfX1.2.1 h_x rfl (Nat.le_of_ble_eq_true rfl) (xw.weaken ⟨hw, h_x, h_p, inx, inp, nxp, nfx, nfp⟩ fx.2.2.2.2.2.1) (fun _ h => h.elim) dX1_digest_18 (fun rv9 H locs hQ hz9 hk9 hS => ?_)
      obtain ⟨rfl, rfl⟩ := hQ
      refine W.eq (g2 := F0 m 21 ls [.int (cMany sc ld n xi q), .ref ax]) rfl ?_
      have hbk := xw.back (show xw g (fA (xF ax ap la n) sz) ax ap la (sc, sw, ar, fd, tr, ld, n) xi (dRow (cMany sc ld n xi) 58204 q) pd H from ⟨hw, h_x, h_p, inx, inp, nxp, nfx, nfp⟩) (fun q h9 => hAs q (Nat.le_trans hS.1 h9))
      refine kV fx (m_X_add l g _ ax ap la sc sw ar fd tr ld n xi (dRow (cMany sc ld n xi) 58204 q) pd (cMany sc ld n xi q)) (lw_V q277 q279 qs1 q50 q280) hdX1_add ⟨(Nat.le_of_ble_eq_true rfl), (Nat.le_of_ble_eq_true rfl)⟩ ⟨(Nat.le_of_ble_eq_true rfl), (Nat.le_of_ble_eq_true rfl)⟩ hl.1 hS tfX1.2.1 h_x rfl (Nat.le_of_ble_eq_true rfl) (⟨rfl, (xw.weaken ⟨hw, h_x, h_p, inx, inp, nxp, nfx, nfp⟩ fx.2.2.2.2.2.1)⟩) (fun q h9 => hbk q h9) dX1_digest_21 (fun rv9 H locs hQ hz9 hk9 hS => ?_)
      obtain ⟨rfl, hxw9⟩ := hQ
      replace hxw9 := hxw9.weaken hbk
      obtain ⟨hw, h_x, h_p, inx, inp, nxp, nfx, nfp⟩ := hxw9
      refine W.eq (g2 := F0 m 24 ls []) rfl ?_
      refine lv_iinc (v := nI (q + 1)) (lv' := [(1, .int (nI (q + 1))), (0, .ref ax)]) hx hb dX1_digest_24 hl (k := 0) rfl (nI_1 _) (by decide) rfl (fun ls hl => ?_)
      refine lv_goto (tgt := 9) hx hb dX1_digest_27 (by decide) ?_
      exact ih (q + 1) H locs ls (by omega) hS h_x h_p hw (lv_sub hl [0, 1] rfl)
  exact lp_1 (20 - 0) 0 H locs ls (by omega) hS h_x h_p hw (lv_sub hl [0, 1] rfl)

theorem nA000 : nA 0 0 0 = fun _ => 0 := by
  funext k
  match k with
  | 0 => rfl
  | 1 => rfl
  | 2 => rfl
  | k + 3 => rfl
set_option maxHeartbeats 4000000 in
theorem m_X_init (l : Launch) (g : GT) (ax sz : Nat) (hax : bA g ax) : Cn l g yX1_init cX1_init 1 (none) 5 8 47 [.ref ax] (fA (fun q => q = ax) sz) (fun H => sz = H.size ∧ mAt g ax (.inr (0, [.null, .null, .int 0, .int 0, .int 0, .int 0, .int 0, .int 0, .int 0, .long 0])) H) (fun Hp rv Hq => rv = none ∧ ∃ (la : LT) (ap : Nat), xw g (fA (fun q => q = ax) sz) ax ap la C0 (fun _ => 0) 0 (fun _ => 0) Hq) := by
  refine Cn.start (plainFor_of_name (by decide +kernel)) (Nat.le_of_ble_eq_true rfl) ?_
  intro p ev s m below meth c ls H locs hH hx hb hr hts hown hlocks hml hnm hK hP hS hl
  obtain ⟨hsz, h_x⟩ := hP
  have hszs : sz = s.heap.size := by rw [hsz, hH]
  have hAs : ∀ q, s.heap.size ≤ q → (fA (fun q => q = ax) sz) q := fun q h => Or.inr (by rw [hszs]; exact h)
  have hAb : ∀ q, (fA (fun q => q = ax) sz) q → bA g q := fun q h => h.elim (fun h => by rw [h]; exact hax) (fun h => Nat.le_trans hK.2.2.sz (by rw [← hszs]; exact h))
  have fx : Fx p s m ([.ref ax] : List Value).toArray c cX1_init RX1 g (fA (fun q => q = ax) sz) 1 := ⟨hx, hb, hts, hown, hK, hAb, hml⟩
  have hl : lv_has ls 1 [(0, .ref ax)] := hl
  refine lv_aload_n hx hb dX1_init_0 rfl (lv_at hl 0 rfl) ?_
  refine W.objInit hx hb hown (hts _ q85) (hts _ q86) (hts _ q87) rfl (by rw [hml]; exact hl.1) rfl dX1_init_1 (Nat.le_of_ble_eq_true rfl) (Nat.le_of_ble_eq_true rfl) ?_
  refine W.eq (g2 := F0 m 4 ls []) rfl ?_
  refine lv_aload_n hx hb dX1_init_4 rfl (lv_at hl 0 rfl) ?_
  refine mnew fx [.null, .null, .null, .null, .null, .null, .int 0, .int 0, .int 0, .int 0, .int 0, .int 0, .int 0, .int 0, .int 0, .int 0, .int 0, .int 0, .int 0, .int 0, .int 0, .long 0] tfX2 q88 q89 q51 hS dv_X2 ⟨(Nat.le_of_ble_eq_true rfl), (Nat.le_of_ble_eq_true rfl)⟩ dX1_init_5 (fun an_2 H ean_2 hloan_2 hat hz hoq hS => ?_)
  have ne_3 : ax ≠ an_2 := Nat.ne_of_lt (by rw [ean_2]; exact h_x.lt)
  replace h_x := h_x.kept (hoq _ (by rw [ean_2]; exact h_x.lt))
  have inan_2 := hAs an_2 hloan_2
  have hn_1 : mAt g an_2 (.inr (1, [.null, .null, .null, .null, .null, .null, .int 0, .int 0, .int 0, .int 0, .int 0, .int 0, .int 0, .int 0, .int 0, .int 0, .int 0, .int 0, .int 0, .int 0, .int 0, .long 0])) H := hat
  refine lv_dup hx hb dX1_init_8 rfl ?_
  have hbk : ∀ q, fA (fun q => q = an_2) H.size q → (fA (fun q => q = ax) sz) q := fun q h9 => h9.elim (fun h8 => by rw [h8]; exact inan_2) (fun h8 => hAs q (Nat.le_trans hS.1 h8))
  have hlt_4 := h_x.lt
  have hSb := hS
  refine kIN fx (m_W_init l g an_2 _ (fx.2.2.2.2.2.1 _ inan_2)) q92 q51 q90 q91 rfl hdX2_init ⟨(Nat.le_of_ble_eq_true rfl), (Nat.le_of_ble_eq_true rfl)⟩ ⟨(Nat.le_of_ble_eq_true rfl), (Nat.le_of_ble_eq_true rfl)⟩ hl.1 hS rfl (Nat.le_of_ble_eq_true rfl) (⟨rfl, hn_1⟩) (fun q h9 => hbk q h9) dX1_init_9 (fun rv9 H locs hQ hz9 hk9 hS => ?_)
  obtain ⟨rfl, lb, hb0, hcap0, hwm9⟩ := hQ
  replace h_x := h_x.kept (hk9 _ h_x.lt (fun h9 => h9.elim (fun h8 => ne_3 h8) (Nat.not_le.mpr h_x.lt)))
  have nin_5 : ∀ q, cF lb (nA 0 0 0) q → q ≠ ax := fun q h9 => ((cw.begin hwm9).1.ft q h9).elim (fun h8 => by rw [h8]; exact Ne.symm ne_3) (fun h8 => Nat.ne_of_gt (Nat.lt_of_lt_of_le hlt_4 h8))
  have hwm : cw g (fA (fun q => q = ax) sz) lb (scI, 0, (fun _ _ => 0), (fun _ _ => 0), (fun _ _ => 0), (fun _ _ => 0), (nA 0 0 0)) H := cw.begin (cw.weaken hwm9 hbk)
  refine W.eq (g2 := F0 m 12 ls [.ref (lb.1 0 0), .ref ax]) (by rw [hb0]; rfl) ?_
  refine mputF fx hnm tfX1 h_x hS (Or.inl rfl) 0 (by decide) q209 (fun _ h => h) rfl rfl rfl rfl (Nat.le_of_ble_eq_true rfl) dX1_init_12 (fun H locs hat hz hoq hS => ?_)
  replace h_x : mAt g ax (.inr (0, [.ref (lb.1 0 0), .null, .int 0, .int 0, .int 0, .int 0, .int 0, .int 0, .int 0, .long 0])) H := hat
  replace hwm : cw g (fA (fun q => q = ax) sz) lb (scI, 0, (fun _ _ => 0), (fun _ _ => 0), (fun _ _ => 0), (fun _ _ => 0), (nA 0 0 0)) H := cw.kept hwm (fun q h9 hf9 => hoq _ (nin_5 q hf9))
  refine lv_aload_n hx hb dX1_init_15 rfl (lv_at hl 0 rfl) ?_
  refine lv_iconst (v := 4) hx hb dX1_init_16 (by decide) ?_
  refine mnewa fx q208 hS 4 rfl (by decide) ⟨(Nat.le_of_ble_eq_true rfl), (Nat.le_of_ble_eq_true rfl)⟩ dX1_init_17 (fun an_7 H ean_7 hloan_7 hat hz hoq hS => ?_)
  have ne_8 : ax ≠ an_7 := Nat.ne_of_lt (by rw [ean_7]; exact h_x.lt)
  replace h_x := h_x.kept (hoq _ (by rw [ean_7]; exact h_x.lt))
  have nin_9 : ∀ q, cF lb (nA 0 0 0) q → q ≠ an_7 := fun q h9 => Nat.ne_of_lt (by rw [ean_7]; exact hwm.1.ftlt q h9)
  replace hwm : cw g (fA (fun q => q = ax) sz) lb (scI, 0, (fun _ _ => 0), (fun _ _ => 0), (fun _ _ => 0), (fun _ _ => 0), (nA 0 0 0)) H := cw.kept hwm (fun q h9 _ => hoq q (by rw [ean_7]; exact h9))
  have inan_7 := hAs an_7 hloan_7
  have hn_6 : mAt g an_7 (.inl (g.2.1 0, 4, .inl (fun _ => 0))) H := hat
  refine mputF fx hnm tfX1 h_x hS (Or.inl rfl) 1 (by decide) q210 (fun _ h => h) rfl rfl rfl rfl (Nat.le_of_ble_eq_true rfl) dX1_init_19 (fun H locs hat hz hoq hS => ?_)
  replace hn_6 := hn_6.kept (hoq _ (Ne.symm ne_8))
  replace h_x : mAt g ax (.inr (0, [.ref (lb.1 0 0), .ref an_7, .int 0, .int 0, .int 0, .int 0, .int 0, .int 0, .int 0, .long 0])) H := hat
  replace hwm : cw g (fA (fun q => q = ax) sz) lb (scI, 0, (fun _ _ => 0), (fun _ _ => 0), (fun _ _ => 0), (fun _ _ => 0), (nA 0 0 0)) H := cw.kept hwm (fun q h9 hf9 => hoq _ (nin_5 q hf9))
  exact rv hx hb hr hlocks hS (⟨rfl, lb, an_7, cw.congr hwm (fun _ _ => rfl) (fun _ _ => rfl) (fun k hk => by match k, hk with | 0, _ => rfl | 1, _ => rfl | 2, _ => rfl | k + 3, hk => omega) (fun _ _ _ _ => rfl) (fun _ _ _ _ => rfl) (fun _ _ _ _ => rfl), h_x, hn_6, (Or.inl rfl), inan_7, ne_8, (fun q h9 => nin_5 q (by rw [nA000]; exact h9)), (fun q h9 => nin_9 q (by rw [nA000]; exact h9))⟩) ⟨(Nat.le_of_ble_eq_true rfl), (Nat.le_of_ble_eq_true rfl)⟩ dX1_init_22

