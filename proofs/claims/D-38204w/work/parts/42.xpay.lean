/-! CANECRUSH: pay, meanSweet -/
set_option maxRecDepth 100000

def cPaySum (pt : Nat → Int32) : Nat → Int64
  | 0 => 0
  | k + 1 => cPaySum pt k + (pt k).toInt64
def cPay (m : Int32) (all : Int64) (pd pt : Nat → Int32) : Nat → (Nat → Int32) × (Nat → Int32) × Int32
  | 0 => (pd, pt, m)
  | k + 1 =>
    let q := cPay m all pd pt k
    let gets := (m.toInt64 * (q.2.1 k).toInt64 / all).toInt32
    (upd q.1 k (q.1 k + gets), upd q.2.1 k 0, q.2.2 - gets)
theorem up_id {α : Type} (f : Nat → α) (k : Nat) : va_up f k (f k) = f := by
  funext j
  unfold va_up
  by_cases h : j = k
  · rw [if_pos h, h]
  · rw [if_neg h]
set_option maxHeartbeats 4000000 in
theorem m_X_pay (l : Launch) (g : GT) (sz ax ap : Nat) (la : LT) (sc : Nat → Int32) (sw : Int64) (ar fd tr ld : Nat → Nat → Int32) (n : CN) (xi : Nat → Int32) (sm : Int64) (pd : Nat → Int32) (z : Int32) (hok : ¬ isFromF 1 9999 z = 0) (hm : ¬ sc 14 < z) (ha : ¬ Op.lcmp (cPaySum (ar 2) 4) 0 ≤ 0) (hnz : cPaySum (ar 2) 4 ≠ 0) : Cn l g yX1_pay cX1_pay 7 ((some .int)) 7 0 0 [.ref ax, .int z] (fA (xF ax ap la n) sz) (fun H => sz = H.size ∧ xw g (bA g) ax ap la (sc, sw, ar, fd, tr, ld, n) xi sm pd H) (fun Hp rv Hq => rv = some (.int (cPay z (cPaySum (ar 2) 4) pd (ar 2) 4).2.2) ∧ xw g (fA (xF ax ap la n) sz) ax ap la (va_up sc 14 (sc 14 - (z - (cPay z (cPaySum (ar 2) 4) pd (ar 2) 4).2.2)), sw, va_up ar 2 (cPay z (cPaySum (ar 2) 4) pd (ar 2) 4).2.1, fd, tr, ld, n) xi sm ((cPay z (cPaySum (ar 2) 4) pd (ar 2) 4).1) Hq) := by
  refine Cn.start (plainFor_of_name (by decide +kernel)) (Nat.le_of_ble_eq_true rfl) ?_
  intro p ev s m below meth c ls H locs hH hx hb hr hts hown hlocks hml hnm hK hP hS hl
  obtain ⟨hsz, hxw⟩ := hP
  have hszs : sz = s.heap.size := by rw [hsz, hH]
  have hAs : ∀ q, s.heap.size ≤ q → (fA (xF ax ap la n) sz) q := fun q h => Or.inr (by rw [hszs]; exact h)
  have hAb : ∀ q, (fA (xF ax ap la n) sz) q → bA g q := fun q h => h.elim (hxw.ft q) (fun h => Nat.le_trans hK.2.2.sz (by rw [← hszs]; exact h))
  obtain ⟨hw, h_x, h_p, inx, inp, nxp, nfx, nfp⟩ := hxw.self sz
  have fx : Fx p s m ([.ref ax, .int z] : List Value).toArray c cX1_pay RX1 g (fA (xF ax ap la n) sz) 7 := ⟨hx, hb, hts, hown, hK, hAb, hml⟩
  have hl : lv_has ls 7 [(0, .ref ax), (1, .int z)] := hl
  refine lv_iconst (v := 1) hx hb dX1_pay_0 (by decide) ?_
  refine lv_sipush (v := 9999) hx hb dX1_pay_1 (by decide) ?_
  refine lv_iload_n hx hb dX1_pay_4 rfl (lv_at hl 1 rfl) ?_
  refine kS fx (m_isFrom l g 1 9999 z) (lw_S q720 q721 q50 q722) hdX1_isFrom ⟨(Nat.le_of_ble_eq_true rfl), (Nat.le_of_ble_eq_true rfl)⟩ ⟨(Nat.le_of_ble_eq_true rfl), (Nat.le_of_ble_eq_true rfl)⟩ hl.1 hS rfl (Nat.le_of_ble_eq_true rfl) trivial (fun _ h => h.elim) dX1_pay_5 (fun rv9 H locs hQ hz9 hk9 hS => ?_)
  obtain ⟨rfl, rfl⟩ := hQ
  refine W.eq (g2 := F0 m 8 ls [.int (isFromF 1 9999 z)]) rfl ?_
  refine kS fx (m_require l g (isFromF 1 9999 z) hok) (lw_S q723 q724 q50 q725) hdX1_require ⟨(Nat.le_of_ble_eq_true rfl), (Nat.le_of_ble_eq_true rfl)⟩ ⟨(Nat.le_of_ble_eq_true rfl), (Nat.le_of_ble_eq_true rfl)⟩ hl.1 hS rfl (Nat.le_of_ble_eq_true rfl) trivial (fun _ h => h.elim) dX1_pay_8 (fun rv9 H locs hQ hz9 hk9 hS => ?_)
  obtain ⟨rfl, rfl⟩ := hQ
  refine W.eq (g2 := F0 m 11 ls []) rfl ?_
  refine lv_lconst (v := 0) hx hb dX1_pay_11 (by decide) ?_
  refine lv_lstore_n (lv' := [(2, .long 0), (0, .ref ax), (1, .int z)]) hx hb dX1_pay_12 rfl hl (by decide) rfl (fun ls hl => ?_)
  refine lv_iconst (v := 0) hx hb dX1_pay_13 (by decide) ?_
  refine lv_istore (lv' := [(4, .int 0), (2, .long 0), (0, .ref ax), (1, .int z)]) hx hb dX1_pay_14 hl (by decide) rfl (fun ls hl => ?_)
  have lpA : ∀ (d_1 i : Nat) (H : Heap) (locs : List Loc) (ls : Array Slot), i + d_1 = 4 → va_S (fA (xF ax ap la n) sz) s.heap H locs → mAt g ax (.inr (0, [.ref (la.1 0 0), .ref ap, .int (xi 0), .int (xi 1), .int (xi 2), .int (xi 3), .int (xi 4), .int (xi 5), .int (xi 6), .long sm])) H → mAt g ap (.inl (g.2.1 0, 4, .inl pd)) H → cw g (fA (xF ax ap la n) sz) la (sc, sw, ar, fd, tr, ld, n) H → lv_has ls 7 [(4, .int (nI i)), (2, .long (cPaySum (ar 2) i)), (0, .ref ax), (1, .int z)] → W p l ev (mR 7 0 0) s m ([.ref ax, .int z] : List Value).toArray below meth c H locs 0 0 (MQ below (mQ (fA (xF ax ap la n) sz) (fun Hp rv Hq => rv = some (.int (cPay z (cPaySum (ar 2) 4) pd (ar 2) 4).2.2) ∧ xw g (fA (xF ax ap la n) sz) ax ap la (va_up sc 14 (sc 14 - (z - (cPay z (cPaySum (ar 2) 4) pd (ar 2) 4).2.2)), sw, va_up ar 2 (cPay z (cPaySum (ar 2) 4) pd (ar 2) 4).2.1, fd, tr, ld, n) xi sm ((cPay z (cPaySum (ar 2) 4) pd (ar 2) 4).1) Hq)) ([.ref ax, .int z] : List Value).toArray s 0 0 (fA (xF ax ap la n) sz)) (F0 m 16 ls []) := by
    intro d_1
    induction d_1 with
    | zero =>
      intro i H locs ls hid hS h_x h_p hw hl
      obtain rfl : 4 = i := by omega
      refine lv_iload hx hb dX1_pay_16 (lv_at hl 0 rfl) ?_
      refine lv_iconst (v := 4) hx hb dX1_pay_18 (by decide) ?_
      refine lv_icmp_ge (tgt := 42) hx hb dX1_pay_19 (by decide) (fun _ => ?_) (fun h9 => absurd (nI_le (Nat.le_refl _) (by decide)) h9)
      refine lv_aload_n hx hb dX1_pay_42 rfl (lv_at hl 2 rfl) ?_
      refine mget fx tfX1 h_x 0 (by decide) q209 (fun _ h => h) (v := .ref (la.1 0 0)) rfl dX1_pay_43 ?_
      refine mgetN fx tfX2 (cw.w hw) 20 (by decide) q160 (fun _ h => h) (v := .int (sc 14)) rfl dX1_pay_46 ?_
      refine lv_iload_n hx hb dX1_pay_49 rfl (lv_at hl 3 rfl) ?_
      refine lv_icmp_lt (tgt := 63) hx hb dX1_pay_50 (by decide) (fun h9 => absurd h9 hm) (fun _ => ?_)
      refine lv_lload_n hx hb dX1_pay_53 rfl (lv_at hl 1 rfl) ?_
      refine lv_lconst (v := 0) hx hb dX1_pay_54 (by decide) ?_
      refine W.lcmp hx hb dX1_pay_55 ?_
      refine lv_if_le (tgt := 63) hx hb dX1_pay_56 (by decide) (fun h9 => absurd h9 ha) (fun _ => ?_)
      refine lv_iconst (v := 1) hx hb dX1_pay_59 (by decide) ?_
      refine lv_goto (tgt := 64) hx hb dX1_pay_60 (by decide) ?_
      refine kS fx (m_requireState l g 1 (by decide)) (lw_S q741 q742 q50 q743) hdX1_requireState ⟨(Nat.le_of_ble_eq_true rfl), (Nat.le_of_ble_eq_true rfl)⟩ ⟨(Nat.le_of_ble_eq_true rfl), (Nat.le_of_ble_eq_true rfl)⟩ hl.1 hS rfl (Nat.le_of_ble_eq_true rfl) trivial (fun _ h => h.elim) dX1_pay_64 (fun rv9 H locs hQ hz9 hk9 hS => ?_)
      obtain ⟨rfl, rfl⟩ := hQ
      refine W.eq (g2 := F0 m 67 ls []) rfl ?_
      refine lv_iload_n hx hb dX1_pay_67 rfl (lv_at hl 3 rfl) ?_
      refine lv_istore (lv' := [(4, .int z), (2, .long (cPaySum (ar 2) 4)), (0, .ref ax), (1, .int z)]) hx hb dX1_pay_68 hl (by decide) rfl (fun ls hl => ?_)
      refine lv_iconst (v := 0) hx hb dX1_pay_70 (by decide) ?_
      refine lv_istore (lv' := [(5, .int 0), (4, .int z), (2, .long (cPaySum (ar 2) 4)), (0, .ref ax), (1, .int z)]) hx hb dX1_pay_71 hl (by decide) rfl (fun ls hl => ?_)
      have lpB : ∀ (d_2 i : Nat) (H : Heap) (locs : List Loc) (ls : Array Slot), i + d_2 = 4 → va_S (fA (xF ax ap la n) sz) s.heap H locs → mAt g ax (.inr (0, [.ref (la.1 0 0), .ref ap, .int (xi 0), .int (xi 1), .int (xi 2), .int (xi 3), .int (xi 4), .int (xi 5), .int (xi 6), .long sm])) H → mAt g ap (.inl (g.2.1 0, 4, .inl ((cPay z (cPaySum (ar 2) 4) pd (ar 2) i).1))) H → cw g (fA (xF ax ap la n) sz) la (sc, sw, va_up ar 2 ((cPay z (cPaySum (ar 2) 4) pd (ar 2) i).2.1), fd, tr, ld, n) H → lv_has ls 7 [(5, .int (nI i)), (4, .int ((cPay z (cPaySum (ar 2) 4) pd (ar 2) i).2.2)), (2, .long (cPaySum (ar 2) 4)), (0, .ref ax), (1, .int z)] → W p l ev (mR 7 0 0) s m ([.ref ax, .int z] : List Value).toArray below meth c H locs 0 0 (MQ below (mQ (fA (xF ax ap la n) sz) (fun Hp rv Hq => rv = some (.int (cPay z (cPaySum (ar 2) 4) pd (ar 2) 4).2.2) ∧ xw g (fA (xF ax ap la n) sz) ax ap la (va_up sc 14 (sc 14 - (z - (cPay z (cPaySum (ar 2) 4) pd (ar 2) 4).2.2)), sw, va_up ar 2 (cPay z (cPaySum (ar 2) 4) pd (ar 2) 4).2.1, fd, tr, ld, n) xi sm ((cPay z (cPaySum (ar 2) 4) pd (ar 2) 4).1) Hq)) ([.ref ax, .int z] : List Value).toArray s 0 0 (fA (xF ax ap la n) sz)) (F0 m 73 ls []) := by
        intro d_2
        induction d_2 with
        | zero =>
          intro i H locs ls hid hS h_x h_p hw hl
          obtain rfl : 4 = i := by omega
          refine lv_iload hx hb dX1_pay_73 (lv_at hl 0 rfl) ?_
          refine lv_iconst (v := 4) hx hb dX1_pay_75 (by decide) ?_
          refine lv_icmp_ge (tgt := 134) hx hb dX1_pay_76 (by decide) (fun _ => ?_) (fun h9 => absurd (nI_le (Nat.le_refl _) (by decide)) h9)
          refine lv_aload_n hx hb dX1_pay_134 rfl (lv_at hl 3 rfl) ?_
          refine mget fx tfX1 h_x 0 (by decide) q209 (fun _ h => h) (v := .ref (la.1 0 0)) rfl dX1_pay_135 ?_
          refine lv_dup hx hb dX1_pay_138 rfl ?_
          refine mgetN fx tfX2 (cw.w hw) 20 (by decide) q160 (fun _ h => h) (v := .int (sc 14)) rfl dX1_pay_139 ?_
          refine lv_iload_n hx hb dX1_pay_142 rfl (lv_at hl 4 rfl) ?_
          refine lv_iload hx hb dX1_pay_143 (lv_at hl 1 rfl) ?_
          refine lv_isub hx hb dX1_pay_145 ?_
          refine lv_isub hx hb dX1_pay_146 ?_
          refine mputN fx tfX2 (cw.w hw) hS (cw.inW hw (by decide)) 20 (by decide) q160 (fun _ h => h) rfl rfl rfl (Nat.le_of_ble_eq_true rfl) dX1_pay_147 (fun H locs hat hz hoq hS => ?_)
          replace h_x := h_x.kept (hoq _ (Ne.symm (nfx _ ⟨0, 0, (by show 0 < 7; decide), rfl⟩)))
          replace h_p := h_p.kept (hoq _ (Ne.symm (nfp _ ⟨0, 0, (by show 0 < 7; decide), rfl⟩)))
          replace hw : cw g (fA (xF ax ap la n) sz) la (va_up sc 14 ((sc 14) - (z - ((cPay z (cPaySum (ar 2) 4) pd (ar 2) 4).2.2))), sw, va_up ar 2 ((cPay z (cPaySum (ar 2) 4) pd (ar 2) 4).2.1), fd, tr, ld, n) H := cw.setW hw hat (fun q _ h9 => hoq q h9)
          refine lv_iload hx hb dX1_pay_150 (lv_at hl 1 rfl) ?_
          exact ri hx hb hr hlocks hS (⟨rfl, hw, h_x, h_p, inx, inp, nxp, nfx, nfp⟩) ⟨(Nat.le_of_ble_eq_true rfl), (Nat.le_of_ble_eq_true rfl)⟩ dX1_pay_152
        | succ d_2 ih =>
          intro i H locs ls hid hS h_x h_p hw hl
          have hi_i : i < 4 := by omega
          refine lv_iload hx hb dX1_pay_73 (lv_at hl 0 rfl) ?_
          refine lv_iconst (v := 4) hx hb dX1_pay_75 (by decide) ?_
          refine lv_icmp_ge (tgt := 134) hx hb dX1_pay_76 (by decide) (fun h9 => absurd h9 (nI_ge (b := 4) hi_i (by decide))) (fun _ => ?_)
          refine lv_iload_n hx hb dX1_pay_79 rfl (lv_at hl 4 rfl) ?_
          refine lv_i2l (v := z.toInt64) hx hb dX1_pay_80 rfl ?_
          refine lv_aload_n hx hb dX1_pay_81 rfl (lv_at hl 3 rfl) ?_
          refine mget fx tfX1 h_x 0 (by decide) q209 (fun _ h => h) (v := .ref (la.1 0 0)) rfl dX1_pay_82 ?_
          refine mgetN fx tfX2 (cw.w hw) 5 (by decide) q131 (fun _ h => h) (v := .ref (la.1 0 6)) rfl dX1_pay_85 ?_
          refine lv_iload hx hb dX1_pay_88 (lv_at hl 0 rfl) ?_
          refine miald fx (cw.ar2 hw) i rfl hi_i (by decide) dX1_pay_90 ?_
          refine lv_i2l (v := (((cPay z (cPaySum (ar 2) 4) pd (ar 2) i).2.1) i).toInt64) hx hb dX1_pay_91 rfl ?_
          refine lv_lmul hx hb dX1_pay_92 ?_
          refine lv_lload_n hx hb dX1_pay_93 rfl (lv_at hl 2 rfl) ?_
          refine lv_ldiv hx hb dX1_pay_94 hnz ?_
          refine lv_l2i (v := ((z.toInt64 * ((((cPay z (cPaySum (ar 2) 4) pd (ar 2) i).2.1) i).toInt64)) / (cPaySum (ar 2) 4)).toInt32) hx hb dX1_pay_95 rfl ?_
          refine lv_istore (lv' := [(6, .int (((z.toInt64 * ((((cPay z (cPaySum (ar 2) 4) pd (ar 2) i).2.1) i).toInt64)) / (cPaySum (ar 2) 4)).toInt32)), (5, .int (nI i)), (4, .int ((cPay z (cPaySum (ar 2) 4) pd (ar 2) i).2.2)), (2, .long (cPaySum (ar 2) 4)), (0, .ref ax), (1, .int z)]) hx hb dX1_pay_96 hl (by decide) rfl (fun ls hl => ?_)
          refine lv_aload_n hx hb dX1_pay_98 rfl (lv_at hl 4 rfl) ?_
          refine mget fx tfX1 h_x 1 (by decide) q210 (fun _ h => h) (v := .ref ap) rfl dX1_pay_99 ?_
          refine lv_iload hx hb dX1_pay_102 (lv_at hl 1 rfl) ?_
          refine lv_dup2_11 hx hb dX1_pay_104 rfl rfl ?_
          refine miald fx h_p i rfl hi_i (by decide) dX1_pay_105 ?_
          refine lv_iload hx hb dX1_pay_106 (lv_at hl 0 rfl) ?_
          refine lv_iadd hx hb dX1_pay_108 ?_
          refine miast fx h_p hS inp i rfl hi_i (by decide) dX1_pay_109 (fun H locs hat hz hoq hS => ?_)
          replace h_x := h_x.kept (hoq _ nxp)
          replace h_p : mAt g ap (.inl (g.2.1 0, 4, .inl (upd ((cPay z (cPaySum (ar 2) 4) pd (ar 2) i).1) i ((((cPay z (cPaySum (ar 2) 4) pd (ar 2) i).1) i) + (((z.toInt64 * ((((cPay z (cPaySum (ar 2) 4) pd (ar 2) i).2.1) i).toInt64)) / (cPaySum (ar 2) 4)).toInt32))))) H := hat
          replace hw : cw g (fA (xF ax ap la n) sz) la (sc, sw, va_up ar 2 ((cPay z (cPaySum (ar 2) 4) pd (ar 2) i).2.1), fd, tr, ld, n) H := cw.kept hw (fun q h9 hf9 => hoq _ (nfp q hf9))
          refine lv_iload hx hb dX1_pay_110 (lv_at hl 2 rfl) ?_
          refine lv_iload hx hb dX1_pay_112 (lv_at hl 0 rfl) ?_
          refine lv_isub hx hb dX1_pay_114 ?_
          refine lv_istore (lv' := [(4, .int (((cPay z (cPaySum (ar 2) 4) pd (ar 2) i).2.2) - (((z.toInt64 * ((((cPay z (cPaySum (ar 2) 4) pd (ar 2) i).2.1) i).toInt64)) / (cPaySum (ar 2) 4)).toInt32))), (6, .int (((z.toInt64 * ((((cPay z (cPaySum (ar 2) 4) pd (ar 2) i).2.1) i).toInt64)) / (cPaySum (ar 2) 4)).toInt32)), (5, .int (nI i)), (2, .long (cPaySum (ar 2) 4)), (0, .ref ax), (1, .int z)]) hx hb dX1_pay_115 hl (by decide) rfl (fun ls hl => ?_)
          refine lv_aload_n hx hb dX1_pay_117 rfl (lv_at hl 4 rfl) ?_
          refine mget fx tfX1 h_x 0 (by decide) q209 (fun _ h => h) (v := .ref (la.1 0 0)) rfl dX1_pay_118 ?_
          refine mgetN fx tfX2 (cw.w hw) 5 (by decide) q131 (fun _ h => h) (v := .ref (la.1 0 6)) rfl dX1_pay_121 ?_
          refine lv_iload hx hb dX1_pay_124 (lv_at hl 2 rfl) ?_
          refine lv_iconst (v := 0) hx hb dX1_pay_126 (by decide) ?_
          refine miast fx (cw.ar2 hw) hS (cw.inW hw (by decide)) i rfl hi_i (by decide) dX1_pay_127 (fun H locs hat hz hoq hS => ?_)
          replace h_x := h_x.kept (hoq _ (Ne.symm (nfx _ ⟨0, 6, (by show 6 < 7; decide), rfl⟩)))
          replace h_p := h_p.kept (hoq _ (Ne.symm (nfp _ ⟨0, 6, (by show 6 < 7; decide), rfl⟩)))
          replace hw : cw g (fA (xF ax ap la n) sz) la (sc, sw, va_up ar 2 (upd ((cPay z (cPaySum (ar 2) 4) pd (ar 2) i).2.1) i 0), fd, tr, ld, n) H := cw.setA2 2 (by decide) hw hat (fun q _ h9 => hoq q h9)
          refine lv_iinc (v := nI (i + 1)) (lv' := [(5, .int (nI (i + 1))), (4, .int (((cPay z (cPaySum (ar 2) 4) pd (ar 2) i).2.2) - (((z.toInt64 * ((((cPay z (cPaySum (ar 2) 4) pd (ar 2) i).2.1) i).toInt64)) / (cPaySum (ar 2) 4)).toInt32))), (6, .int (((z.toInt64 * ((((cPay z (cPaySum (ar 2) 4) pd (ar 2) i).2.1) i).toInt64)) / (cPaySum (ar 2) 4)).toInt32)), (2, .long (cPaySum (ar 2) 4)), (0, .ref ax), (1, .int z)]) hx hb dX1_pay_128 hl (k := 2) rfl (nI_1 _) (by decide) rfl (fun ls hl => ?_)
          refine lv_goto (tgt := 73) hx hb dX1_pay_131 (by decide) ?_
          have e_3 : (.int (((cPay z (cPaySum (ar 2) 4) pd (ar 2) i).2.2) - (((z.toInt64 * ((((cPay z (cPaySum (ar 2) 4) pd (ar 2) i).2.1) i).toInt64)) / (cPaySum (ar 2) 4)).toInt32)) : Value) = .int ((cPay z (cPaySum (ar 2) 4) pd (ar 2) (i + 1)).2.2) := rfl
          rw [e_3] at hl
          exact ih (i + 1) H locs ls (by omega) hS h_x h_p hw (lv_sub hl [0, 1, 3, 4, 5] rfl)
      exact lpB (4 - 0) 0 H locs ls (by omega) hS h_x h_p (by show cw g _ _ (_, _, va_up ar 2 (ar 2), _, _, _, _) _; rw [up_id]; exact hw) (lv_sub hl [0, 1, 2, 3, 4] rfl)
    | succ d_1 ih =>
      intro i H locs ls hid hS h_x h_p hw hl
      have hi_i : i < 4 := by omega
      refine lv_iload hx hb dX1_pay_16 (lv_at hl 0 rfl) ?_
      refine lv_iconst (v := 4) hx hb dX1_pay_18 (by decide) ?_
      refine lv_icmp_ge (tgt := 42) hx hb dX1_pay_19 (by decide) (fun h9 => absurd h9 (nI_ge (b := 4) hi_i (by decide))) (fun _ => ?_)
      refine lv_lload_n hx hb dX1_pay_22 rfl (lv_at hl 1 rfl) ?_
      refine lv_aload_n hx hb dX1_pay_23 rfl (lv_at hl 2 rfl) ?_
      refine mget fx tfX1 h_x 0 (by decide) q209 (fun _ h => h) (v := .ref (la.1 0 0)) rfl dX1_pay_24 ?_
      refine mgetN fx tfX2 (cw.w hw) 5 (by decide) q131 (fun _ h => h) (v := .ref (la.1 0 6)) rfl dX1_pay_27 ?_
      refine lv_iload hx hb dX1_pay_30 (lv_at hl 0 rfl) ?_
      refine miald fx (cw.ar2 hw) i rfl hi_i (by decide) dX1_pay_32 ?_
      refine lv_i2l (v := ((ar 2) i).toInt64) hx hb dX1_pay_33 rfl ?_
      refine lv_ladd hx hb dX1_pay_34 ?_
      refine lv_lstore_n (lv' := [(2, .long ((cPaySum (ar 2) i) + (((ar 2) i).toInt64))), (4, .int (nI i)), (0, .ref ax), (1, .int z)]) hx hb dX1_pay_35 rfl hl (by decide) rfl (fun ls hl => ?_)
      refine lv_iinc (v := nI (i + 1)) (lv' := [(4, .int (nI (i + 1))), (2, .long ((cPaySum (ar 2) i) + (((ar 2) i).toInt64))), (0, .ref ax), (1, .int z)]) hx hb dX1_pay_36 hl (k := 1) rfl (nI_1 _) (by decide) rfl (fun ls hl => ?_)
      refine lv_goto (tgt := 16) hx hb dX1_pay_39 (by decide) ?_
      have e_4 : (.long ((cPaySum (ar 2) i) + (((ar 2) i).toInt64)) : Value) = .long (cPaySum (ar 2) (i + 1)) := rfl
      rw [e_4] at hl
      exact ih (i + 1) H locs ls (by omega) hS h_x h_p hw (lv_sub hl [0, 1, 2, 3] rfl)
  exact lpA (4 - 0) 0 H locs ls (by omega) hS h_x h_p hw (lv_sub hl [0, 1, 2, 3] rfl)

theorem dnan {x : UInt64} (h : FP.val64 x ≠ .nan) : vf_n64 x := sorry
def cMean (sw : Int64) (t : Int32) : UInt64 := if t = 0 then FP.dconst0 else FP.ddiv (FP.l2d sw) (FP.i2d t)
theorem mean_n64 {a : Int64} {b : Int32} (hb : ¬ b = 0) : vf_n64 (FP.ddiv (FP.l2d a) (FP.i2d b)) := sorry
set_option maxHeartbeats 4000000 in
theorem m_X_meanSweet (l : Launch) (g : GT) (ax ap : Nat) (la : LT) (sc : Nat → Int32) (sw : Int64) (ar fd tr ld : Nat → Nat → Int32) (n : CN) (xi : Nat → Int32) (sm : Int64) (pd : Nat → Int32) : Cn l g yX1_meanSweet cX1_meanSweet 3 ((some .double)) 1 0 0 [.ref ax] (fun _ => False) (fun H => xw g (bA g) ax ap la (sc, sw, ar, fd, tr, ld, n) xi sm pd H) (fun Hp rv Hq => Hp = Hq ∧ rv = some (.double (cMean sw (sumI (ar 1) 4)))) := by
  refine Cn.start (plainFor_of_name (by decide +kernel)) (Nat.le_of_ble_eq_true rfl) ?_
  intro p ev s m below meth c ls H locs hH hx hb hr hts hown hlocks hml hnm hK hP hS hl
  have hxw := hP
  obtain ⟨hw, h_x, h_p, inx, inp, nxp, nfx, nfp⟩ := hxw
  have fx : Fx p s m ([.ref ax] : List Value).toArray c cX1_meanSweet RX1 g (fun _ => False) 3 := ⟨hx, hb, hts, hown, hK, fun _ h => h.elim, hml⟩
  have hl : lv_has ls 3 [(0, .ref ax)] := hl
  refine lv_iconst (v := 0) hx hb dX1_meanSweet_0 (by decide) ?_
  refine lv_istore_n (lv' := [(1, .int 0), (0, .ref ax)]) hx hb dX1_meanSweet_1 rfl hl (by decide) rfl (fun ls hl => ?_)
  refine lv_iconst (v := 0) hx hb dX1_meanSweet_2 (by decide) ?_
  refine lv_istore_n (lv' := [(2, .int 0), (1, .int 0), (0, .ref ax)]) hx hb dX1_meanSweet_3 rfl hl (by decide) rfl (fun ls hl => ?_)
  have lp_1 : ∀ (d_2 i : Nat) (H : Heap) (locs : List Loc) (ls : Array Slot), i + d_2 = 4 → va_S (fun _ => False) s.heap H locs → H = s.heap → mAt g ax (.inr (0, [.ref (la.1 0 0), .ref ap, .int (xi 0), .int (xi 1), .int (xi 2), .int (xi 3), .int (xi 4), .int (xi 5), .int (xi 6), .long sm])) H → mAt g ap (.inl (g.2.1 0, 4, .inl pd)) H → cw g (bA g) la (sc, sw, ar, fd, tr, ld, n) H → lv_has ls 3 [(2, .int (nI i)), (1, .int (sumI (ar 1) i)), (0, .ref ax)] → W p l ev (mR 1 0 0) s m ([.ref ax] : List Value).toArray below meth c H locs 0 0 (MQ below (mQ (fun _ => False) (fun Hp rv Hq => Hp = Hq ∧ rv = some (.double (cMean sw (sumI (ar 1) 4))))) ([.ref ax] : List Value).toArray s 0 0 (fun _ => False)) (F0 m 4 ls []) := by
    intro d_2
    induction d_2 with
    | zero =>
      intro i H locs ls hid hS hH h_x h_p hw hl
      obtain rfl : 4 = i := by omega
      refine lv_iload_n hx hb dX1_meanSweet_4 rfl (lv_at hl 0 rfl) ?_
      refine lv_iconst (v := 4) hx hb dX1_meanSweet_5 (by decide) ?_
      refine lv_icmp_ge (tgt := 27) hx hb dX1_meanSweet_6 (by decide) (fun _ => ?_) (fun h9 => absurd (nI_le (Nat.le_refl _) (by decide)) h9)
      refine lv_iload_n hx hb dX1_meanSweet_27 rfl (lv_at hl 1 rfl) ?_
      refine lv_if_ne (tgt := 35) hx hb dX1_meanSweet_28 (by decide) (fun c_3 => ?_) (fun c_3 => ?_)
      · skip
        refine lv_aload_n hx hb dX1_meanSweet_35 rfl (lv_at hl 2 rfl) ?_
        refine mget fx tfX1 h_x 0 (by decide) q209 (fun _ h => h) (v := .ref (la.1 0 0)) rfl dX1_meanSweet_36 ?_
        refine mgetN fx tfX2 (cw.w hw) 21 (by decide) q162 (fun _ h => h) (v := .long sw) rfl dX1_meanSweet_39 ?_
        refine lv_l2d hx hb dX1_meanSweet_42 ?_
        refine lv_iload_n hx hb dX1_meanSweet_43 rfl (lv_at hl 1 rfl) ?_
        refine lv_i2d hx hb dX1_meanSweet_44 ?_
        refine lv_ddiv hx hb dX1_meanSweet_45 (mean_n64 c_3) ?_
        exact rd hx hb hr hlocks hS (⟨hH.symm, by rw [cMean, if_neg c_3]⟩) ⟨(Nat.le_of_ble_eq_true rfl), (Nat.le_of_ble_eq_true rfl)⟩ dX1_meanSweet_46
      · skip
        refine lv_dconst0 hx hb dX1_meanSweet_31 ?_
        refine lv_goto (tgt := 46) hx hb dX1_meanSweet_32 (by decide) ?_
        exact rd hx hb hr hlocks hS (⟨hH.symm, by rw [cMean, if_pos c_3]⟩) ⟨(Nat.le_of_ble_eq_true rfl), (Nat.le_of_ble_eq_true rfl)⟩ dX1_meanSweet_46
    | succ d_2 ih =>
      intro i H locs ls hid hS hH h_x h_p hw hl
      have hi_i : i < 4 := by omega
      refine lv_iload_n hx hb dX1_meanSweet_4 rfl (lv_at hl 0 rfl) ?_
      refine lv_iconst (v := 4) hx hb dX1_meanSweet_5 (by decide) ?_
      refine lv_icmp_ge (tgt := 27) hx hb dX1_meanSweet_6 (by decide) (fun h9 => absurd h9 (nI_ge (b := 4) hi_i (by decide))) (fun _ => ?_)
      refine lv_iload_n hx hb dX1_meanSweet_9 rfl (lv_at hl 1 rfl) ?_
      refine lv_aload_n hx hb dX1_meanSweet_10 rfl (lv_at hl 2 rfl) ?_
      refine mget fx tfX1 h_x 0 (by decide) q209 (fun _ h => h) (v := .ref (la.1 0 0)) rfl dX1_meanSweet_11 ?_
      refine mgetN fx tfX2 (cw.w hw) 4 (by decide) q129 (fun _ h => h) (v := .ref (la.1 0 5)) rfl dX1_meanSweet_14 ?_
      refine lv_iload_n hx hb dX1_meanSweet_17 rfl (lv_at hl 0 rfl) ?_
      refine miald fx (cw.ar1 hw) i rfl hi_i (by decide) dX1_meanSweet_18 ?_
      refine lv_iadd hx hb dX1_meanSweet_19 ?_
      refine lv_istore_n (lv' := [(1, .int ((sumI (ar 1) i) + ((ar 1) i))), (2, .int (nI i)), (0, .ref ax)]) hx hb dX1_meanSweet_20 rfl hl (by decide) rfl (fun ls hl => ?_)
      refine lv_iinc (v := nI (i + 1)) (lv' := [(2, .int (nI (i + 1))), (1, .int ((sumI (ar 1) i) + ((ar 1) i))), (0, .ref ax)]) hx hb dX1_meanSweet_21 hl (k := 1) rfl (nI_1 _) (by decide) rfl (fun ls hl => ?_)
      refine lv_goto (tgt := 4) hx hb dX1_meanSweet_24 (by decide) ?_
      have e_4 : (.int ((sumI (ar 1) i) + ((ar 1) i)) : Value) = .int (sumI (ar 1) (i + 1)) := rfl
      rw [e_4] at hl
      exact ih (i + 1) H locs ls (by omega) hS hH h_x h_p hw (lv_sub hl [0, 1, 2] rfl)
  exact lp_1 (4 - 0) 0 H locs ls (by omega) hS hH h_x h_p hw (lv_sub hl [0, 1, 2] rfl)

