/-! THE CHECKS -/
set_option maxRecDepth 100000

set_option maxHeartbeats 4000000 in
theorem m_require (l : Launch) (g : GT) (z : Int32) (hz0 : ¬ z = 0) : Cn l g yX1_require cX1_require 1 (none) 0 0 0 [.int z] (fun _ => False) (fun _ => True) (fun Hp rv Hq => Hp = Hq ∧ rv = none) := by
  refine Cn.start (plainFor_of_name (by decide +kernel)) (Nat.le_of_ble_eq_true rfl) ?_
  intro p ev s m below meth c ls H locs hH hx hb hr hts hown hlocks hml hnm hK hP hS hl
  have fx : Fx p s m ([.int z] : List Value).toArray c cX1_require RX1 g (fun _ => False) 1 := ⟨hx, hb, hts, hown, hK, fun _ h => h.elim, hml⟩
  have hl : lv_has ls 1 [(0, .int z)] := hl
  refine lv_iload_n hx hb dX1_require_0 rfl (lv_at hl 0 rfl) ?_
  refine lv_if_ne (tgt := 12) hx hb dX1_require_1 (by decide) (fun _ => ?_) (fun h9 => absurd h9 hz0)
  exact rv hx hb hr hlocks hS (⟨hH.symm, rfl⟩) ⟨(Nat.le_of_ble_eq_true rfl), (Nat.le_of_ble_eq_true rfl)⟩ dX1_require_12

set_option maxHeartbeats 4000000 in
theorem t_require (l : Launch) (hst : l.stackTraces = false) (g : GT) (z : Int32) (hz0 : z = 0) : Tn l g yX1_require cX1_require 1 (none) 6 [.int z] "java/lang/IllegalArgumentException" (fun _ => True) := by
  refine Tn.start (by decide +kernel) (Nat.le_of_ble_eq_true rfl) ?_
  intro p ev s m below meth c ls H locs hH hx hb hts hown hlocks hml hex hK hP hS hl
  have fx : Fx p s m ([.int z] : List Value).toArray c cX1_require RX1 g (fun _ => False) 1 := ⟨hx, hb, hts, hown, hK, fun _ h => h.elim, hml⟩
  have hl : lv_has ls 1 [(0, .int z)] := hl
  refine lv_iload_n hx hb dX1_require_0 rfl (lv_at hl 0 rfl) ?_
  refine lv_if_ne (tgt := 12) hx hb dX1_require_1 (by decide) (fun h9 => absurd hz0 h9) (fun _ => ?_)
  exact tThrow fx hst (by decide +kernel) q726 q63 hatA hatAg hS hl.1 dX1_require_4 dX1_require_7 dX1_require_8 dX1_require_11 hex (Nat.le_of_ble_eq_true rfl) (Nat.le_of_ble_eq_true rfl) (Nat.le_of_ble_eq_true rfl) (Nat.le_of_ble_eq_true rfl) hlocks (Nat.le_of_ble_eq_true rfl) (Nat.le_of_ble_eq_true rfl)

set_option maxHeartbeats 4000000 in
theorem m_requireState (l : Launch) (g : GT) (z : Int32) (hz0 : ¬ z = 0) : Cn l g yX1_requireState cX1_requireState 1 (none) 0 0 0 [.int z] (fun _ => False) (fun _ => True) (fun Hp rv Hq => Hp = Hq ∧ rv = none) := by
  refine Cn.start (plainFor_of_name (by decide +kernel)) (Nat.le_of_ble_eq_true rfl) ?_
  intro p ev s m below meth c ls H locs hH hx hb hr hts hown hlocks hml hnm hK hP hS hl
  have fx : Fx p s m ([.int z] : List Value).toArray c cX1_requireState RX1 g (fun _ => False) 1 := ⟨hx, hb, hts, hown, hK, fun _ h => h.elim, hml⟩
  have hl : lv_has ls 1 [(0, .int z)] := hl
  refine lv_iload_n hx hb dX1_requireState_0 rfl (lv_at hl 0 rfl) ?_
  refine lv_if_ne (tgt := 12) hx hb dX1_requireState_1 (by decide) (fun _ => ?_) (fun h9 => absurd h9 hz0)
  exact rv hx hb hr hlocks hS (⟨hH.symm, rfl⟩) ⟨(Nat.le_of_ble_eq_true rfl), (Nat.le_of_ble_eq_true rfl)⟩ dX1_requireState_12

set_option maxHeartbeats 4000000 in
theorem t_requireState (l : Launch) (hst : l.stackTraces = false) (g : GT) (z : Int32) (hz0 : z = 0) : Tn l g yX1_requireState cX1_requireState 1 (none) 6 [.int z] "java/lang/IllegalStateException" (fun _ => True) := by
  refine Tn.start (by decide +kernel) (Nat.le_of_ble_eq_true rfl) ?_
  intro p ev s m below meth c ls H locs hH hx hb hts hown hlocks hml hex hK hP hS hl
  have fx : Fx p s m ([.int z] : List Value).toArray c cX1_requireState RX1 g (fun _ => False) 1 := ⟨hx, hb, hts, hown, hK, fun _ h => h.elim, hml⟩
  have hl : lv_has ls 1 [(0, .int z)] := hl
  refine lv_iload_n hx hb dX1_requireState_0 rfl (lv_at hl 0 rfl) ?_
  refine lv_if_ne (tgt := 12) hx hb dX1_requireState_1 (by decide) (fun h9 => absurd hz0 h9) (fun _ => ?_)
  exact tThrow fx hst (by decide +kernel) q744 q64 hatS hatSg hS hl.1 dX1_requireState_4 dX1_requireState_7 dX1_requireState_8 dX1_requireState_11 hex (Nat.le_of_ble_eq_true rfl) (Nat.le_of_ble_eq_true rfl) (Nat.le_of_ble_eq_true rfl) (Nat.le_of_ble_eq_true rfl) hlocks (Nat.le_of_ble_eq_true rfl) (Nat.le_of_ble_eq_true rfl)

set_option maxHeartbeats 4000000 in
theorem m_requireIndex (l : Launch) (g : GT) (z y : Int32) (h0 : ¬ z < 0) (h1 : z < y) : Cn l g yX1_requireIndex cX1_requireIndex 2 (none) 0 0 0 [.int z, .int y] (fun _ => False) (fun _ => True) (fun Hp rv Hq => Hp = Hq ∧ rv = none) := by
  refine Cn.start (plainFor_of_name (by decide +kernel)) (Nat.le_of_ble_eq_true rfl) ?_
  intro p ev s m below meth c ls H locs hH hx hb hr hts hown hlocks hml hnm hK hP hS hl
  have fx : Fx p s m ([.int z, .int y] : List Value).toArray c cX1_requireIndex RX1 g (fun _ => False) 2 := ⟨hx, hb, hts, hown, hK, fun _ h => h.elim, hml⟩
  have hl : lv_has ls 2 [(0, .int z), (1, .int y)] := hl
  refine lv_iload_n hx hb dX1_requireIndex_0 rfl (lv_at hl 0 rfl) ?_
  refine lv_if_lt (tgt := 9) hx hb dX1_requireIndex_1 (by decide) (fun h9 => absurd h9 h0) (fun _ => ?_)
  refine lv_iload_n hx hb dX1_requireIndex_4 rfl (lv_at hl 0 rfl) ?_
  refine lv_iload_n hx hb dX1_requireIndex_5 rfl (lv_at hl 1 rfl) ?_
  refine lv_icmp_lt (tgt := 17) hx hb dX1_requireIndex_6 (by decide) (fun _ => ?_) (fun h9 => absurd h1 h9)
  exact rv hx hb hr hlocks hS (⟨hH.symm, rfl⟩) ⟨(Nat.le_of_ble_eq_true rfl), (Nat.le_of_ble_eq_true rfl)⟩ dX1_requireIndex_17

set_option maxHeartbeats 4000000 in
theorem t_requireIndex (l : Launch) (hst : l.stackTraces = false) (g : GT) (z y : Int32) (h : z < 0 ∨ ¬ z < y) : Tn l g yX1_requireIndex cX1_requireIndex 2 (none) 6 [.int z, .int y] "java/lang/IndexOutOfBoundsException" (fun _ => True) := by
  refine Tn.start (by decide +kernel) (Nat.le_of_ble_eq_true rfl) ?_
  intro p ev s m below meth c ls H locs hH hx hb hts hown hlocks hml hex hK hP hS hl
  have fx : Fx p s m ([.int z, .int y] : List Value).toArray c cX1_requireIndex RX1 g (fun _ => False) 2 := ⟨hx, hb, hts, hown, hK, fun _ h => h.elim, hml⟩
  have hl : lv_has ls 2 [(0, .int z), (1, .int y)] := hl
  refine lv_iload_n hx hb dX1_requireIndex_0 rfl (lv_at hl 0 rfl) ?_
  refine lv_if_lt (tgt := 9) hx hb dX1_requireIndex_1 (by decide) (fun c_1 => ?_) (fun c_1 => ?_)
  · skip
    exact tThrow fx hst (by decide +kernel) q699 q60 hatI hatIg hS hl.1 dX1_requireIndex_9 dX1_requireIndex_12 dX1_requireIndex_13 dX1_requireIndex_16 hex (Nat.le_of_ble_eq_true rfl) (Nat.le_of_ble_eq_true rfl) (Nat.le_of_ble_eq_true rfl) (Nat.le_of_ble_eq_true rfl) hlocks (Nat.le_of_ble_eq_true rfl) (Nat.le_of_ble_eq_true rfl)
  · skip
    refine lv_iload_n hx hb dX1_requireIndex_4 rfl (lv_at hl 0 rfl) ?_
    refine lv_iload_n hx hb dX1_requireIndex_5 rfl (lv_at hl 1 rfl) ?_
    refine lv_icmp_lt (tgt := 17) hx hb dX1_requireIndex_6 (by decide) (fun c_2 => ?_) (fun c_2 => ?_)
    · skip
      exact absurd h (fun h9 => h9.elim c_1 (fun h8 => h8 c_2))
    · skip
      exact tThrow fx hst (by decide +kernel) q699 q60 hatI hatIg hS hl.1 dX1_requireIndex_9 dX1_requireIndex_12 dX1_requireIndex_13 dX1_requireIndex_16 hex (Nat.le_of_ble_eq_true rfl) (Nat.le_of_ble_eq_true rfl) (Nat.le_of_ble_eq_true rfl) (Nat.le_of_ble_eq_true rfl) hlocks (Nat.le_of_ble_eq_true rfl) (Nat.le_of_ble_eq_true rfl)

