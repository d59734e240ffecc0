/-! LEAVES: Math, the small static methods, and the methods of Field, Load, Truck by one cell -/
set_option maxRecDepth 100000
theorem dv_X1 : ∀ j, j < 10 → defaultValue (tyX1 j) = vp_V [.null, .null, .int 0, .int 0, .int 0, .int 0, .int 0, .int 0, .int 0, .long 0] j := by decide +kernel
theorem dv_X2 : ∀ j, j < 22 → defaultValue (tyX2 j) = vp_V [.null, .null, .null, .null, .null, .null, .int 0, .int 0, .int 0, .int 0, .int 0, .int 0, .int 0, .int 0, .int 0, .int 0, .int 0, .int 0, .int 0, .int 0, .int 0, .long 0] j := by decide +kernel
theorem dv_J2 : ∀ j, j < 3 → defaultValue (tyJ2 j) = vp_V [.int 0, .null, .int 0] j := by decide +kernel
theorem dv_X3 : ∀ j, j < 4 → defaultValue (tyX3 j) = vp_V [.int 0, .null, .null, .int 0] j := by decide +kernel
theorem dv_X4 : ∀ j, j < 22 → defaultValue (tyX4 j) = vp_V [.int 0, .null, .null, .null, .null, .null, .int 0, .int 0, .int 0, .int 0, .int 0, .int 0, .int 0, .int 0, .null, .int 0, .int 0, .int 0, .null, .null, .null, .long 0] j := by decide +kernel
theorem dv_X5 : ∀ j, j < 11 → defaultValue (tyX5 j) = vp_V [.int 0, .int 0, .int 0, .int 0, .int 0, .int 0, .int 0, .int 0, .int 0, .int 0, .int 0] j := by decide +kernel
theorem dv_X6 : ∀ j, j < 11 → defaultValue (tyX6 j) = vp_V [.int 0, .int 0, .int 0, .int 0, .int 0, .int 0, .int 0, .int 0, .int 0, .int 0, .int 0] j := by decide +kernel
theorem dv_X7 : ∀ j, j < 4 → defaultValue (tyX7 j) = vp_V [.int 0, .int 0, .int 0, .int 0] j := by decide +kernel
theorem dv_X8 : ∀ j, j < 4 → defaultValue (tyX8 j) = vp_V [.int 0, .int 0, .int 0, .int 0] j := by decide +kernel
theorem dv_X9 : ∀ j, j < 9 → defaultValue (tyX9 j) = vp_V [.int 0, .int 0, .int 0, .int 0, .int 0, .int 0, .int 0, .int 0, .int 0] j := by decide +kernel
theorem dv_X10 : ∀ j, j < 8 → defaultValue (tyX10 j) = vp_V [.int 0, .int 0, .int 0, .int 0, .int 0, .int 0, .int 0, .int 0] j := by decide +kernel
theorem dv_J17 : ∀ j, j < 1 → defaultValue (tyJ17 j) = vp_V [.int 0] j := by decide +kernel
def bz (x : Int32) : Prop := x = 0 ∨ x = 1
theorem bz_ite (c : Prop) [Decidable c] : bz (if c then (1 : Int32) else 0) := by
  split
  · exact Or.inr rfl
  · exact Or.inl rfl
theorem bz_or {x y : Int32} (hx : bz x) (hy : bz y) : bz (x ||| y) := by
  rcases hx with rfl | rfl <;> rcases hy with rfl | rfl <;> first | exact Or.inl rfl | exact Or.inr rfl
theorem fit_z {x : Int32} (h : bz x) : fits .boolean (.int x) = true := by rcases h with rfl | rfl <;> rfl
theorem nar_z {x : Int32} (h : bz x) : narrow .boolean (.int x) = .int x := by rcases h with rfl | rfl <;> rfl
theorem hdJ12_max : yJ12_max.cls ≠ "java/lang/invoke/MethodHandle" ∧ yJ12_max.cls ≠ "java/lang/invoke/VarHandle" ∧ (parseMethodDescriptor yJ12_max.desc).map (fun d => d.parameters.length) = some 2 := by decide +kernel
theorem hdJ12_min : yJ12_min.cls ≠ "java/lang/invoke/MethodHandle" ∧ yJ12_min.cls ≠ "java/lang/invoke/VarHandle" ∧ (parseMethodDescriptor yJ12_min.desc).map (fun d => d.parameters.length) = some 2 := by decide +kernel
theorem hdX1_isFrom : yX1_isFrom.cls ≠ "java/lang/invoke/MethodHandle" ∧ yX1_isFrom.cls ≠ "java/lang/invoke/VarHandle" ∧ (parseMethodDescriptor yX1_isFrom.desc).map (fun d => d.parameters.length) = some 3 := by decide +kernel
theorem hdX3_isIn : yX3_isIn.cls ≠ "java/lang/invoke/MethodHandle" ∧ yX3_isIn.cls ≠ "java/lang/invoke/VarHandle" ∧ (parseMethodDescriptor yX3_isIn.desc).map (fun d => d.parameters.length) = some 3 := by decide +kernel
def jmax (x y : Int32) : Int32 := let v_2 : Int32 := if x < y then y else x; v_2
set_option maxHeartbeats 4000000 in
theorem m_max (l : Launch) (g : GT) (x y : Int32) : Cn l g yJ12_max cJ12_max 2 ((some .int)) 0 0 0 [.int x, .int y] (fun _ => False) (fun _ => True) (fun Hp rv Hq => Hp = Hq ∧ rv = some (.int (jmax x y))) := by
  refine Cn.start (by decide +kernel) (Nat.le_of_ble_eq_true rfl) ?_
  intro p ev s m below meth c ls H locs hH hx hb hr hts hown hlocks hml hnm hK hP hS hl
  have fx : Fx p s m ([.int x, .int y] : List Value).toArray c cJ12_max RJ12 g (fun _ => False) 2 := ⟨hx, hb, hts, hown, hK, fun _ h => h.elim, hml⟩
  have hl : lv_has ls 2 [(0, .int x), (1, .int y)] := hl
  refine lv_iload_n hx hb dJ12_max_0 rfl (lv_at hl 0 rfl) ?_
  refine lv_iload_n hx hb dJ12_max_1 rfl (lv_at hl 1 rfl) ?_
  have K_3 : ∀ (locs : List Loc) (ls : Array Slot) (v_2 : Int32), v_2 = (if x < y then y else x) → va_S (fun _ => False) s.heap H locs → lv_has ls 2 [(0, .int x), (1, .int y)] → W p l ev (mR 0 0 0) s m ([.int x, .int y] : List Value).toArray below meth c H locs 0 0 (MQ below (mQ (fun _ => False) (fun Hp rv Hq => Hp = Hq ∧ rv = some (.int (jmax x y)))) ([.int x, .int y] : List Value).toArray s 0 0 (fun _ => False)) (F0 m 10 ls [.int v_2]) := by
    intro locs ls v_2 hv_2 hS hl
    exact ri hx hb hr hlocks hS (⟨hH.symm, by subst hv_2; simp only [jmax]⟩) ⟨(Nat.le_of_ble_eq_true rfl), (Nat.le_of_ble_eq_true rfl)⟩ dJ12_max_10
  refine lv_icmp_lt (tgt := 9) hx hb dJ12_max_2 (by decide) (fun c_1 => ?_) (fun c_1 => ?_)
  · skip
    refine lv_iload_n hx hb dJ12_max_9 rfl (lv_at hl 1 rfl) ?_
    exact K_3 _ _ y (by rw [if_pos c_1]) hS (lv_sub hl [0, 1] rfl)
  · skip
    refine lv_iload_n hx hb dJ12_max_5 rfl (lv_at hl 0 rfl) ?_
    refine lv_goto (tgt := 10) hx hb dJ12_max_6 (by decide) ?_
    exact K_3 _ _ x (by rw [if_neg c_1]) hS (lv_sub hl [0, 1] rfl)

def jmin (x y : Int32) : Int32 := let v_2 : Int32 := if y < x then y else x; v_2
set_option maxHeartbeats 4000000 in
theorem m_min (l : Launch) (g : GT) (x y : Int32) : Cn l g yJ12_min cJ12_min 2 ((some .int)) 0 0 0 [.int x, .int y] (fun _ => False) (fun _ => True) (fun Hp rv Hq => Hp = Hq ∧ rv = some (.int (jmin x y))) := by
  refine Cn.start (by decide +kernel) (Nat.le_of_ble_eq_true rfl) ?_
  intro p ev s m below meth c ls H locs hH hx hb hr hts hown hlocks hml hnm hK hP hS hl
  have fx : Fx p s m ([.int x, .int y] : List Value).toArray c cJ12_min RJ12 g (fun _ => False) 2 := ⟨hx, hb, hts, hown, hK, fun _ h => h.elim, hml⟩
  have hl : lv_has ls 2 [(0, .int x), (1, .int y)] := hl
  refine lv_iload_n hx hb dJ12_min_0 rfl (lv_at hl 0 rfl) ?_
  refine lv_iload_n hx hb dJ12_min_1 rfl (lv_at hl 1 rfl) ?_
  have K_3 : ∀ (locs : List Loc) (ls : Array Slot) (v_2 : Int32), v_2 = (if y < x then y else x) → va_S (fun _ => False) s.heap H locs → lv_has ls 2 [(0, .int x), (1, .int y)] → W p l ev (mR 0 0 0) s m ([.int x, .int y] : List Value).toArray below meth c H locs 0 0 (MQ below (mQ (fun _ => False) (fun Hp rv Hq => Hp = Hq ∧ rv = some (.int (jmin x y)))) ([.int x, .int y] : List Value).toArray s 0 0 (fun _ => False)) (F0 m 10 ls [.int v_2]) := by
    intro locs ls v_2 hv_2 hS hl
    exact ri hx hb hr hlocks hS (⟨hH.symm, by subst hv_2; simp only [jmin]⟩) ⟨(Nat.le_of_ble_eq_true rfl), (Nat.le_of_ble_eq_true rfl)⟩ dJ12_min_10
  refine lv_icmp_gt (tgt := 9) hx hb dJ12_min_2 (by decide) (fun c_1 => ?_) (fun c_1 => ?_)
  · skip
    refine lv_iload_n hx hb dJ12_min_9 rfl (lv_at hl 1 rfl) ?_
    exact K_3 _ _ y (by rw [if_pos c_1]) hS (lv_sub hl [0, 1] rfl)
  · skip
    refine lv_iload_n hx hb dJ12_min_5 rfl (lv_at hl 0 rfl) ?_
    refine lv_goto (tgt := 10) hx hb dJ12_min_6 (by decide) ?_
    exact K_3 _ _ x (by rw [if_neg c_1]) hS (lv_sub hl [0, 1] rfl)

def jfdiv (x y : Int32) : Int32 := if 0 ≤ (x ^^^ y) then (x / y) else (if ((x / y) * y) = x then (x / y) else ((x / y) - 1))
set_option maxHeartbeats 4000000 in
theorem m_floorDiv (l : Launch) (g : GT) (x y : Int32) (hy : ¬ y = 0) : Cn l g yJ12_floorDiv cJ12_floorDiv 3 ((some .int)) 0 0 0 [.int x, .int y] (fun _ => False) (fun _ => True) (fun Hp rv Hq => Hp = Hq ∧ rv = some (.int (jfdiv x y))) := by
  refine Cn.start (by decide +kernel) (Nat.le_of_ble_eq_true rfl) ?_
  intro p ev s m below meth c ls H locs hH hx hb hr hts hown hlocks hml hnm hK hP hS hl
  have fx : Fx p s m ([.int x, .int y] : List Value).toArray c cJ12_floorDiv RJ12 g (fun _ => False) 3 := ⟨hx, hb, hts, hown, hK, fun _ h => h.elim, hml⟩
  have hl : lv_has ls 3 [(0, .int x), (1, .int y)] := hl
  refine lv_iload_n hx hb dJ12_floorDiv_0 rfl (lv_at hl 0 rfl) ?_
  refine lv_iload_n hx hb dJ12_floorDiv_1 rfl (lv_at hl 1 rfl) ?_
  refine lv_idiv hx hb dJ12_floorDiv_2 hy ?_
  refine lv_istore_n (lv' := [(2, .int (x / y)), (0, .int x), (1, .int y)]) hx hb dJ12_floorDiv_3 rfl hl (by decide) rfl (fun ls hl => ?_)
  refine lv_iload_n hx hb dJ12_floorDiv_4 rfl (lv_at hl 1 rfl) ?_
  refine lv_iload_n hx hb dJ12_floorDiv_5 rfl (lv_at hl 2 rfl) ?_
  refine lv_ixor hx hb dJ12_floorDiv_6 ?_
  refine lv_if_ge (tgt := 21) hx hb dJ12_floorDiv_7 (by decide) (fun c_1 => ?_) (fun c_1 => ?_)
  · skip
    refine lv_iload_n hx hb dJ12_floorDiv_21 rfl (lv_at hl 0 rfl) ?_
    exact ri hx hb hr hlocks hS (⟨hH.symm, by simp only [jfdiv, if_pos c_1]⟩) ⟨(Nat.le_of_ble_eq_true rfl), (Nat.le_of_ble_eq_true rfl)⟩ dJ12_floorDiv_22
  · skip
    refine lv_iload_n hx hb dJ12_floorDiv_10 rfl (lv_at hl 0 rfl) ?_
    refine lv_iload_n hx hb dJ12_floorDiv_11 rfl (lv_at hl 2 rfl) ?_
    refine lv_imul hx hb dJ12_floorDiv_12 ?_
    refine lv_iload_n hx hb dJ12_floorDiv_13 rfl (lv_at hl 1 rfl) ?_
    refine lv_icmp_eq (tgt := 21) hx hb dJ12_floorDiv_14 (by decide) (fun c_2 => ?_) (fun c_2 => ?_)
    · skip
      refine lv_iload_n hx hb dJ12_floorDiv_21 rfl (lv_at hl 0 rfl) ?_
      exact ri hx hb hr hlocks hS (⟨hH.symm, by simp only [jfdiv, if_neg c_1, if_pos c_2]⟩) ⟨(Nat.le_of_ble_eq_true rfl), (Nat.le_of_ble_eq_true rfl)⟩ dJ12_floorDiv_22
    · skip
      refine lv_iload_n hx hb dJ12_floorDiv_17 rfl (lv_at hl 0 rfl) ?_
      refine lv_iconst (v := 1) hx hb dJ12_floorDiv_18 (by decide) ?_
      refine lv_isub hx hb dJ12_floorDiv_19 ?_
      exact ri hx hb hr hlocks hS (⟨hH.symm, by simp only [jfdiv, if_neg c_1, if_neg c_2]⟩) ⟨(Nat.le_of_ble_eq_true rfl), (Nat.le_of_ble_eq_true rfl)⟩ dJ12_floorDiv_20

def heldC (lo hi v : Int32) : Int32 := jmax lo (jmin hi v)
set_option maxHeartbeats 4000000 in
theorem m_held (l : Launch) (g : GT) (lo hi v : Int32) : Cn l g yX1_held cX1_held 3 ((some .int)) 1 0 0 [.int lo, .int hi, .int v] (fun _ => False) (fun _ => True) (fun Hp rv Hq => Hp = Hq ∧ rv = some (.int (heldC lo hi v))) := by
  refine Cn.start (plainFor_of_name (by decide +kernel)) (Nat.le_of_ble_eq_true rfl) ?_
  intro p ev s m below meth c ls H locs hH hx hb hr hts hown hlocks hml hnm hK hP hS hl
  have fx : Fx p s m ([.int lo, .int hi, .int v] : List Value).toArray c cX1_held RX1 g (fun _ => False) 3 := ⟨hx, hb, hts, hown, hK, fun _ h => h.elim, hml⟩
  have hl : lv_has ls 3 [(0, .int lo), (1, .int hi), (2, .int v)] := hl
  refine lv_iload_n hx hb dX1_held_0 rfl (lv_at hl 0 rfl) ?_
  refine lv_iload_n hx hb dX1_held_1 rfl (lv_at hl 1 rfl) ?_
  refine lv_iload_n hx hb dX1_held_2 rfl (lv_at hl 2 rfl) ?_
  refine kS fx (m_min l g hi v) (lw_S q440 q411 q67 q412) hdJ12_min ⟨(Nat.le_of_ble_eq_true rfl), (Nat.le_of_ble_eq_true rfl)⟩ ⟨(Nat.le_of_ble_eq_true rfl), (Nat.le_of_ble_eq_true rfl)⟩ hl.1 hS rfl (Nat.le_of_ble_eq_true rfl) trivial (fun _ h => h.elim) dX1_held_3 (fun rv9 H locs hQ hz9 hk9 hS => ?_)
  obtain ⟨rfl, rfl⟩ := hQ
  refine W.eq (g2 := F0 m 6 ls [.int (jmin hi v), .int lo]) rfl ?_
  refine kS fx (m_max l g lo (jmin hi v)) (lw_S q441 q375 q67 q376) hdJ12_max ⟨(Nat.le_of_ble_eq_true rfl), (Nat.le_of_ble_eq_true rfl)⟩ ⟨(Nat.le_of_ble_eq_true rfl), (Nat.le_of_ble_eq_true rfl)⟩ hl.1 hS rfl (Nat.le_of_ble_eq_true rfl) trivial (fun _ h => h.elim) dX1_held_6 (fun rv9 H locs hQ hz9 hk9 hS => ?_)
  obtain ⟨rfl, rfl⟩ := hQ
  refine W.eq (g2 := F0 m 9 ls [.int (jmax lo (jmin hi v))]) rfl ?_
  exact ri hx hb hr hlocks hS (⟨hH.symm, rfl⟩) ⟨(Nat.le_of_ble_eq_true rfl), (Nat.le_of_ble_eq_true rfl)⟩ dX1_held_9

def isFromF (lo hi v : Int32) : Int32 := let v_2 : Int32 := if v < lo then 0 else (if hi < v then 0 else 1); v_2
set_option maxHeartbeats 4000000 in
theorem m_isFrom (l : Launch) (g : GT) (lo hi v : Int32) : Cn l g yX1_isFrom cX1_isFrom 3 ((some .boolean)) 0 0 0 [.int lo, .int hi, .int v] (fun _ => False) (fun _ => True) (fun Hp rv Hq => Hp = Hq ∧ rv = some (.int (isFromF lo hi v))) := by
  refine Cn.start (plainFor_of_name (by decide +kernel)) (Nat.le_of_ble_eq_true rfl) ?_
  intro p ev s m below meth c ls H locs hH hx hb hr hts hown hlocks hml hnm hK hP hS hl
  have fx : Fx p s m ([.int lo, .int hi, .int v] : List Value).toArray c cX1_isFrom RX1 g (fun _ => False) 3 := ⟨hx, hb, hts, hown, hK, fun _ h => h.elim, hml⟩
  have hl : lv_has ls 3 [(0, .int lo), (1, .int hi), (2, .int v)] := hl
  refine lv_iload_n hx hb dX1_isFrom_0 rfl (lv_at hl 2 rfl) ?_
  refine lv_iload_n hx hb dX1_isFrom_1 rfl (lv_at hl 0 rfl) ?_
  have K_3 : ∀ (locs : List Loc) (ls : Array Slot) (v_2 : Int32), v_2 = (if v < lo then 0 else (if hi < v then 0 else 1)) → va_S (fun _ => False) s.heap H locs → lv_has ls 3 [(0, .int lo), (1, .int hi), (2, .int v)] → W p l ev (mR 0 0 0) s m ([.int lo, .int hi, .int v] : List Value).toArray below meth c H locs 0 0 (MQ below (mQ (fun _ => False) (fun Hp rv Hq => Hp = Hq ∧ rv = some (.int (isFromF lo hi v)))) ([.int lo, .int hi, .int v] : List Value).toArray s 0 0 (fun _ => False)) (F0 m 15 ls [.int v_2]) := by
    intro locs ls v_2 hv_2 hS hl
    have bzv_2 : bz v_2 := by rw [hv_2]; (repeat' split) <;> first | exact Or.inl rfl | exact Or.inr rfl
    exact rz hx hb hr hlocks (nar_z bzv_2) hS (⟨hH.symm, by subst hv_2; simp only [isFromF]⟩) ⟨(Nat.le_of_ble_eq_true rfl), (Nat.le_of_ble_eq_true rfl)⟩ dX1_isFrom_15
  refine lv_icmp_lt (tgt := 14) hx hb dX1_isFrom_2 (by decide) (fun c_1 => ?_) (fun c_1 => ?_)
  · skip
    refine lv_iconst (v := 0) hx hb dX1_isFrom_14 (by decide) ?_
    exact K_3 _ _ 0 (by rw [if_pos c_1]) hS (lv_sub hl [0, 1, 2] rfl)
  · skip
    refine lv_iload_n hx hb dX1_isFrom_5 rfl (lv_at hl 2 rfl) ?_
    refine lv_iload_n hx hb dX1_isFrom_6 rfl (lv_at hl 1 rfl) ?_
    refine lv_icmp_gt (tgt := 14) hx hb dX1_isFrom_7 (by decide) (fun c_4 => ?_) (fun c_4 => ?_)
    · skip
      refine lv_iconst (v := 0) hx hb dX1_isFrom_14 (by decide) ?_
      exact K_3 _ _ 0 (by rw [if_neg c_1, if_pos c_4]) hS (lv_sub hl [0, 1, 2] rfl)
    · skip
      refine lv_iconst (v := 1) hx hb dX1_isFrom_10 (by decide) ?_
      refine lv_goto (tgt := 15) hx hb dX1_isFrom_11 (by decide) ?_
      exact K_3 _ _ 1 (by rw [if_neg c_1, if_neg c_4]) hS (lv_sub hl [0, 1, 2] rfl)

theorem bz_isFromF (x0 x1 x2 : Int32) : bz (isFromF x0 x1 x2) := by
  unfold isFromF
  (repeat' split) <;> first | exact Or.inl rfl | exact Or.inr rfl
def isWeatherF (w r : Int32) : Int32 := let v_2 : Int32 := if (isFromF (-5) 45 w) = 0 then 0 else (if (isFromF 0 9 r) = 0 then 0 else 1); v_2
set_option maxHeartbeats 4000000 in
theorem m_isWeather (l : Launch) (g : GT) (w r : Int32) : Cn l g yX1_isWeather cX1_isWeather 2 ((some .boolean)) 1 0 0 [.int w, .int r] (fun _ => False) (fun _ => True) (fun Hp rv Hq => Hp = Hq ∧ rv = some (.int (isWeatherF w r))) := by
  refine Cn.start (plainFor_of_name (by decide +kernel)) (Nat.le_of_ble_eq_true rfl) ?_
  intro p ev s m below meth c ls H locs hH hx hb hr hts hown hlocks hml hnm hK hP hS hl
  have fx : Fx p s m ([.int w, .int r] : List Value).toArray c cX1_isWeather RX1 g (fun _ => False) 2 := ⟨hx, hb, hts, hown, hK, fun _ h => h.elim, hml⟩
  have hl : lv_has ls 2 [(0, .int w), (1, .int r)] := hl
  refine lv_bipush (v := (-5)) hx hb dX1_isWeather_0 (by decide) ?_
  refine lv_bipush (v := 45) hx hb dX1_isWeather_2 (by decide) ?_
  refine lv_iload_n hx hb dX1_isWeather_4 rfl (lv_at hl 0 rfl) ?_
  refine kS fx (m_isFrom l g (-5) 45 w) (lw_S q720 q721 q50 q722) hdX1_isFrom ⟨(Nat.le_of_ble_eq_true rfl), (Nat.le_of_ble_eq_true rfl)⟩ ⟨(Nat.le_of_ble_eq_true rfl), (Nat.le_of_ble_eq_true rfl)⟩ hl.1 hS rfl (Nat.le_of_ble_eq_true rfl) trivial (fun _ h => h.elim) dX1_isWeather_5 (fun rv9 H locs hQ hz9 hk9 hS => ?_)
  obtain ⟨rfl, rfl⟩ := hQ
  refine W.eq (g2 := F0 m 8 ls [.int (isFromF (-5) 45 w)]) rfl ?_
  have K_3 : ∀ (locs : List Loc) (ls : Array Slot) (v_2 : Int32), v_2 = (if (isFromF (-5) 45 w) = 0 then 0 else (if (isFromF 0 9 r) = 0 then 0 else 1)) → va_S (fun _ => False) s.heap H locs → lv_has ls 2 [(0, .int w), (1, .int r)] → W p l ev (mR 1 0 0) s m ([.int w, .int r] : List Value).toArray below meth c H locs 0 0 (MQ below (mQ (fun _ => False) (fun Hp rv Hq => Hp = Hq ∧ rv = some (.int (isWeatherF w r)))) ([.int w, .int r] : List Value).toArray s 0 0 (fun _ => False)) (F0 m 26 ls [.int v_2]) := by
    intro locs ls v_2 hv_2 hS hl
    have bzv_2 : bz v_2 := by rw [hv_2]; (repeat' split) <;> first | exact Or.inl rfl | exact Or.inr rfl
    exact rz hx hb hr hlocks (nar_z bzv_2) hS (⟨hH.symm, by subst hv_2; simp only [isWeatherF]⟩) ⟨(Nat.le_of_ble_eq_true rfl), (Nat.le_of_ble_eq_true rfl)⟩ dX1_isWeather_26
  refine lv_if_eq (tgt := 25) hx hb dX1_isWeather_8 (by decide) (fun c_1 => ?_) (fun c_1 => ?_)
  · skip
    refine lv_iconst (v := 0) hx hb dX1_isWeather_25 (by decide) ?_
    exact K_3 _ _ 0 (by rw [if_pos c_1]) hS (lv_sub hl [0, 1] rfl)
  · skip
    refine lv_iconst (v := 0) hx hb dX1_isWeather_11 (by decide) ?_
    refine lv_bipush (v := 9) hx hb dX1_isWeather_12 (by decide) ?_
    refine lv_iload_n hx hb dX1_isWeather_14 rfl (lv_at hl 1 rfl) ?_
    refine kS fx (m_isFrom l g 0 9 r) (lw_S q720 q721 q50 q722) hdX1_isFrom ⟨(Nat.le_of_ble_eq_true rfl), (Nat.le_of_ble_eq_true rfl)⟩ ⟨(Nat.le_of_ble_eq_true rfl), (Nat.le_of_ble_eq_true rfl)⟩ hl.1 hS rfl (Nat.le_of_ble_eq_true rfl) trivial (fun _ h => h.elim) dX1_isWeather_15 (fun rv9 H locs hQ hz9 hk9 hS => ?_)
    obtain ⟨rfl, rfl⟩ := hQ
    refine W.eq (g2 := F0 m 18 ls [.int (isFromF 0 9 r)]) rfl ?_
    refine lv_if_eq (tgt := 25) hx hb dX1_isWeather_18 (by decide) (fun c_4 => ?_) (fun c_4 => ?_)
    · skip
      refine lv_iconst (v := 0) hx hb dX1_isWeather_25 (by decide) ?_
      exact K_3 _ _ 0 (by rw [if_neg c_1, if_pos c_4]) hS (lv_sub hl [0, 1] rfl)
    · skip
      refine lv_iconst (v := 1) hx hb dX1_isWeather_21 (by decide) ?_
      refine lv_goto (tgt := 26) hx hb dX1_isWeather_22 (by decide) ?_
      exact K_3 _ _ 1 (by rw [if_neg c_1, if_neg c_4]) hS (lv_sub hl [0, 1] rfl)

theorem bz_isWeatherF (x0 x1 : Int32) : bz (isWeatherF x0 x1) := by
  unfold isWeatherF
  (repeat' split) <;> first | exact Or.inl rfl | exact Or.inr rfl | exact bz_isFromF _ _ _
def areHoursF (h : Int32) : Int32 := isFromF 1 120 h
set_option maxHeartbeats 4000000 in
theorem m_areHours (l : Launch) (g : GT) (h : Int32) : Cn l g yX1_areHours cX1_areHours 1 ((some .boolean)) 1 0 0 [.int h] (fun _ => False) (fun _ => True) (fun Hp rv Hq => Hp = Hq ∧ rv = some (.int (areHoursF h))) := by
  refine Cn.start (plainFor_of_name (by decide +kernel)) (Nat.le_of_ble_eq_true rfl) ?_
  intro p ev s m below meth c ls H locs hH hx hb hr hts hown hlocks hml hnm hK hP hS hl
  have fx : Fx p s m ([.int h] : List Value).toArray c cX1_areHours RX1 g (fun _ => False) 1 := ⟨hx, hb, hts, hown, hK, fun _ h => h.elim, hml⟩
  have hl : lv_has ls 1 [(0, .int h)] := hl
  refine lv_iconst (v := 1) hx hb dX1_areHours_0 (by decide) ?_
  refine lv_bipush (v := 120) hx hb dX1_areHours_1 (by decide) ?_
  refine lv_iload_n hx hb dX1_areHours_3 rfl (lv_at hl 0 rfl) ?_
  refine kS fx (m_isFrom l g 1 120 h) (lw_S q720 q721 q50 q722) hdX1_isFrom ⟨(Nat.le_of_ble_eq_true rfl), (Nat.le_of_ble_eq_true rfl)⟩ ⟨(Nat.le_of_ble_eq_true rfl), (Nat.le_of_ble_eq_true rfl)⟩ hl.1 hS rfl (Nat.le_of_ble_eq_true rfl) trivial (fun _ h => h.elim) dX1_areHours_4 (fun rv9 H locs hQ hz9 hk9 hS => ?_)
  obtain ⟨rfl, rfl⟩ := hQ
  refine W.eq (g2 := F0 m 7 ls [.int (isFromF 1 120 h)]) rfl ?_
  exact rz hx hb hr hlocks (nar_z (bz_isFromF 1 120 h)) hS (⟨hH.symm, rfl⟩) ⟨(Nat.le_of_ble_eq_true rfl), (Nat.le_of_ble_eq_true rfl)⟩ dX1_areHours_7

theorem bz_areHoursF (x0 : Int32) : bz (areHoursF x0) := by
  unfold areHoursF
  (repeat' split) <;> first | exact Or.inl rfl | exact Or.inr rfl | exact bz_isFromF _ _ _ | exact bz_isWeatherF _ _
def isInF (v lo hi : Int32) : Int32 := let v_2 : Int32 := if v < lo then 0 else (if hi < v then 0 else 1); v_2
set_option maxHeartbeats 4000000 in
theorem m_isIn (l : Launch) (g : GT) (v lo hi : Int32) : Cn l g yX3_isIn cX3_isIn 3 ((some .boolean)) 0 0 0 [.int v, .int lo, .int hi] (fun _ => False) (fun _ => True) (fun Hp rv Hq => Hp = Hq ∧ rv = some (.int (isInF v lo hi))) := by
  refine Cn.start (plainFor_of_name (by decide +kernel)) (Nat.le_of_ble_eq_true rfl) ?_
  intro p ev s m below meth c ls H locs hH hx hb hr hts hown hlocks hml hnm hK hP hS hl
  have fx : Fx p s m ([.int v, .int lo, .int hi] : List Value).toArray c cX3_isIn RX3 g (fun _ => False) 3 := ⟨hx, hb, hts, hown, hK, fun _ h => h.elim, hml⟩
  have hl : lv_has ls 3 [(0, .int v), (1, .int lo), (2, .int hi)] := hl
  refine lv_iload_n hx hb dX3_isIn_0 rfl (lv_at hl 0 rfl) ?_
  refine lv_iload_n hx hb dX3_isIn_1 rfl (lv_at hl 1 rfl) ?_
  have K_3 : ∀ (locs : List Loc) (ls : Array Slot) (v_2 : Int32), v_2 = (if v < lo then 0 else (if hi < v then 0 else 1)) → va_S (fun _ => False) s.heap H locs → lv_has ls 3 [(0, .int v), (1, .int lo), (2, .int hi)] → W p l ev (mR 0 0 0) s m ([.int v, .int lo, .int hi] : List Value).toArray below meth c H locs 0 0 (MQ below (mQ (fun _ => False) (fun Hp rv Hq => Hp = Hq ∧ rv = some (.int (isInF v lo hi)))) ([.int v, .int lo, .int hi] : List Value).toArray s 0 0 (fun _ => False)) (F0 m 15 ls [.int v_2]) := by
    intro locs ls v_2 hv_2 hS hl
    have bzv_2 : bz v_2 := by rw [hv_2]; (repeat' split) <;> first | exact Or.inl rfl | exact Or.inr rfl
    exact rz hx hb hr hlocks (nar_z bzv_2) hS (⟨hH.symm, by subst hv_2; simp only [isInF]⟩) ⟨(Nat.le_of_ble_eq_true rfl), (Nat.le_of_ble_eq_true rfl)⟩ dX3_isIn_15
  refine lv_icmp_lt (tgt := 14) hx hb dX3_isIn_2 (by decide) (fun c_1 => ?_) (fun c_1 => ?_)
  · skip
    refine lv_iconst (v := 0) hx hb dX3_isIn_14 (by decide) ?_
    exact K_3 _ _ 0 (by rw [if_pos c_1]) hS (lv_sub hl [0, 1, 2] rfl)
  · skip
    refine lv_iload_n hx hb dX3_isIn_5 rfl (lv_at hl 0 rfl) ?_
    refine lv_iload_n hx hb dX3_isIn_6 rfl (lv_at hl 2 rfl) ?_
    refine lv_icmp_gt (tgt := 14) hx hb dX3_isIn_7 (by decide) (fun c_4 => ?_) (fun c_4 => ?_)
    · skip
      refine lv_iconst (v := 0) hx hb dX3_isIn_14 (by decide) ?_
      exact K_3 _ _ 0 (by rw [if_neg c_1, if_pos c_4]) hS (lv_sub hl [0, 1, 2] rfl)
    · skip
      refine lv_iconst (v := 1) hx hb dX3_isIn_10 (by decide) ?_
      refine lv_goto (tgt := 15) hx hb dX3_isIn_11 (by decide) ?_
      exact K_3 _ _ 1 (by rw [if_neg c_1, if_neg c_4]) hS (lv_sub hl [0, 1, 2] rfl)

theorem bz_isInF (x0 x1 x2 : Int32) : bz (isInF x0 x1 x2) := by
  unfold isInF
  (repeat' split) <;> first | exact Or.inl rfl | exact Or.inr rfl | exact bz_isFromF _ _ _ | exact bz_isWeatherF _ _ | exact bz_areHoursF _
def heldM (v most : Int32) : Int32 := jmax 0 (jmin most v)
set_option maxHeartbeats 4000000 in
theorem m_heldM (l : Launch) (g : GT) (v most : Int32) : Cn l g yX3_held cX3_held 2 ((some .int)) 1 0 0 [.int v, .int most] (fun _ => False) (fun _ => True) (fun Hp rv Hq => Hp = Hq ∧ rv = some (.int (heldM v most))) := by
  refine Cn.start (plainFor_of_name (by decide +kernel)) (Nat.le_of_ble_eq_true rfl) ?_
  intro p ev s m below meth c ls H locs hH hx hb hr hts hown hlocks hml hnm hK hP hS hl
  have fx : Fx p s m ([.int v, .int most] : List Value).toArray c cX3_held RX3 g (fun _ => False) 2 := ⟨hx, hb, hts, hown, hK, fun _ h => h.elim, hml⟩
  have hl : lv_has ls 2 [(0, .int v), (1, .int most)] := hl
  refine lv_iconst (v := 0) hx hb dX3_held_0 (by decide) ?_
  refine lv_iload_n hx hb dX3_held_1 rfl (lv_at hl 1 rfl) ?_
  refine lv_iload_n hx hb dX3_held_2 rfl (lv_at hl 0 rfl) ?_
  refine kS fx (m_min l g most v) (lw_S q1172 q411 q67 q412) hdJ12_min ⟨(Nat.le_of_ble_eq_true rfl), (Nat.le_of_ble_eq_true rfl)⟩ ⟨(Nat.le_of_ble_eq_true rfl), (Nat.le_of_ble_eq_true rfl)⟩ hl.1 hS rfl (Nat.le_of_ble_eq_true rfl) trivial (fun _ h => h.elim) dX3_held_3 (fun rv9 H locs hQ hz9 hk9 hS => ?_)
  obtain ⟨rfl, rfl⟩ := hQ
  refine W.eq (g2 := F0 m 6 ls [.int (jmin most v), .int 0]) rfl ?_
  refine kS fx (m_max l g 0 (jmin most v)) (lw_S q1372 q375 q67 q376) hdJ12_max ⟨(Nat.le_of_ble_eq_true rfl), (Nat.le_of_ble_eq_true rfl)⟩ ⟨(Nat.le_of_ble_eq_true rfl), (Nat.le_of_ble_eq_true rfl)⟩ hl.1 hS rfl (Nat.le_of_ble_eq_true rfl) trivial (fun _ h => h.elim) dX3_held_6 (fun rv9 H locs hQ hz9 hk9 hS => ?_)
  obtain ⟨rfl, rfl⟩ := hQ
  refine W.eq (g2 := F0 m 9 ls [.int (jmax 0 (jmin most v))]) rfl ?_
  exact ri hx hb hr hlocks hS (⟨hH.symm, rfl⟩) ⟨(Nat.le_of_ble_eq_true rfl), (Nat.le_of_ble_eq_true rfl)⟩ dX3_held_9

def isNoGrowerF (v : Int32) : Int32 := let v_2 : Int32 := if (isInF v 0 3) = 0 then 1 else 0; v_2
set_option maxHeartbeats 4000000 in
theorem m_isNoGrower (l : Launch) (g : GT) (v : Int32) : Cn l g yX3_isNoGrower cX3_isNoGrower 1 ((some .boolean)) 1 0 0 [.int v] (fun _ => False) (fun _ => True) (fun Hp rv Hq => Hp = Hq ∧ rv = some (.int (isNoGrowerF v))) := by
  refine Cn.start (plainFor_of_name (by decide +kernel)) (Nat.le_of_ble_eq_true rfl) ?_
  intro p ev s m below meth c ls H locs hH hx hb hr hts hown hlocks hml hnm hK hP hS hl
  have fx : Fx p s m ([.int v] : List Value).toArray c cX3_isNoGrower RX3 g (fun _ => False) 1 := ⟨hx, hb, hts, hown, hK, fun _ h => h.elim, hml⟩
  have hl : lv_has ls 1 [(0, .int v)] := hl
  refine lv_iload_n hx hb dX3_isNoGrower_0 rfl (lv_at hl 0 rfl) ?_
  refine lv_iconst (v := 0) hx hb dX3_isNoGrower_1 (by decide) ?_
  refine lv_iconst (v := 3) hx hb dX3_isNoGrower_2 (by decide) ?_
  refine kS fx (m_isIn l g v 0 3) (lw_S q1066 q1067 q55 q1068) hdX3_isIn ⟨(Nat.le_of_ble_eq_true rfl), (Nat.le_of_ble_eq_true rfl)⟩ ⟨(Nat.le_of_ble_eq_true rfl), (Nat.le_of_ble_eq_true rfl)⟩ hl.1 hS rfl (Nat.le_of_ble_eq_true rfl) trivial (fun _ h => h.elim) dX3_isNoGrower_3 (fun rv9 H locs hQ hz9 hk9 hS => ?_)
  obtain ⟨rfl, rfl⟩ := hQ
  refine W.eq (g2 := F0 m 6 ls [.int (isInF v 0 3)]) rfl ?_
  have K_3 : ∀ (locs : List Loc) (ls : Array Slot) (v_2 : Int32), v_2 = (if (isInF v 0 3) = 0 then 1 else 0) → va_S (fun _ => False) s.heap H locs → lv_has ls 1 [(0, .int v)] → W p l ev (mR 1 0 0) s m ([.int v] : List Value).toArray below meth c H locs 0 0 (MQ below (mQ (fun _ => False) (fun Hp rv Hq => Hp = Hq ∧ rv = some (.int (isNoGrowerF v)))) ([.int v] : List Value).toArray s 0 0 (fun _ => False)) (F0 m 14 ls [.int v_2]) := by
    intro locs ls v_2 hv_2 hS hl
    have bzv_2 : bz v_2 := by rw [hv_2]; (repeat' split) <;> first | exact Or.inl rfl | exact Or.inr rfl
    exact rz hx hb hr hlocks (nar_z bzv_2) hS (⟨hH.symm, by subst hv_2; simp only [isNoGrowerF]⟩) ⟨(Nat.le_of_ble_eq_true rfl), (Nat.le_of_ble_eq_true rfl)⟩ dX3_isNoGrower_14
  refine lv_if_ne (tgt := 13) hx hb dX3_isNoGrower_6 (by decide) (fun c_1 => ?_) (fun c_1 => ?_)
  · skip
    refine lv_iconst (v := 0) hx hb dX3_isNoGrower_13 (by decide) ?_
    exact K_3 _ _ 0 (by rw [if_neg c_1]) hS (lv_sub hl [0] rfl)
  · skip
    refine lv_iconst (v := 1) hx hb dX3_isNoGrower_9 (by decide) ?_
    refine lv_goto (tgt := 14) hx hb dX3_isNoGrower_10 (by decide) ?_
    exact K_3 _ _ 1 (by rw [if_pos c_1]) hS (lv_sub hl [0] rfl)

theorem bz_isNoGrowerF (x0 : Int32) : bz (isNoGrowerF x0) := by
  unfold isNoGrowerF
  (repeat' split) <;> first | exact Or.inl rfl | exact Or.inr rfl | exact bz_isFromF _ _ _ | exact bz_isWeatherF _ _ | exact bz_areHoursF _ | exact bz_isInF _ _ _
def isNoWeatherF (w r : Int32) : Int32 := let v_2 : Int32 := if (isInF w (-5) 45) = 0 then 1 else (if (isInF r 0 9) = 0 then 1 else 0); v_2
set_option maxHeartbeats 4000000 in
theorem m_isNoWeather (l : Launch) (g : GT) (w r : Int32) : Cn l g yX3_isNoWeather cX3_isNoWeather 2 ((some .boolean)) 1 0 0 [.int w, .int r] (fun _ => False) (fun _ => True) (fun Hp rv Hq => Hp = Hq ∧ rv = some (.int (isNoWeatherF w r))) := by
  refine Cn.start (plainFor_of_name (by decide +kernel)) (Nat.le_of_ble_eq_true rfl) ?_
  intro p ev s m below meth c ls H locs hH hx hb hr hts hown hlocks hml hnm hK hP hS hl
  have fx : Fx p s m ([.int w, .int r] : List Value).toArray c cX3_isNoWeather RX3 g (fun _ => False) 2 := ⟨hx, hb, hts, hown, hK, fun _ h => h.elim, hml⟩
  have hl : lv_has ls 2 [(0, .int w), (1, .int r)] := hl
  refine lv_iload_n hx hb dX3_isNoWeather_0 rfl (lv_at hl 0 rfl) ?_
  refine lv_bipush (v := (-5)) hx hb dX3_isNoWeather_1 (by decide) ?_
  refine lv_bipush (v := 45) hx hb dX3_isNoWeather_3 (by decide) ?_
  refine kS fx (m_isIn l g w (-5) 45) (lw_S q1066 q1067 q55 q1068) hdX3_isIn ⟨(Nat.le_of_ble_eq_true rfl), (Nat.le_of_ble_eq_true rfl)⟩ ⟨(Nat.le_of_ble_eq_true rfl), (Nat.le_of_ble_eq_true rfl)⟩ hl.1 hS rfl (Nat.le_of_ble_eq_true rfl) trivial (fun _ h => h.elim) dX3_isNoWeather_5 (fun rv9 H locs hQ hz9 hk9 hS => ?_)
  obtain ⟨rfl, rfl⟩ := hQ
  refine W.eq (g2 := F0 m 8 ls [.int (isInF w (-5) 45)]) rfl ?_
  have K_3 : ∀ (locs : List Loc) (ls : Array Slot) (v_2 : Int32), v_2 = (if (isInF w (-5) 45) = 0 then 1 else (if (isInF r 0 9) = 0 then 1 else 0)) → va_S (fun _ => False) s.heap H locs → lv_has ls 2 [(0, .int w), (1, .int r)] → W p l ev (mR 1 0 0) s m ([.int w, .int r] : List Value).toArray below meth c H locs 0 0 (MQ below (mQ (fun _ => False) (fun Hp rv Hq => Hp = Hq ∧ rv = some (.int (isNoWeatherF w r)))) ([.int w, .int r] : List Value).toArray s 0 0 (fun _ => False)) (F0 m 26 ls [.int v_2]) := by
    intro locs ls v_2 hv_2 hS hl
    have bzv_2 : bz v_2 := by rw [hv_2]; (repeat' split) <;> first | exact Or.inl rfl | exact Or.inr rfl
    exact rz hx hb hr hlocks (nar_z bzv_2) hS (⟨hH.symm, by subst hv_2; simp only [isNoWeatherF]⟩) ⟨(Nat.le_of_ble_eq_true rfl), (Nat.le_of_ble_eq_true rfl)⟩ dX3_isNoWeather_26
  refine lv_if_eq (tgt := 21) hx hb dX3_isNoWeather_8 (by decide) (fun c_1 => ?_) (fun c_1 => ?_)
  · skip
    refine lv_iconst (v := 1) hx hb dX3_isNoWeather_21 (by decide) ?_
    refine lv_goto (tgt := 26) hx hb dX3_isNoWeather_22 (by decide) ?_
    exact K_3 _ _ 1 (by rw [if_pos c_1]) hS (lv_sub hl [0, 1] rfl)
  · skip
    refine lv_iload_n hx hb dX3_isNoWeather_11 rfl (lv_at hl 1 rfl) ?_
    refine lv_iconst (v := 0) hx hb dX3_isNoWeather_12 (by decide) ?_
    refine lv_bipush (v := 9) hx hb dX3_isNoWeather_13 (by decide) ?_
    refine kS fx (m_isIn l g r 0 9) (lw_S q1066 q1067 q55 q1068) hdX3_isIn ⟨(Nat.le_of_ble_eq_true rfl), (Nat.le_of_ble_eq_true rfl)⟩ ⟨(Nat.le_of_ble_eq_true rfl), (Nat.le_of_ble_eq_true rfl)⟩ hl.1 hS rfl (Nat.le_of_ble_eq_true rfl) trivial (fun _ h => h.elim) dX3_isNoWeather_15 (fun rv9 H locs hQ hz9 hk9 hS => ?_)
    obtain ⟨rfl, rfl⟩ := hQ
    refine W.eq (g2 := F0 m 18 ls [.int (isInF r 0 9)]) rfl ?_
    refine lv_if_ne (tgt := 25) hx hb dX3_isNoWeather_18 (by decide) (fun c_4 => ?_) (fun c_4 => ?_)
    · skip
      refine lv_iconst (v := 0) hx hb dX3_isNoWeather_25 (by decide) ?_
      exact K_3 _ _ 0 (by rw [if_neg c_1, if_neg c_4]) hS (lv_sub hl [0, 1] rfl)
    · skip
      refine lv_iconst (v := 1) hx hb dX3_isNoWeather_21 (by decide) ?_
      refine lv_goto (tgt := 26) hx hb dX3_isNoWeather_22 (by decide) ?_
      exact K_3 _ _ 1 (by rw [if_neg c_1, if_pos c_4]) hS (lv_sub hl [0, 1] rfl)

theorem bz_isNoWeatherF (x0 x1 : Int32) : bz (isNoWeatherF x0 x1) := by
  unfold isNoWeatherF
  (repeat' split) <;> first | exact Or.inl rfl | exact Or.inr rfl | exact bz_isFromF _ _ _ | exact bz_isWeatherF _ _ | exact bz_areHoursF _ | exact bz_isInF _ _ _ | exact bz_isNoGrowerF _
