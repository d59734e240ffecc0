set_option maxRecDepth 100000
theorem hdJ12_floorDiv : yJ12_floorDiv.cls ≠ "java/lang/invoke/MethodHandle" ∧ yJ12_floorDiv.cls ≠ "java/lang/invoke/VarHandle" ∧ (parseMethodDescriptor yJ12_floorDiv.desc).map (fun d => d.parameters.length) = some 2 := by decide +kernel
theorem hdX10_init : yX10_init.cls ≠ "java/lang/invoke/MethodHandle" ∧ yX10_init.cls ≠ "java/lang/invoke/VarHandle" ∧ (parseMethodDescriptor yX10_init.desc).map (fun d => d.parameters.length) = some 6 := by decide +kernel
theorem hdX1_held : yX1_held.cls ≠ "java/lang/invoke/MethodHandle" ∧ yX1_held.cls ≠ "java/lang/invoke/VarHandle" ∧ (parseMethodDescriptor yX1_held.desc).map (fun d => d.parameters.length) = some 3 := by decide +kernel
theorem hdX3_held : yX3_held.cls ≠ "java/lang/invoke/MethodHandle" ∧ yX3_held.cls ≠ "java/lang/invoke/VarHandle" ∧ (parseMethodDescriptor yX3_held.desc).map (fun d => d.parameters.length) = some 2 := by decide +kernel
theorem hdX5_grow : yX5_grow.cls ≠ "java/lang/invoke/MethodHandle" ∧ yX5_grow.cls ≠ "java/lang/invoke/VarHandle" ∧ (parseMethodDescriptor yX5_grow.desc).map (fun d => d.parameters.length) = some 1 := by decide +kernel
theorem hdX5_init : yX5_init.cls ≠ "java/lang/invoke/MethodHandle" ∧ yX5_init.cls ≠ "java/lang/invoke/VarHandle" ∧ (parseMethodDescriptor yX5_init.desc).map (fun d => d.parameters.length) = some 3 := by decide +kernel
theorem hdX6_init : yX6_init.cls ≠ "java/lang/invoke/MethodHandle" ∧ yX6_init.cls ≠ "java/lang/invoke/VarHandle" ∧ (parseMethodDescriptor yX6_init.desc).map (fun d => d.parameters.length) = some 3 := by decide +kernel
theorem hdX7_init : yX7_init.cls ≠ "java/lang/invoke/MethodHandle" ∧ yX7_init.cls ≠ "java/lang/invoke/VarHandle" ∧ (parseMethodDescriptor yX7_init.desc).map (fun d => d.parameters.length) = some 0 := by decide +kernel
theorem hdX8_init : yX8_init.cls ≠ "java/lang/invoke/MethodHandle" ∧ yX8_init.cls ≠ "java/lang/invoke/VarHandle" ∧ (parseMethodDescriptor yX8_init.desc).map (fun d => d.parameters.length) = some 0 := by decide +kernel
theorem hdX9_init : yX9_init.cls ≠ "java/lang/invoke/MethodHandle" ∧ yX9_init.cls ≠ "java/lang/invoke/VarHandle" ∧ (parseMethodDescriptor yX9_init.desc).map (fun d => d.parameters.length) = some 5 := by decide +kernel
set_option maxHeartbeats 4000000 in
theorem m_F_init (l : Launch) (g : GT) (a : Nat) (gr ar fa : Int32) (ha : bA g a) : Cn l g yX5_init cX5_init 4 (none) 1 0 0 [.ref a, .int gr, .int ar, .int fa] (fun q => q = a) (fun H => mAt g a (.inr (5, [.int 0, .int 0, .int 0, .int 0, .int 0, .int 0, .int 0, .int 0, .int 0, .int 0, .int 0])) H) (fun Hp rv Hq => rv = none ∧ mAt g a (.inr (5, [.int gr, .int ar, .int fa, .int 0, .int 60, .int 0, .int 0, .int 0, .int 0, .int 0, .int 0])) Hq) := by
  refine Cn.start (plainFor_of_name (by decide +kernel)) (Nat.le_of_ble_eq_true rfl) ?_
  intro p ev s m below meth c ls H locs hH hx hb hr hts hown hlocks hml hnm hK hP hS hl
  have h_a := hP
  have fx : Fx p s m ([.ref a, .int gr, .int ar, .int fa] : List Value).toArray c cX5_init RX5 g (fun q => q = a) 4 := ⟨hx, hb, hts, hown, hK, fun q h => by rw [h]; exact ha, hml⟩
  have hl : lv_has ls 4 [(0, .ref a), (1, .int gr), (2, .int ar), (3, .int fa)] := hl
  refine lv_aload_n hx hb dX5_init_0 rfl (lv_at hl 0 rfl) ?_
  refine W.objInit hx hb hown (hts _ q306) (hts _ q86) (hts _ q87) rfl (by rw [hml]; exact hl.1) rfl dX5_init_1 (Nat.le_of_ble_eq_true rfl) (Nat.le_of_ble_eq_true rfl) ?_
  refine W.eq (g2 := F0 m 4 ls []) rfl ?_
  refine lv_aload_n hx hb dX5_init_4 rfl (lv_at hl 0 rfl) ?_
  refine lv_bipush (v := 60) hx hb dX5_init_5 (by decide) ?_
  refine mput fx tfX5 h_a hS rfl 4 (by decide) q317 (fun _ h => h) rfl rfl rfl (Nat.le_of_ble_eq_true rfl) dX5_init_7 (fun H locs hat hz hoq hS => ?_)
  replace h_a : mAt g a (.inr (5, [.int 0, .int 0, .int 0, .int 0, .int 60, .int 0, .int 0, .int 0, .int 0, .int 0, .int 0])) H := hat
  refine lv_aload_n hx hb dX5_init_10 rfl (lv_at hl 0 rfl) ?_
  refine lv_iload_n hx hb dX5_init_11 rfl (lv_at hl 1 rfl) ?_
  refine mputF fx hnm tfX5 h_a hS rfl 0 (by decide) q307 (fun _ h => h) rfl rfl rfl rfl (Nat.le_of_ble_eq_true rfl) dX5_init_12 (fun H locs hat hz hoq hS => ?_)
  replace h_a : mAt g a (.inr (5, [.int gr, .int 0, .int 0, .int 0, .int 60, .int 0, .int 0, .int 0, .int 0, .int 0, .int 0])) H := hat
  refine lv_aload_n hx hb dX5_init_15 rfl (lv_at hl 0 rfl) ?_
  refine lv_iload_n hx hb dX5_init_16 rfl (lv_at hl 2 rfl) ?_
  refine mputF fx hnm tfX5 h_a hS rfl 1 (by decide) q310 (fun _ h => h) rfl rfl rfl rfl (Nat.le_of_ble_eq_true rfl) dX5_init_17 (fun H locs hat hz hoq hS => ?_)
  replace h_a : mAt g a (.inr (5, [.int gr, .int ar, .int 0, .int 0, .int 60, .int 0, .int 0, .int 0, .int 0, .int 0, .int 0])) H := hat
  refine lv_aload_n hx hb dX5_init_20 rfl (lv_at hl 0 rfl) ?_
  refine lv_iload_n hx hb dX5_init_21 rfl (lv_at hl 3 rfl) ?_
  refine mputF fx hnm tfX5 h_a hS rfl 2 (by decide) q312 (fun _ h => h) rfl rfl rfl rfl (Nat.le_of_ble_eq_true rfl) dX5_init_22 (fun H locs hat hz hoq hS => ?_)
  replace h_a : mAt g a (.inr (5, [.int gr, .int ar, .int fa, .int 0, .int 60, .int 0, .int 0, .int 0, .int 0, .int 0, .int 0])) H := hat
  exact rv hx hb hr hlocks hS (⟨rfl, h_a⟩) ⟨(Nat.le_of_ble_eq_true rfl), (Nat.le_of_ble_eq_true rfl)⟩ dX5_init_25

def f_F_grow_3 (c3 c7 c8 all : Int32) : Int32 := let v_2 : Int32 := if c8 = 0 then all else (all / 2); jmin 999 ((c3 + v_2) - ((v_2 * c7) / 100))
set_option maxHeartbeats 4000000 in
theorem m_F_grow (l : Launch) (g : GT) (a : Nat) (c0 c1 c2 c3 c4 c5 c6 c7 c8 c9 c10 : Int32) (all : Int32) (ha : bA g a) : Cn l g yX5_grow cX5_grow 3 (none) 1 0 0 [.ref a, .int all] (fun q => q = a) (fun H => mAt g a (.inr (5, [.int c0, .int c1, .int c2, .int c3, .int c4, .int c5, .int c6, .int c7, .int c8, .int c9, .int c10])) H) (fun Hp rv Hq => rv = none ∧ mAt g a (.inr (5, [.int c0, .int c1, .int c2, .int (f_F_grow_3 c3 c7 c8 all), .int c4, .int c5, .int c6, .int c7, .int c8, .int c9, .int c10])) Hq) := by
  refine Cn.start (plainFor_of_name (by decide +kernel)) (Nat.le_of_ble_eq_true rfl) ?_
  intro p ev s m below meth c ls H locs hH hx hb hr hts hown hlocks hml hnm hK hP hS hl
  have h_a := hP
  have fx : Fx p s m ([.ref a, .int all] : List Value).toArray c cX5_grow RX5 g (fun q => q = a) 3 := ⟨hx, hb, hts, hown, hK, fun q h => by rw [h]; exact ha, hml⟩
  have hl : lv_has ls 3 [(0, .ref a), (1, .int all)] := hl
  refine lv_aload_n hx hb dX5_grow_0 rfl (lv_at hl 0 rfl) ?_
  refine mget fx tfX5 h_a 8 (by decide) q326 (fun _ h => h) (v := .int c8) rfl dX5_grow_1 ?_
  have K_3 : ∀ (locs : List Loc) (ls : Array Slot) (v_2 : Int32), v_2 = (if c8 = 0 then all else (all / 2)) → va_S (fun q => q = a) s.heap H locs → lv_has ls 3 [(0, .ref a), (1, .int all)] → W p l ev (mR 1 0 0) s m ([.ref a, .int all] : List Value).toArray below meth c H locs 0 0 (MQ below (mQ (fun q => q = a) (fun Hp rv Hq => rv = none ∧ mAt g a (.inr (5, [.int c0, .int c1, .int c2, .int (f_F_grow_3 c3 c7 c8 all), .int c4, .int c5, .int c6, .int c7, .int c8, .int c9, .int c10])) Hq)) ([.ref a, .int all] : List Value).toArray s 0 0 (fun q => q = a)) (F0 m 14 ls [.int v_2]) := by
    intro locs ls v_2 hv_2 hS hl
    refine lv_istore_n (lv' := [(2, .int v_2), (0, .ref a), (1, .int all)]) hx hb dX5_grow_14 rfl hl (by decide) rfl (fun ls hl => ?_)
    refine lv_aload_n hx hb dX5_grow_15 rfl (lv_at hl 1 rfl) ?_
    refine lv_sipush (v := 999) hx hb dX5_grow_16 (by decide) ?_
    refine lv_aload_n hx hb dX5_grow_19 rfl (lv_at hl 1 rfl) ?_
    refine mget fx tfX5 h_a 3 (by decide) q315 (fun _ h => h) (v := .int c3) rfl dX5_grow_20 ?_
    refine lv_iload_n hx hb dX5_grow_23 rfl (lv_at hl 0 rfl) ?_
    refine lv_iadd hx hb dX5_grow_24 ?_
    refine lv_iload_n hx hb dX5_grow_25 rfl (lv_at hl 0 rfl) ?_
    refine lv_aload_n hx hb dX5_grow_26 rfl (lv_at hl 1 rfl) ?_
    refine mget fx tfX5 h_a 7 (by decide) q323 (fun _ h => h) (v := .int c7) rfl dX5_grow_27 ?_
    refine lv_imul hx hb dX5_grow_30 ?_
    refine lv_bipush (v := 100) hx hb dX5_grow_31 (by decide) ?_
    refine lv_idiv hx hb dX5_grow_33 (by decide) ?_
    refine lv_isub hx hb dX5_grow_34 ?_
    refine kS fx (m_min l g 999 ((c3 + v_2) - ((v_2 * c7) / 100))) (lw_S q436 q411 q67 q412) hdJ12_min ⟨(Nat.le_of_ble_eq_true rfl), (Nat.le_of_ble_eq_true rfl)⟩ ⟨(Nat.le_of_ble_eq_true rfl), (Nat.le_of_ble_eq_true rfl)⟩ hl.1 hS rfl (Nat.le_of_ble_eq_true rfl) trivial (fun _ h => h.elim) dX5_grow_35 (fun rv9 H locs hQ hz9 hk9 hS => ?_)
    obtain ⟨rfl, rfl⟩ := hQ
    refine W.eq (g2 := F0 m 38 ls [.int (jmin 999 ((c3 + v_2) - ((v_2 * c7) / 100))), .ref a]) rfl ?_
    refine mput fx tfX5 h_a hS rfl 3 (by decide) q315 (fun _ h => h) rfl rfl rfl (Nat.le_of_ble_eq_true rfl) dX5_grow_38 (fun H locs hat hz hoq hS => ?_)
    replace h_a : mAt g a (.inr (5, [.int c0, .int c1, .int c2, .int (jmin 999 ((c3 + v_2) - ((v_2 * c7) / 100))), .int c4, .int c5, .int c6, .int c7, .int c8, .int c9, .int c10])) H := hat
    exact rv hx hb hr hlocks hS (⟨rfl, by rw [show f_F_grow_3 c3 c7 c8 all = jmin 999 ((c3 + v_2) - ((v_2 * c7) / 100)) from (by subst hv_2; simp only [f_F_grow_3])]; exact h_a⟩) ⟨(Nat.le_of_ble_eq_true rfl), (Nat.le_of_ble_eq_true rfl)⟩ dX5_grow_41
  refine lv_if_eq (tgt := 13) hx hb dX5_grow_4 (by decide) (fun c_1 => ?_) (fun c_1 => ?_)
  · skip
    refine lv_iload_n hx hb dX5_grow_13 rfl (lv_at hl 1 rfl) ?_
    exact K_3 _ _ all (by rw [if_pos c_1]) hS (lv_sub hl [0, 1] rfl)
  · skip
    refine lv_iload_n hx hb dX5_grow_7 rfl (lv_at hl 1 rfl) ?_
    refine lv_iconst (v := 2) hx hb dX5_grow_8 (by decide) ?_
    refine lv_idiv hx hb dX5_grow_9 (by decide) ?_
    refine lv_goto (tgt := 14) hx hb dX5_grow_10 (by decide) ?_
    exact K_3 _ _ (all / 2) (by rw [if_neg c_1]) hS (lv_sub hl [0, 1] rfl)

def f_F_endDay_3 (c1 c3 c7 c8 c10 w r : Int32) : Int32 := let v_2 : Int32 := if c10 = 0 then (f_F_grow_3 c3 c7 c8 (c1 * ((jmax 0 (jfdiv w 8)) + (r / 3)))) else c3; v_2
def f_F_endDay_4 (c4 c5 c9 c10 w r : Int32) : Int32 := let v_3 : Int32 := if c10 = 0 then (c5 + 1) else (c5 + 1); let v_6 : Int32 := if v_3 < 10 then 0 else (if 3 ≤ r then 0 else 4); let v_9 : Int32 := if r < 6 then 0 else 2; let v_12 : Int32 := if c9 = 0 then 0 else 6; let v_15 : Int32 := if c10 = 0 then 0 else 5; heldC 0 180 (((c4 + ((v_6 - v_9) + (jmax 0 (jfdiv (20 - w) 10)))) - v_12) - v_15)
def f_F_endDay_5 (c5 c10 : Int32) : Int32 := let v_3 : Int32 := if c10 = 0 then (c5 + 1) else (c5 + 1); v_3
def f_F_endDay_7 (c7 w n : Int32) : Int32 := let v_24 : Int32 := if c7 ≤ 0 then 0 else 1; let v_27 : Int32 := if n ≤ c7 then 0 else (if w < 25 then 0 else 2); heldC 0 100 ((c7 + v_24) + v_27)
def f_F_endDay_8 (c1 c3 c7 c8 c10 w r : Int32) : Int32 := let v_2 : Int32 := if c10 = 0 then (f_F_grow_3 c3 c7 c8 (c1 * ((jmax 0 (jfdiv w 8)) + (r / 3)))) else c3; let v_18 : Int32 := if r < 8 then 0 else (if v_2 < (20 * c1) then 0 else 1); c8 ||| v_18
def f_F_endDay_9 (c9 w : Int32) : Int32 := let v_21 : Int32 := if 2 ≤ w then 0 else 1; c9 ||| v_21
set_option maxHeartbeats 4000000 in
theorem m_F_endDay (l : Launch) (g : GT) (a : Nat) (c0 c1 c2 c3 c4 c5 c6 c7 c8 c9 c10 : Int32) (w r n : Int32) (ha : bA g a) (hzc8 : bz c8) (hzc9 : bz c9) : Cn l g yX5_endDay cX5_endDay 6 (none) 2 0 0 [.ref a, .int w, .int r, .int n] (fun q => q = a) (fun H => mAt g a (.inr (5, [.int c0, .int c1, .int c2, .int c3, .int c4, .int c5, .int c6, .int c7, .int c8, .int c9, .int c10])) H) (fun Hp rv Hq => rv = none ∧ mAt g a (.inr (5, [.int c0, .int c1, .int c2, .int (f_F_endDay_3 c1 c3 c7 c8 c10 w r), .int (f_F_endDay_4 c4 c5 c9 c10 w r), .int (f_F_endDay_5 c5 c10), .int c6, .int (f_F_endDay_7 c7 w n), .int (f_F_endDay_8 c1 c3 c7 c8 c10 w r), .int (f_F_endDay_9 c9 w), .int c10])) Hq) := by
  refine Cn.start (plainFor_of_name (by decide +kernel)) (Nat.le_of_ble_eq_true rfl) ?_
  intro p ev s m below meth c ls H locs hH hx hb hr hts hown hlocks hml hnm hK hP hS hl
  have h_a := hP
  have fx : Fx p s m ([.ref a, .int w, .int r, .int n] : List Value).toArray c cX5_endDay RX5 g (fun q => q = a) 6 := ⟨hx, hb, hts, hown, hK, fun q h => by rw [h]; exact ha, hml⟩
  have hl : lv_has ls 6 [(0, .ref a), (1, .int w), (2, .int r), (3, .int n)] := hl
  refine lv_aload_n hx hb dX5_endDay_0 rfl (lv_at hl 0 rfl) ?_
  refine mget fx tfX5 h_a 7 (by decide) q323 (fun _ h => h) (v := .int c7) rfl dX5_endDay_1 ?_
  refine lv_istore (lv' := [(4, .int c7), (0, .ref a), (1, .int w), (2, .int r), (3, .int n)]) hx hb dX5_endDay_4 hl (by decide) rfl (fun ls hl => ?_)
  refine lv_aload_n hx hb dX5_endDay_6 rfl (lv_at hl 1 rfl) ?_
  refine lv_dup hx hb dX5_endDay_7 rfl ?_
  refine mget fx tfX5 h_a 5 (by decide) q319 (fun _ h => h) (v := .int c5) rfl dX5_endDay_8 ?_
  refine lv_iconst (v := 1) hx hb dX5_endDay_11 (by decide) ?_
  refine lv_iadd hx hb dX5_endDay_12 ?_
  refine mput fx tfX5 h_a hS rfl 5 (by decide) q319 (fun _ h => h) rfl rfl rfl (Nat.le_of_ble_eq_true rfl) dX5_endDay_13 (fun H locs hat hz hoq hS => ?_)
  replace h_a : mAt g a (.inr (5, [.int c0, .int c1, .int c2, .int c3, .int c4, .int (c5 + 1), .int c6, .int c7, .int c8, .int c9, .int c10])) H := hat
  refine lv_aload_n hx hb dX5_endDay_16 rfl (lv_at hl 1 rfl) ?_
  refine mget fx tfX5 h_a 10 (by decide) q330 (fun _ h => h) (v := .int c10) rfl dX5_endDay_17 ?_
  have K_4 : ∀ (H : Heap) (locs : List Loc) (ls : Array Slot) (v_2 : Int32) (v_3 : Int32), v_2 = (if c10 = 0 then (f_F_grow_3 c3 c7 c8 (c1 * ((jmax 0 (jfdiv w 8)) + (r / 3)))) else c3) → v_3 = (if c10 = 0 then (c5 + 1) else (c5 + 1)) → va_S (fun q => q = a) s.heap H locs → mAt g a (.inr (5, [.int c0, .int c1, .int c2, .int v_2, .int c4, .int v_3, .int c6, .int c7, .int c8, .int c9, .int c10])) H → lv_has ls 6 [(4, .int c7), (0, .ref a), (1, .int w), (2, .int r), (3, .int n)] → W p l ev (mR 2 0 0) s m ([.ref a, .int w, .int r, .int n] : List Value).toArray below meth c H locs 0 0 (MQ below (mQ (fun q => q = a) (fun Hp rv Hq => rv = none ∧ mAt g a (.inr (5, [.int c0, .int c1, .int c2, .int (f_F_endDay_3 c1 c3 c7 c8 c10 w r), .int (f_F_endDay_4 c4 c5 c9 c10 w r), .int (f_F_endDay_5 c5 c10), .int c6, .int (f_F_endDay_7 c7 w n), .int (f_F_endDay_8 c1 c3 c7 c8 c10 w r), .int (f_F_endDay_9 c9 w), .int c10])) Hq)) ([.ref a, .int w, .int r, .int n] : List Value).toArray s 0 0 (fun q => q = a)) (F0 m 46 ls []) := by
    intro H locs ls v_2 v_3 hv_2 hv_3 hS h_a hl
    refine lv_aload_n hx hb dX5_endDay_46 rfl (lv_at hl 1 rfl) ?_
    refine mget fx tfX5 h_a 5 (by decide) q319 (fun _ h => h) (v := .int v_3) rfl dX5_endDay_47 ?_
    refine lv_bipush (v := 10) hx hb dX5_endDay_50 (by decide) ?_
    have K_7 : ∀ (locs : List Loc) (ls : Array Slot) (v_6 : Int32), v_6 = (if v_3 < 10 then 0 else (if 3 ≤ r then 0 else 4)) → va_S (fun q => q = a) s.heap H locs → lv_has ls 6 [(4, .int c7), (0, .ref a), (1, .int w), (2, .int r), (3, .int n)] → W p l ev (mR 2 0 0) s m ([.ref a, .int w, .int r, .int n] : List Value).toArray below meth c H locs 0 0 (MQ below (mQ (fun q => q = a) (fun Hp rv Hq => rv = none ∧ mAt g a (.inr (5, [.int c0, .int c1, .int c2, .int (f_F_endDay_3 c1 c3 c7 c8 c10 w r), .int (f_F_endDay_4 c4 c5 c9 c10 w r), .int (f_F_endDay_5 c5 c10), .int c6, .int (f_F_endDay_7 c7 w n), .int (f_F_endDay_8 c1 c3 c7 c8 c10 w r), .int (f_F_endDay_9 c9 w), .int c10])) Hq)) ([.ref a, .int w, .int r, .int n] : List Value).toArray s 0 0 (fun q => q = a)) (F0 m 65 ls [.int v_6]) := by
      intro locs ls v_6 hv_6 hS hl
      refine lv_iload_n hx hb dX5_endDay_65 rfl (lv_at hl 3 rfl) ?_
      refine lv_bipush (v := 6) hx hb dX5_endDay_66 (by decide) ?_
      have K_10 : ∀ (locs : List Loc) (ls : Array Slot) (v_9 : Int32), v_9 = (if r < 6 then 0 else 2) → va_S (fun q => q = a) s.heap H locs → lv_has ls 6 [(4, .int c7), (0, .ref a), (1, .int w), (2, .int r), (3, .int n)] → W p l ev (mR 2 0 0) s m ([.ref a, .int w, .int r, .int n] : List Value).toArray below meth c H locs 0 0 (MQ below (mQ (fun q => q = a) (fun Hp rv Hq => rv = none ∧ mAt g a (.inr (5, [.int c0, .int c1, .int c2, .int (f_F_endDay_3 c1 c3 c7 c8 c10 w r), .int (f_F_endDay_4 c4 c5 c9 c10 w r), .int (f_F_endDay_5 c5 c10), .int c6, .int (f_F_endDay_7 c7 w n), .int (f_F_endDay_8 c1 c3 c7 c8 c10 w r), .int (f_F_endDay_9 c9 w), .int c10])) Hq)) ([.ref a, .int w, .int r, .int n] : List Value).toArray s 0 0 (fun q => q = a)) (F0 m 76 ls [.int v_9, .int v_6]) := by
        intro locs ls v_9 hv_9 hS hl
        refine lv_isub hx hb dX5_endDay_76 ?_
        refine lv_iconst (v := 0) hx hb dX5_endDay_77 (by decide) ?_
        refine lv_bipush (v := 20) hx hb dX5_endDay_78 (by decide) ?_
        refine lv_iload_n hx hb dX5_endDay_80 rfl (lv_at hl 2 rfl) ?_
        refine lv_isub hx hb dX5_endDay_81 ?_
        refine lv_bipush (v := 10) hx hb dX5_endDay_82 (by decide) ?_
        refine kS fx (m_floorDiv l g (20 - w) 10 (by decide)) (lw_S q428 q429 q67 q430) hdJ12_floorDiv ⟨(Nat.le_of_ble_eq_true rfl), (Nat.le_of_ble_eq_true rfl)⟩ ⟨(Nat.le_of_ble_eq_true rfl), (Nat.le_of_ble_eq_true rfl)⟩ hl.1 hS rfl (Nat.le_of_ble_eq_true rfl) trivial (fun _ h => h.elim) dX5_endDay_84 (fun rv9 H locs hQ hz9 hk9 hS => ?_)
        obtain ⟨rfl, rfl⟩ := hQ
        refine W.eq (g2 := F0 m 87 ls [.int (jfdiv (20 - w) 10), .int 0, .int (v_6 - v_9)]) rfl ?_
        refine kS fx (m_max l g 0 (jfdiv (20 - w) 10)) (lw_S q431 q375 q67 q376) hdJ12_max ⟨(Nat.le_of_ble_eq_true rfl), (Nat.le_of_ble_eq_true rfl)⟩ ⟨(Nat.le_of_ble_eq_true rfl), (Nat.le_of_ble_eq_true rfl)⟩ hl.1 hS rfl (Nat.le_of_ble_eq_true rfl) trivial (fun _ h => h.elim) dX5_endDay_87 (fun rv9 H locs hQ hz9 hk9 hS => ?_)
        obtain ⟨rfl, rfl⟩ := hQ
        refine W.eq (g2 := F0 m 90 ls [.int (jmax 0 (jfdiv (20 - w) 10)), .int (v_6 - v_9)]) rfl ?_
        refine lv_iadd hx hb dX5_endDay_90 ?_
        refine lv_istore (lv' := [(5, .int ((v_6 - v_9) + (jmax 0 (jfdiv (20 - w) 10)))), (4, .int c7), (0, .ref a), (1, .int w), (2, .int r), (3, .int n)]) hx hb dX5_endDay_91 hl (by decide) rfl (fun ls hl => ?_)
        refine lv_aload_n hx hb dX5_endDay_93 rfl (lv_at hl 2 rfl) ?_
        refine lv_iconst (v := 0) hx hb dX5_endDay_94 (by decide) ?_
        refine lv_sipush (v := 180) hx hb dX5_endDay_95 (by decide) ?_
        refine lv_aload_n hx hb dX5_endDay_98 rfl (lv_at hl 2 rfl) ?_
        refine mget fx tfX5 h_a 4 (by decide) q317 (fun _ h => h) (v := .int c4) rfl dX5_endDay_99 ?_
        refine lv_iload hx hb dX5_endDay_102 (lv_at hl 0 rfl) ?_
        refine lv_iadd hx hb dX5_endDay_104 ?_
        refine lv_aload_n hx hb dX5_endDay_105 rfl (lv_at hl 2 rfl) ?_
        refine mget fx tfX5 h_a 9 (by decide) q328 (fun _ h => h) (v := .int c9) rfl dX5_endDay_106 ?_
        have K_13 : ∀ (locs : List Loc) (ls : Array Slot) (v_12 : Int32), v_12 = (if c9 = 0 then 0 else 6) → va_S (fun q => q = a) s.heap H locs → lv_has ls 6 [(5, .int ((v_6 - v_9) + (jmax 0 (jfdiv (20 - w) 10)))), (4, .int c7), (0, .ref a), (1, .int w), (2, .int r), (3, .int n)] → W p l ev (mR 2 0 0) s m ([.ref a, .int w, .int r, .int n] : List Value).toArray below meth c H locs 0 0 (MQ below (mQ (fun q => q = a) (fun Hp rv Hq => rv = none ∧ mAt g a (.inr (5, [.int c0, .int c1, .int c2, .int (f_F_endDay_3 c1 c3 c7 c8 c10 w r), .int (f_F_endDay_4 c4 c5 c9 c10 w r), .int (f_F_endDay_5 c5 c10), .int c6, .int (f_F_endDay_7 c7 w n), .int (f_F_endDay_8 c1 c3 c7 c8 c10 w r), .int (f_F_endDay_9 c9 w), .int c10])) Hq)) ([.ref a, .int w, .int r, .int n] : List Value).toArray s 0 0 (fun q => q = a)) (F0 m 118 ls [.int v_12, .int (c4 + ((v_6 - v_9) + (jmax 0 (jfdiv (20 - w) 10)))), .int 180, .int 0, .ref a]) := by
          intro locs ls v_12 hv_12 hS hl
          refine lv_isub hx hb dX5_endDay_118 ?_
          refine lv_aload_n hx hb dX5_endDay_119 rfl (lv_at hl 2 rfl) ?_
          refine mget fx tfX5 h_a 10 (by decide) q330 (fun _ h => h) (v := .int c10) rfl dX5_endDay_120 ?_
          have K_16 : ∀ (locs : List Loc) (ls : Array Slot) (v_15 : Int32), v_15 = (if c10 = 0 then 0 else 5) → va_S (fun q => q = a) s.heap H locs → lv_has ls 6 [(5, .int ((v_6 - v_9) + (jmax 0 (jfdiv (20 - w) 10)))), (4, .int c7), (0, .ref a), (1, .int w), (2, .int r), (3, .int n)] → W p l ev (mR 2 0 0) s m ([.ref a, .int w, .int r, .int n] : List Value).toArray below meth c H locs 0 0 (MQ below (mQ (fun q => q = a) (fun Hp rv Hq => rv = none ∧ mAt g a (.inr (5, [.int c0, .int c1, .int c2, .int (f_F_endDay_3 c1 c3 c7 c8 c10 w r), .int (f_F_endDay_4 c4 c5 c9 c10 w r), .int (f_F_endDay_5 c5 c10), .int c6, .int (f_F_endDay_7 c7 w n), .int (f_F_endDay_8 c1 c3 c7 c8 c10 w r), .int (f_F_endDay_9 c9 w), .int c10])) Hq)) ([.ref a, .int w, .int r, .int n] : List Value).toArray s 0 0 (fun q => q = a)) (F0 m 131 ls [.int v_15, .int ((c4 + ((v_6 - v_9) + (jmax 0 (jfdiv (20 - w) 10)))) - v_12), .int 180, .int 0, .ref a]) := by
            intro locs ls v_15 hv_15 hS hl
            refine lv_isub hx hb dX5_endDay_131 ?_
            refine kSN fx (m_held l g 0 180 (((c4 + ((v_6 - v_9) + (jmax 0 (jfdiv (20 - w) 10)))) - v_12) - v_15)) q439 q50 q437 q438 hdX1_held ⟨(Nat.le_of_ble_eq_true rfl), (Nat.le_of_ble_eq_true rfl)⟩ ⟨(Nat.le_of_ble_eq_true rfl), (Nat.le_of_ble_eq_true rfl)⟩ hl.1 hS rfl (Nat.le_of_ble_eq_true rfl) trivial (fun _ h => h.elim) dX5_endDay_132 (fun rv9 H locs hQ hz9 hk9 hS => ?_)
            obtain ⟨rfl, rfl⟩ := hQ
            refine W.eq (g2 := F0 m 135 ls [.int (heldC 0 180 (((c4 + ((v_6 - v_9) + (jmax 0 (jfdiv (20 - w) 10)))) - v_12) - v_15)), .ref a]) rfl ?_
            refine mput fx tfX5 h_a hS rfl 4 (by decide) q317 (fun _ h => h) rfl rfl rfl (Nat.le_of_ble_eq_true rfl) dX5_endDay_135 (fun H locs hat hz hoq hS => ?_)
            replace h_a : mAt g a (.inr (5, [.int c0, .int c1, .int c2, .int v_2, .int (heldC 0 180 (((c4 + ((v_6 - v_9) + (jmax 0 (jfdiv (20 - w) 10)))) - v_12) - v_15)), .int v_3, .int c6, .int c7, .int c8, .int c9, .int c10])) H := hat
            refine lv_aload_n hx hb dX5_endDay_138 rfl (lv_at hl 2 rfl) ?_
            refine lv_dup hx hb dX5_endDay_139 rfl ?_
            refine mget fx tfX5 h_a 8 (by decide) q326 (fun _ h => h) (v := .int c8) rfl dX5_endDay_140 ?_
            refine lv_iload_n hx hb dX5_endDay_143 rfl (lv_at hl 4 rfl) ?_
            refine lv_bipush (v := 8) hx hb dX5_endDay_144 (by decide) ?_
            have K_19 : ∀ (locs : List Loc) (ls : Array Slot) (v_18 : Int32), v_18 = (if r < 8 then 0 else (if v_2 < (20 * c1) then 0 else 1)) → va_S (fun q => q = a) s.heap H locs → lv_has ls 6 [(5, .int ((v_6 - v_9) + (jmax 0 (jfdiv (20 - w) 10)))), (4, .int c7), (0, .ref a), (1, .int w), (2, .int r), (3, .int n)] → W p l ev (mR 2 0 0) s m ([.ref a, .int w, .int r, .int n] : List Value).toArray below meth c H locs 0 0 (MQ below (mQ (fun q => q = a) (fun Hp rv Hq => rv = none ∧ mAt g a (.inr (5, [.int c0, .int c1, .int c2, .int (f_F_endDay_3 c1 c3 c7 c8 c10 w r), .int (f_F_endDay_4 c4 c5 c9 c10 w r), .int (f_F_endDay_5 c5 c10), .int c6, .int (f_F_endDay_7 c7 w n), .int (f_F_endDay_8 c1 c3 c7 c8 c10 w r), .int (f_F_endDay_9 c9 w), .int c10])) Hq)) ([.ref a, .int w, .int r, .int n] : List Value).toArray s 0 0 (fun q => q = a)) (F0 m 168 ls [.int v_18, .int c8, .ref a]) := by
              intro locs ls v_18 hv_18 hS hl
              have bzv_18 : bz v_18 := by rw [hv_18]; (repeat' split) <;> first | exact Or.inl rfl | exact Or.inr rfl
              refine lv_ior hx hb dX5_endDay_168 ?_
              refine mput fx tfX5 h_a hS rfl 8 (by decide) q326 (fun _ h => h) rfl (nar_z (bz_or hzc8 bzv_18)) (fit_z (bz_or hzc8 bzv_18)) (Nat.le_of_ble_eq_true rfl) dX5_endDay_169 (fun H locs hat hz hoq hS => ?_)
              replace h_a : mAt g a (.inr (5, [.int c0, .int c1, .int c2, .int v_2, .int (heldC 0 180 (((c4 + ((v_6 - v_9) + (jmax 0 (jfdiv (20 - w) 10)))) - v_12) - v_15)), .int v_3, .int c6, .int c7, .int (c8 ||| v_18), .int c9, .int c10])) H := hat
              refine lv_aload_n hx hb dX5_endDay_172 rfl (lv_at hl 2 rfl) ?_
              refine lv_dup hx hb dX5_endDay_173 rfl ?_
              refine mget fx tfX5 h_a 9 (by decide) q328 (fun _ h => h) (v := .int c9) rfl dX5_endDay_174 ?_
              refine lv_iload_n hx hb dX5_endDay_177 rfl (lv_at hl 3 rfl) ?_
              refine lv_iconst (v := 2) hx hb dX5_endDay_178 (by decide) ?_
              have K_22 : ∀ (locs : List Loc) (ls : Array Slot) (v_21 : Int32), v_21 = (if 2 ≤ w then 0 else 1) → va_S (fun q => q = a) s.heap H locs → lv_has ls 6 [(5, .int ((v_6 - v_9) + (jmax 0 (jfdiv (20 - w) 10)))), (4, .int c7), (0, .ref a), (1, .int w), (2, .int r), (3, .int n)] → W p l ev (mR 2 0 0) s m ([.ref a, .int w, .int r, .int n] : List Value).toArray below meth c H locs 0 0 (MQ below (mQ (fun q => q = a) (fun Hp rv Hq => rv = none ∧ mAt g a (.inr (5, [.int c0, .int c1, .int c2, .int (f_F_endDay_3 c1 c3 c7 c8 c10 w r), .int (f_F_endDay_4 c4 c5 c9 c10 w r), .int (f_F_endDay_5 c5 c10), .int c6, .int (f_F_endDay_7 c7 w n), .int (f_F_endDay_8 c1 c3 c7 c8 c10 w r), .int (f_F_endDay_9 c9 w), .int c10])) Hq)) ([.ref a, .int w, .int r, .int n] : List Value).toArray s 0 0 (fun q => q = a)) (F0 m 187 ls [.int v_21, .int c9, .ref a]) := by
                intro locs ls v_21 hv_21 hS hl
                have bzv_21 : bz v_21 := by rw [hv_21]; (repeat' split) <;> first | exact Or.inl rfl | exact Or.inr rfl
                refine lv_ior hx hb dX5_endDay_187 ?_
                refine mput fx tfX5 h_a hS rfl 9 (by decide) q328 (fun _ h => h) rfl (nar_z (bz_or hzc9 bzv_21)) (fit_z (bz_or hzc9 bzv_21)) (Nat.le_of_ble_eq_true rfl) dX5_endDay_188 (fun H locs hat hz hoq hS => ?_)
                replace h_a : mAt g a (.inr (5, [.int c0, .int c1, .int c2, .int v_2, .int (heldC 0 180 (((c4 + ((v_6 - v_9) + (jmax 0 (jfdiv (20 - w) 10)))) - v_12) - v_15)), .int v_3, .int c6, .int c7, .int (c8 ||| v_18), .int (c9 ||| v_21), .int c10])) H := hat
                refine lv_aload_n hx hb dX5_endDay_191 rfl (lv_at hl 2 rfl) ?_
                refine lv_iconst (v := 0) hx hb dX5_endDay_192 (by decide) ?_
                refine lv_bipush (v := 100) hx hb dX5_endDay_193 (by decide) ?_
                refine lv_aload_n hx hb dX5_endDay_195 rfl (lv_at hl 2 rfl) ?_
                refine mget fx tfX5 h_a 7 (by decide) q323 (fun _ h => h) (v := .int c7) rfl dX5_endDay_196 ?_
                refine lv_iload hx hb dX5_endDay_199 (lv_at hl 1 rfl) ?_
                have K_25 : ∀ (locs : List Loc) (ls : Array Slot) (v_24 : Int32), v_24 = (if c7 ≤ 0 then 0 else 1) → va_S (fun q => q = a) s.heap H locs → lv_has ls 6 [(5, .int ((v_6 - v_9) + (jmax 0 (jfdiv (20 - w) 10)))), (4, .int c7), (0, .ref a), (1, .int w), (2, .int r), (3, .int n)] → W p l ev (mR 2 0 0) s m ([.ref a, .int w, .int r, .int n] : List Value).toArray below meth c H locs 0 0 (MQ below (mQ (fun q => q = a) (fun Hp rv Hq => rv = none ∧ mAt g a (.inr (5, [.int c0, .int c1, .int c2, .int (f_F_endDay_3 c1 c3 c7 c8 c10 w r), .int (f_F_endDay_4 c4 c5 c9 c10 w r), .int (f_F_endDay_5 c5 c10), .int c6, .int (f_F_endDay_7 c7 w n), .int (f_F_endDay_8 c1 c3 c7 c8 c10 w r), .int (f_F_endDay_9 c9 w), .int c10])) Hq)) ([.ref a, .int w, .int r, .int n] : List Value).toArray s 0 0 (fun q => q = a)) (F0 m 209 ls [.int v_24, .int c7, .int 100, .int 0, .ref a]) := by
                  intro locs ls v_24 hv_24 hS hl
                  have bzv_24 : bz v_24 := by rw [hv_24]; (repeat' split) <;> first | exact Or.inl rfl | exact Or.inr rfl
                  refine lv_iadd hx hb dX5_endDay_209 ?_
                  refine lv_iload_n hx hb dX5_endDay_210 rfl (lv_at hl 5 rfl) ?_
                  refine lv_iload hx hb dX5_endDay_211 (lv_at hl 1 rfl) ?_
                  have K_28 : ∀ (locs : List Loc) (ls : Array Slot) (v_27 : Int32), v_27 = (if n ≤ c7 then 0 else (if w < 25 then 0 else 2)) → va_S (fun q => q = a) s.heap H locs → lv_has ls 6 [(5, .int ((v_6 - v_9) + (jmax 0 (jfdiv (20 - w) 10)))), (4, .int c7), (0, .ref a), (1, .int w), (2, .int r), (3, .int n)] → W p l ev (mR 2 0 0) s m ([.ref a, .int w, .int r, .int n] : List Value).toArray below meth c H locs 0 0 (MQ below (mQ (fun q => q = a) (fun Hp rv Hq => rv = none ∧ mAt g a (.inr (5, [.int c0, .int c1, .int c2, .int (f_F_endDay_3 c1 c3 c7 c8 c10 w r), .int (f_F_endDay_4 c4 c5 c9 c10 w r), .int (f_F_endDay_5 c5 c10), .int c6, .int (f_F_endDay_7 c7 w n), .int (f_F_endDay_8 c1 c3 c7 c8 c10 w r), .int (f_F_endDay_9 c9 w), .int c10])) Hq)) ([.ref a, .int w, .int r, .int n] : List Value).toArray s 0 0 (fun q => q = a)) (F0 m 227 ls [.int v_27, .int (c7 + v_24), .int 100, .int 0, .ref a]) := by
                    intro locs ls v_27 hv_27 hS hl
                    refine lv_iadd hx hb dX5_endDay_227 ?_
                    refine kSN fx (m_held l g 0 100 ((c7 + v_24) + v_27)) q439 q50 q437 q438 hdX1_held ⟨(Nat.le_of_ble_eq_true rfl), (Nat.le_of_ble_eq_true rfl)⟩ ⟨(Nat.le_of_ble_eq_true rfl), (Nat.le_of_ble_eq_true rfl)⟩ hl.1 hS rfl (Nat.le_of_ble_eq_true rfl) trivial (fun _ h => h.elim) dX5_endDay_228 (fun rv9 H locs hQ hz9 hk9 hS => ?_)
                    obtain ⟨rfl, rfl⟩ := hQ
                    refine W.eq (g2 := F0 m 231 ls [.int (heldC 0 100 ((c7 + v_24) + v_27)), .ref a]) rfl ?_
                    refine mput fx tfX5 h_a hS rfl 7 (by decide) q323 (fun _ h => h) rfl rfl rfl (Nat.le_of_ble_eq_true rfl) dX5_endDay_231 (fun H locs hat hz hoq hS => ?_)
                    replace h_a : mAt g a (.inr (5, [.int c0, .int c1, .int c2, .int v_2, .int (heldC 0 180 (((c4 + ((v_6 - v_9) + (jmax 0 (jfdiv (20 - w) 10)))) - v_12) - v_15)), .int v_3, .int c6, .int (heldC 0 100 ((c7 + v_24) + v_27)), .int (c8 ||| v_18), .int (c9 ||| v_21), .int c10])) H := hat
                    exact rv hx hb hr hlocks hS (⟨rfl, by rw [show f_F_endDay_3 c1 c3 c7 c8 c10 w r = v_2 from (by subst hv_2; subst hv_3; subst hv_6; subst hv_9; subst hv_12; subst hv_15; subst hv_18; subst hv_21; subst hv_24; subst hv_27; simp only [f_F_endDay_3]), show f_F_endDay_4 c4 c5 c9 c10 w r = heldC 0 180 (((c4 + ((v_6 - v_9) + (jmax 0 (jfdiv (20 - w) 10)))) - v_12) - v_15) from (by subst hv_2; subst hv_3; subst hv_6; subst hv_9; subst hv_12; subst hv_15; subst hv_18; subst hv_21; subst hv_24; subst hv_27; simp only [f_F_endDay_4]), show f_F_endDay_5 c5 c10 = v_3 from (by subst hv_2; subst hv_3; subst hv_6; subst hv_9; subst hv_12; subst hv_15; subst hv_18; subst hv_21; subst hv_24; subst hv_27; simp only [f_F_endDay_5]), show f_F_endDay_7 c7 w n = heldC 0 100 ((c7 + v_24) + v_27) from (by subst hv_2; subst hv_3; subst hv_6; subst hv_9; subst hv_12; subst hv_15; subst hv_18; subst hv_21; subst hv_24; subst hv_27; simp only [f_F_endDay_7]), show f_F_endDay_8 c1 c3 c7 c8 c10 w r = c8 ||| v_18 from (by subst hv_2; subst hv_3; subst hv_6; subst hv_9; subst hv_12; subst hv_15; subst hv_18; subst hv_21; subst hv_24; subst hv_27; simp only [f_F_endDay_8]), show f_F_endDay_9 c9 w = c9 ||| v_21 from (by subst hv_2; subst hv_3; subst hv_6; subst hv_9; subst hv_12; subst hv_15; subst hv_18; subst hv_21; subst hv_24; subst hv_27; simp only [f_F_endDay_9])]; exact h_a⟩) ⟨(Nat.le_of_ble_eq_true rfl), (Nat.le_of_ble_eq_true rfl)⟩ dX5_endDay_234
                  refine lv_icmp_le (tgt := 226) hx hb dX5_endDay_213 (by decide) (fun c_26 => ?_) (fun c_26 => ?_)
                  · skip
                    refine lv_iconst (v := 0) hx hb dX5_endDay_226 (by decide) ?_
                    exact K_28 _ _ 0 (by rw [if_pos c_26]) hS (lv_sub hl [0, 1, 2, 3, 4, 5] rfl)
                  · skip
                    refine lv_iload_n hx hb dX5_endDay_216 rfl (lv_at hl 3 rfl) ?_
                    refine lv_bipush (v := 25) hx hb dX5_endDay_217 (by decide) ?_
                    refine lv_icmp_lt (tgt := 226) hx hb dX5_endDay_219 (by decide) (fun c_29 => ?_) (fun c_29 => ?_)
                    · skip
                      refine lv_iconst (v := 0) hx hb dX5_endDay_226 (by decide) ?_
                      exact K_28 _ _ 0 (by rw [if_neg c_26, if_pos c_29]) hS (lv_sub hl [0, 1, 2, 3, 4, 5] rfl)
                    · skip
                      refine lv_iconst (v := 2) hx hb dX5_endDay_222 (by decide) ?_
                      refine lv_goto (tgt := 227) hx hb dX5_endDay_223 (by decide) ?_
                      exact K_28 _ _ 2 (by rw [if_neg c_26, if_neg c_29]) hS (lv_sub hl [0, 1, 2, 3, 4, 5] rfl)
                refine lv_if_le (tgt := 208) hx hb dX5_endDay_201 (by decide) (fun c_23 => ?_) (fun c_23 => ?_)
                · skip
                  refine lv_iconst (v := 0) hx hb dX5_endDay_208 (by decide) ?_
                  exact K_25 _ _ 0 (by rw [if_pos c_23]) hS (lv_sub hl [0, 1, 2, 3, 4, 5] rfl)
                · skip
                  refine lv_iconst (v := 1) hx hb dX5_endDay_204 (by decide) ?_
                  refine lv_goto (tgt := 209) hx hb dX5_endDay_205 (by decide) ?_
                  exact K_25 _ _ 1 (by rw [if_neg c_23]) hS (lv_sub hl [0, 1, 2, 3, 4, 5] rfl)
              refine lv_icmp_ge (tgt := 186) hx hb dX5_endDay_179 (by decide) (fun c_20 => ?_) (fun c_20 => ?_)
              · skip
                refine lv_iconst (v := 0) hx hb dX5_endDay_186 (by decide) ?_
                exact K_22 _ _ 0 (by rw [if_pos c_20]) hS (lv_sub hl [0, 1, 2, 3, 4, 5] rfl)
              · skip
                refine lv_iconst (v := 1) hx hb dX5_endDay_182 (by decide) ?_
                refine lv_goto (tgt := 187) hx hb dX5_endDay_183 (by decide) ?_
                exact K_22 _ _ 1 (by rw [if_neg c_20]) hS (lv_sub hl [0, 1, 2, 3, 4, 5] rfl)
            refine lv_icmp_lt (tgt := 167) hx hb dX5_endDay_146 (by decide) (fun c_17 => ?_) (fun c_17 => ?_)
            · skip
              refine lv_iconst (v := 0) hx hb dX5_endDay_167 (by decide) ?_
              exact K_19 _ _ 0 (by rw [if_pos c_17]) hS (lv_sub hl [0, 1, 2, 3, 4, 5] rfl)
            · skip
              refine lv_aload_n hx hb dX5_endDay_149 rfl (lv_at hl 2 rfl) ?_
              refine mget fx tfX5 h_a 3 (by decide) q315 (fun _ h => h) (v := .int v_2) rfl dX5_endDay_150 ?_
              refine lv_bipush (v := 20) hx hb dX5_endDay_153 (by decide) ?_
              refine lv_aload_n hx hb dX5_endDay_155 rfl (lv_at hl 2 rfl) ?_
              refine mget fx tfX5 h_a 1 (by decide) q310 (fun _ h => h) (v := .int c1) rfl dX5_endDay_156 ?_
              refine lv_imul hx hb dX5_endDay_159 ?_
              refine lv_icmp_lt (tgt := 167) hx hb dX5_endDay_160 (by decide) (fun c_30 => ?_) (fun c_30 => ?_)
              · skip
                refine lv_iconst (v := 0) hx hb dX5_endDay_167 (by decide) ?_
                exact K_19 _ _ 0 (by rw [if_neg c_17, if_pos c_30]) hS (lv_sub hl [0, 1, 2, 3, 4, 5] rfl)
              · skip
                refine lv_iconst (v := 1) hx hb dX5_endDay_163 (by decide) ?_
                refine lv_goto (tgt := 168) hx hb dX5_endDay_164 (by decide) ?_
                exact K_19 _ _ 1 (by rw [if_neg c_17, if_neg c_30]) hS (lv_sub hl [0, 1, 2, 3, 4, 5] rfl)
          refine lv_if_eq (tgt := 130) hx hb dX5_endDay_123 (by decide) (fun c_14 => ?_) (fun c_14 => ?_)
          · skip
            refine lv_iconst (v := 0) hx hb dX5_endDay_130 (by decide) ?_
            exact K_16 _ _ 0 (by rw [if_pos c_14]) hS (lv_sub hl [0, 1, 2, 3, 4, 5] rfl)
          · skip
            refine lv_iconst (v := 5) hx hb dX5_endDay_126 (by decide) ?_
            refine lv_goto (tgt := 131) hx hb dX5_endDay_127 (by decide) ?_
            exact K_16 _ _ 5 (by rw [if_neg c_14]) hS (lv_sub hl [0, 1, 2, 3, 4, 5] rfl)
        refine lv_if_eq (tgt := 117) hx hb dX5_endDay_109 (by decide) (fun c_11 => ?_) (fun c_11 => ?_)
        · skip
          refine lv_iconst (v := 0) hx hb dX5_endDay_117 (by decide) ?_
          exact K_13 _ _ 0 (by rw [if_pos c_11]) hS (lv_sub hl [0, 1, 2, 3, 4, 5] rfl)
        · skip
          refine lv_bipush (v := 6) hx hb dX5_endDay_112 (by decide) ?_
          refine lv_goto (tgt := 118) hx hb dX5_endDay_114 (by decide) ?_
          exact K_13 _ _ 6 (by rw [if_neg c_11]) hS (lv_sub hl [0, 1, 2, 3, 4, 5] rfl)
      refine lv_icmp_lt (tgt := 75) hx hb dX5_endDay_68 (by decide) (fun c_8 => ?_) (fun c_8 => ?_)
      · skip
        refine lv_iconst (v := 0) hx hb dX5_endDay_75 (by decide) ?_
        exact K_10 _ _ 0 (by rw [if_pos c_8]) hS (lv_sub hl [0, 1, 2, 3, 4] rfl)
      · skip
        refine lv_iconst (v := 2) hx hb dX5_endDay_71 (by decide) ?_
        refine lv_goto (tgt := 76) hx hb dX5_endDay_72 (by decide) ?_
        exact K_10 _ _ 2 (by rw [if_neg c_8]) hS (lv_sub hl [0, 1, 2, 3, 4] rfl)
    refine lv_icmp_lt (tgt := 64) hx hb dX5_endDay_52 (by decide) (fun c_5 => ?_) (fun c_5 => ?_)
    · skip
      refine lv_iconst (v := 0) hx hb dX5_endDay_64 (by decide) ?_
      exact K_7 _ _ 0 (by rw [if_pos c_5]) hS (lv_sub hl [0, 1, 2, 3, 4] rfl)
    · skip
      refine lv_iload_n hx hb dX5_endDay_55 rfl (lv_at hl 3 rfl) ?_
      refine lv_iconst (v := 3) hx hb dX5_endDay_56 (by decide) ?_
      refine lv_icmp_ge (tgt := 64) hx hb dX5_endDay_57 (by decide) (fun c_31 => ?_) (fun c_31 => ?_)
      · skip
        refine lv_iconst (v := 0) hx hb dX5_endDay_64 (by decide) ?_
        exact K_7 _ _ 0 (by rw [if_neg c_5, if_pos c_31]) hS (lv_sub hl [0, 1, 2, 3, 4] rfl)
      · skip
        refine lv_iconst (v := 4) hx hb dX5_endDay_60 (by decide) ?_
        refine lv_goto (tgt := 65) hx hb dX5_endDay_61 (by decide) ?_
        exact K_7 _ _ 4 (by rw [if_neg c_5, if_neg c_31]) hS (lv_sub hl [0, 1, 2, 3, 4] rfl)
  refine lv_if_ne (tgt := 46) hx hb dX5_endDay_20 (by decide) (fun c_1 => ?_) (fun c_1 => ?_)
  · skip
    exact K_4 _ _ _ c3 (c5 + 1) (by rw [if_neg c_1]) (by rw [if_neg c_1]) hS h_a (lv_sub hl [0, 1, 2, 3, 4] rfl)
  · skip
    refine lv_aload_n hx hb dX5_endDay_23 rfl (lv_at hl 1 rfl) ?_
    refine lv_aload_n hx hb dX5_endDay_24 rfl (lv_at hl 1 rfl) ?_
    refine mget fx tfX5 h_a 1 (by decide) q310 (fun _ h => h) (v := .int c1) rfl dX5_endDay_25 ?_
    refine lv_iconst (v := 0) hx hb dX5_endDay_28 (by decide) ?_
    refine lv_iload_n hx hb dX5_endDay_29 rfl (lv_at hl 2 rfl) ?_
    refine lv_bipush (v := 8) hx hb dX5_endDay_30 (by decide) ?_
    refine kS fx (m_floorDiv l g w 8 (by decide)) (lw_S q428 q429 q67 q430) hdJ12_floorDiv ⟨(Nat.le_of_ble_eq_true rfl), (Nat.le_of_ble_eq_true rfl)⟩ ⟨(Nat.le_of_ble_eq_true rfl), (Nat.le_of_ble_eq_true rfl)⟩ hl.1 hS rfl (Nat.le_of_ble_eq_true rfl) trivial (fun _ h => h.elim) dX5_endDay_32 (fun rv9 H locs hQ hz9 hk9 hS => ?_)
    obtain ⟨rfl, rfl⟩ := hQ
    refine W.eq (g2 := F0 m 35 ls [.int (jfdiv w 8), .int 0, .int c1, .ref a]) rfl ?_
    refine kS fx (m_max l g 0 (jfdiv w 8)) (lw_S q431 q375 q67 q376) hdJ12_max ⟨(Nat.le_of_ble_eq_true rfl), (Nat.le_of_ble_eq_true rfl)⟩ ⟨(Nat.le_of_ble_eq_true rfl), (Nat.le_of_ble_eq_true rfl)⟩ hl.1 hS rfl (Nat.le_of_ble_eq_true rfl) trivial (fun _ h => h.elim) dX5_endDay_35 (fun rv9 H locs hQ hz9 hk9 hS => ?_)
    obtain ⟨rfl, rfl⟩ := hQ
    refine W.eq (g2 := F0 m 38 ls [.int (jmax 0 (jfdiv w 8)), .int c1, .ref a]) rfl ?_
    refine lv_iload_n hx hb dX5_endDay_38 rfl (lv_at hl 3 rfl) ?_
    refine lv_iconst (v := 3) hx hb dX5_endDay_39 (by decide) ?_
    refine lv_idiv hx hb dX5_endDay_40 (by decide) ?_
    refine lv_iadd hx hb dX5_endDay_41 ?_
    refine lv_imul hx hb dX5_endDay_42 ?_
    refine kV fx (m_F_grow l g a c0 c1 c2 c3 c4 (c5 + 1) c6 c7 c8 c9 c10 (c1 * ((jmax 0 (jfdiv w 8)) + (r / 3))) (fx.2.2.2.2.2.1 _ rfl) ) (lw_V q432 q434 qs8 q65 q435) hdX5_grow ⟨(Nat.le_of_ble_eq_true rfl), (Nat.le_of_ble_eq_true rfl)⟩ ⟨(Nat.le_of_ble_eq_true rfl), (Nat.le_of_ble_eq_true rfl)⟩ hl.1 hS tfX5.2.1 h_a rfl (Nat.le_of_ble_eq_true rfl) h_a (fun q h => by cases h; exact rfl) dX5_endDay_43 (fun rv9 H locs hQ hz9 hk9 hS => ?_)
    obtain ⟨rfl, hat⟩ := hQ
    replace h_a : mAt g a (.inr (5, [.int c0, .int c1, .int c2, .int (f_F_grow_3 c3 c7 c8 (c1 * ((jmax 0 (jfdiv w 8)) + (r / 3)))), .int c4, .int (c5 + 1), .int c6, .int c7, .int c8, .int c9, .int c10])) H := hat
    refine W.eq (g2 := F0 m 46 ls []) rfl ?_
    exact K_4 _ _ _ (f_F_grow_3 c3 c7 c8 (c1 * ((jmax 0 (jfdiv w 8)) + (r / 3)))) (c5 + 1) (by rw [if_pos c_1]) (by rw [if_pos c_1]) hS h_a (lv_sub hl [0, 1, 2, 3, 4] rfl)

def f_F_renew_6 (c6 : Int32) : Int32 := c6 + 1
def f_F_renew_7 (c7 : Int32) : Int32 := c7 / 2
set_option maxHeartbeats 4000000 in
theorem m_F_renew (l : Launch) (g : GT) (a : Nat) (c0 c1 c2 c3 c4 c5 c6 c7 c8 c9 c10 : Int32) (ha : bA g a) : Cn l g yX5_renew cX5_renew 1 (none) 0 0 0 [.ref a] (fun q => q = a) (fun H => mAt g a (.inr (5, [.int c0, .int c1, .int c2, .int c3, .int c4, .int c5, .int c6, .int c7, .int c8, .int c9, .int c10])) H) (fun Hp rv Hq => rv = none ∧ mAt g a (.inr (5, [.int c0, .int c1, .int c2, .int c3, .int 60, .int 0, .int (f_F_renew_6 c6), .int (f_F_renew_7 c7), .int 0, .int 0, .int 0])) Hq) := by
  refine Cn.start (plainFor_of_name (by decide +kernel)) (Nat.le_of_ble_eq_true rfl) ?_
  intro p ev s m below meth c ls H locs hH hx hb hr hts hown hlocks hml hnm hK hP hS hl
  have h_a := hP
  have fx : Fx p s m ([.ref a] : List Value).toArray c cX5_renew RX5 g (fun q => q = a) 1 := ⟨hx, hb, hts, hown, hK, fun q h => by rw [h]; exact ha, hml⟩
  have hl : lv_has ls 1 [(0, .ref a)] := hl
  refine lv_aload_n hx hb dX5_renew_0 rfl (lv_at hl 0 rfl) ?_
  refine lv_dup hx hb dX5_renew_1 rfl ?_
  refine mget fx tfX5 h_a 6 (by decide) q321 (fun _ h => h) (v := .int c6) rfl dX5_renew_2 ?_
  refine lv_iconst (v := 1) hx hb dX5_renew_5 (by decide) ?_
  refine lv_iadd hx hb dX5_renew_6 ?_
  refine mput fx tfX5 h_a hS rfl 6 (by decide) q321 (fun _ h => h) rfl rfl rfl (Nat.le_of_ble_eq_true rfl) dX5_renew_7 (fun H locs hat hz hoq hS => ?_)
  replace h_a : mAt g a (.inr (5, [.int c0, .int c1, .int c2, .int c3, .int c4, .int c5, .int (c6 + 1), .int c7, .int c8, .int c9, .int c10])) H := hat
  refine lv_aload_n hx hb dX5_renew_10 rfl (lv_at hl 0 rfl) ?_
  refine lv_iconst (v := 0) hx hb dX5_renew_11 (by decide) ?_
  refine mput fx tfX5 h_a hS rfl 5 (by decide) q319 (fun _ h => h) rfl rfl rfl (Nat.le_of_ble_eq_true rfl) dX5_renew_12 (fun H locs hat hz hoq hS => ?_)
  replace h_a : mAt g a (.inr (5, [.int c0, .int c1, .int c2, .int c3, .int c4, .int 0, .int (c6 + 1), .int c7, .int c8, .int c9, .int c10])) H := hat
  refine lv_aload_n hx hb dX5_renew_15 rfl (lv_at hl 0 rfl) ?_
  refine lv_bipush (v := 60) hx hb dX5_renew_16 (by decide) ?_
  refine mput fx tfX5 h_a hS rfl 4 (by decide) q317 (fun _ h => h) rfl rfl rfl (Nat.le_of_ble_eq_true rfl) dX5_renew_18 (fun H locs hat hz hoq hS => ?_)
  replace h_a : mAt g a (.inr (5, [.int c0, .int c1, .int c2, .int c3, .int 60, .int 0, .int (c6 + 1), .int c7, .int c8, .int c9, .int c10])) H := hat
  refine lv_aload_n hx hb dX5_renew_21 rfl (lv_at hl 0 rfl) ?_
  refine lv_dup hx hb dX5_renew_22 rfl ?_
  refine mget fx tfX5 h_a 7 (by decide) q323 (fun _ h => h) (v := .int c7) rfl dX5_renew_23 ?_
  refine lv_iconst (v := 2) hx hb dX5_renew_26 (by decide) ?_
  refine lv_idiv hx hb dX5_renew_27 (by decide) ?_
  refine mput fx tfX5 h_a hS rfl 7 (by decide) q323 (fun _ h => h) rfl rfl rfl (Nat.le_of_ble_eq_true rfl) dX5_renew_28 (fun H locs hat hz hoq hS => ?_)
  replace h_a : mAt g a (.inr (5, [.int c0, .int c1, .int c2, .int c3, .int 60, .int 0, .int (c6 + 1), .int (c7 / 2), .int c8, .int c9, .int c10])) H := hat
  refine lv_aload_n hx hb dX5_renew_31 rfl (lv_at hl 0 rfl) ?_
  refine lv_iconst (v := 0) hx hb dX5_renew_32 (by decide) ?_
  refine mput fx tfX5 h_a hS rfl 8 (by decide) q326 (fun _ h => h) rfl rfl rfl (Nat.le_of_ble_eq_true rfl) dX5_renew_33 (fun H locs hat hz hoq hS => ?_)
  replace h_a : mAt g a (.inr (5, [.int c0, .int c1, .int c2, .int c3, .int 60, .int 0, .int (c6 + 1), .int (c7 / 2), .int 0, .int c9, .int c10])) H := hat
  refine lv_aload_n hx hb dX5_renew_36 rfl (lv_at hl 0 rfl) ?_
  refine lv_iconst (v := 0) hx hb dX5_renew_37 (by decide) ?_
  refine mput fx tfX5 h_a hS rfl 9 (by decide) q328 (fun _ h => h) rfl rfl rfl (Nat.le_of_ble_eq_true rfl) dX5_renew_38 (fun H locs hat hz hoq hS => ?_)
  replace h_a : mAt g a (.inr (5, [.int c0, .int c1, .int c2, .int c3, .int 60, .int 0, .int (c6 + 1), .int (c7 / 2), .int 0, .int 0, .int c10])) H := hat
  refine lv_aload_n hx hb dX5_renew_41 rfl (lv_at hl 0 rfl) ?_
  refine lv_iconst (v := 0) hx hb dX5_renew_42 (by decide) ?_
  refine mput fx tfX5 h_a hS rfl 10 (by decide) q330 (fun _ h => h) rfl rfl rfl (Nat.le_of_ble_eq_true rfl) dX5_renew_43 (fun H locs hat hz hoq hS => ?_)
  replace h_a : mAt g a (.inr (5, [.int c0, .int c1, .int c2, .int c3, .int 60, .int 0, .int (c6 + 1), .int (c7 / 2), .int 0, .int 0, .int 0])) H := hat
  exact rv hx hb hr hlocks hS (⟨rfl, by rw [show f_F_renew_6 c6 = c6 + 1 from rfl, show f_F_renew_7 c7 = c7 / 2 from rfl]; exact h_a⟩) ⟨(Nat.le_of_ble_eq_true rfl), (Nat.le_of_ble_eq_true rfl)⟩ dX5_renew_46

set_option maxHeartbeats 4000000 in
theorem m_F_copy (l : Launch) (g : GT) (a sz : Nat) (c0 c1 c2 c3 c4 c5 c6 c7 c8 c9 c10 : Int32) (hzc8 : bz c8) (hzc9 : bz c9) (hzc10 : bz c10) : Cn l g yX5_copy cX5_copy 2 ((some (.object "Canecrush$Field"))) 2 1 11 [.ref a] (fun q => sz ≤ q) (fun H => sz = H.size ∧ mAt g a (.inr (5, [.int c0, .int c1, .int c2, .int c3, .int c4, .int c5, .int c6, .int c7, .int c8, .int c9, .int c10])) H) (fun Hp rv Hq => ∃ q, rv = some (.ref q) ∧ sz ≤ q ∧ mAt g q (.inr (5, [.int c0, .int c1, .int c2, .int c3, .int c4, .int c5, .int c6, .int c7, .int c8, .int c9, .int c10])) Hq) := by
  refine Cn.start (plainFor_of_name (by decide +kernel)) (Nat.le_of_ble_eq_true rfl) ?_
  intro p ev s m below meth c ls H locs hH hx hb hr hts hown hlocks hml hnm hK hP hS hl
  obtain ⟨hsz, h_a⟩ := hP
  have hszs : sz = s.heap.size := by rw [hsz, hH]
  have hAs : ∀ q, s.heap.size ≤ q → sz ≤ q := fun q h => by rw [hszs]; exact h
  have hAb : ∀ q, sz ≤ q → bA g q := fun q h => Nat.le_trans hK.2.2.sz (by rw [← hszs]; exact h)
  have fx : Fx p s m ([.ref a] : List Value).toArray c cX5_copy RX5 g (fun q => sz ≤ q) 2 := ⟨hx, hb, hts, hown, hK, hAb, hml⟩
  have hl : lv_has ls 2 [(0, .ref a)] := hl
  refine mnew fx [.int 0, .int 0, .int 0, .int 0, .int 0, .int 0, .int 0, .int 0, .int 0, .int 0, .int 0] tfX5 q301 q302 q65 hS dv_X5 ⟨(Nat.le_of_ble_eq_true rfl), (Nat.le_of_ble_eq_true rfl)⟩ dX5_copy_0 (fun an_2 H ean_2 hloan_2 hat hz hoq hS => ?_)
  have ne_3 : a ≠ an_2 := Nat.ne_of_lt (by rw [ean_2]; exact h_a.lt)
  replace h_a := h_a.kept (hoq _ (by rw [ean_2]; exact h_a.lt))
  have inan_2 := hAs an_2 hloan_2
  have hn_1 : mAt g an_2 (.inr (5, [.int 0, .int 0, .int 0, .int 0, .int 0, .int 0, .int 0, .int 0, .int 0, .int 0, .int 0])) H := hat
  refine lv_dup hx hb dX5_copy_3 rfl ?_
  refine lv_aload_n hx hb dX5_copy_4 rfl (lv_at hl 0 rfl) ?_
  refine mget fx tfX5 h_a 0 (by decide) q307 (fun _ h => h) (v := .int c0) rfl dX5_copy_5 ?_
  refine lv_aload_n hx hb dX5_copy_8 rfl (lv_at hl 0 rfl) ?_
  refine mget fx tfX5 h_a 1 (by decide) q310 (fun _ h => h) (v := .int c1) rfl dX5_copy_9 ?_
  refine lv_aload_n hx hb dX5_copy_12 rfl (lv_at hl 0 rfl) ?_
  refine mget fx tfX5 h_a 2 (by decide) q312 (fun _ h => h) (v := .int c2) rfl dX5_copy_13 ?_
  refine kI fx (m_F_init l g an_2  c0 c1 c2 (fx.2.2.2.2.2.1 _ inan_2) ) q305 q65 q303 q304 rfl hdX5_init ⟨(Nat.le_of_ble_eq_true rfl), (Nat.le_of_ble_eq_true rfl)⟩ ⟨(Nat.le_of_ble_eq_true rfl), (Nat.le_of_ble_eq_true rfl)⟩ hl.1 hS rfl (Nat.le_of_ble_eq_true rfl) hn_1 (fun q h => by cases h; exact inan_2) dX5_copy_16 (fun rv9 H locs hQ hz9 hk9 hS => ?_)
  obtain ⟨rfl, hat⟩ := hQ
  replace h_a := h_a.kept (hk9 _ h_a.lt ne_3)
  replace hn_1 : mAt g an_2 (.inr (5, [.int c0, .int c1, .int c2, .int 0, .int 60, .int 0, .int 0, .int 0, .int 0, .int 0, .int 0])) H := hat
  refine W.eq (g2 := F0 m 19 ls [.ref an_2]) rfl ?_
  refine lv_astore_n (lv' := [(1, .ref an_2), (0, .ref a)]) hx hb dX5_copy_19 rfl hl (by decide) rfl (fun ls hl => ?_)
  refine lv_aload_n hx hb dX5_copy_20 rfl (lv_at hl 0 rfl) ?_
  refine lv_aload_n hx hb dX5_copy_21 rfl (lv_at hl 1 rfl) ?_
  refine mget fx tfX5 h_a 3 (by decide) q315 (fun _ h => h) (v := .int c3) rfl dX5_copy_22 ?_
  refine mput fx tfX5 hn_1 hS inan_2 3 (by decide) q315 (fun _ h => h) rfl rfl rfl (Nat.le_of_ble_eq_true rfl) dX5_copy_25 (fun H locs hat hz hoq hS => ?_)
  replace h_a := h_a.kept (hoq _ ne_3)
  replace hn_1 : mAt g an_2 (.inr (5, [.int c0, .int c1, .int c2, .int c3, .int 60, .int 0, .int 0, .int 0, .int 0, .int 0, .int 0])) H := hat
  refine lv_aload_n hx hb dX5_copy_28 rfl (lv_at hl 0 rfl) ?_
  refine lv_aload_n hx hb dX5_copy_29 rfl (lv_at hl 1 rfl) ?_
  refine mget fx tfX5 h_a 4 (by decide) q317 (fun _ h => h) (v := .int c4) rfl dX5_copy_30 ?_
  refine mput fx tfX5 hn_1 hS inan_2 4 (by decide) q317 (fun _ h => h) rfl rfl rfl (Nat.le_of_ble_eq_true rfl) dX5_copy_33 (fun H locs hat hz hoq hS => ?_)
  replace h_a := h_a.kept (hoq _ ne_3)
  replace hn_1 : mAt g an_2 (.inr (5, [.int c0, .int c1, .int c2, .int c3, .int c4, .int 0, .int 0, .int 0, .int 0, .int 0, .int 0])) H := hat
  refine lv_aload_n hx hb dX5_copy_36 rfl (lv_at hl 0 rfl) ?_
  refine lv_aload_n hx hb dX5_copy_37 rfl (lv_at hl 1 rfl) ?_
  refine mget fx tfX5 h_a 5 (by decide) q319 (fun _ h => h) (v := .int c5) rfl dX5_copy_38 ?_
  refine mput fx tfX5 hn_1 hS inan_2 5 (by decide) q319 (fun _ h => h) rfl rfl rfl (Nat.le_of_ble_eq_true rfl) dX5_copy_41 (fun H locs hat hz hoq hS => ?_)
  replace h_a := h_a.kept (hoq _ ne_3)
  replace hn_1 : mAt g an_2 (.inr (5, [.int c0, .int c1, .int c2, .int c3, .int c4, .int c5, .int 0, .int 0, .int 0, .int 0, .int 0])) H := hat
  refine lv_aload_n hx hb dX5_copy_44 rfl (lv_at hl 0 rfl) ?_
  refine lv_aload_n hx hb dX5_copy_45 rfl (lv_at hl 1 rfl) ?_
  refine mget fx tfX5 h_a 6 (by decide) q321 (fun _ h => h) (v := .int c6) rfl dX5_copy_46 ?_
  refine mput fx tfX5 hn_1 hS inan_2 6 (by decide) q321 (fun _ h => h) rfl rfl rfl (Nat.le_of_ble_eq_true rfl) dX5_copy_49 (fun H locs hat hz hoq hS => ?_)
  replace h_a := h_a.kept (hoq _ ne_3)
  replace hn_1 : mAt g an_2 (.inr (5, [.int c0, .int c1, .int c2, .int c3, .int c4, .int c5, .int c6, .int 0, .int 0, .int 0, .int 0])) H := hat
  refine lv_aload_n hx hb dX5_copy_52 rfl (lv_at hl 0 rfl) ?_
  refine lv_aload_n hx hb dX5_copy_53 rfl (lv_at hl 1 rfl) ?_
  refine mget fx tfX5 h_a 7 (by decide) q323 (fun _ h => h) (v := .int c7) rfl dX5_copy_54 ?_
  refine mput fx tfX5 hn_1 hS inan_2 7 (by decide) q323 (fun _ h => h) rfl rfl rfl (Nat.le_of_ble_eq_true rfl) dX5_copy_57 (fun H locs hat hz hoq hS => ?_)
  replace h_a := h_a.kept (hoq _ ne_3)
  replace hn_1 : mAt g an_2 (.inr (5, [.int c0, .int c1, .int c2, .int c3, .int c4, .int c5, .int c6, .int c7, .int 0, .int 0, .int 0])) H := hat
  refine lv_aload_n hx hb dX5_copy_60 rfl (lv_at hl 0 rfl) ?_
  refine lv_aload_n hx hb dX5_copy_61 rfl (lv_at hl 1 rfl) ?_
  refine mget fx tfX5 h_a 8 (by decide) q326 (fun _ h => h) (v := .int c8) rfl dX5_copy_62 ?_
  refine mput fx tfX5 hn_1 hS inan_2 8 (by decide) q326 (fun _ h => h) rfl (nar_z hzc8) (fit_z hzc8) (Nat.le_of_ble_eq_true rfl) dX5_copy_65 (fun H locs hat hz hoq hS => ?_)
  replace h_a := h_a.kept (hoq _ ne_3)
  replace hn_1 : mAt g an_2 (.inr (5, [.int c0, .int c1, .int c2, .int c3, .int c4, .int c5, .int c6, .int c7, .int c8, .int 0, .int 0])) H := hat
  refine lv_aload_n hx hb dX5_copy_68 rfl (lv_at hl 0 rfl) ?_
  refine lv_aload_n hx hb dX5_copy_69 rfl (lv_at hl 1 rfl) ?_
  refine mget fx tfX5 h_a 9 (by decide) q328 (fun _ h => h) (v := .int c9) rfl dX5_copy_70 ?_
  refine mput fx tfX5 hn_1 hS inan_2 9 (by decide) q328 (fun _ h => h) rfl (nar_z hzc9) (fit_z hzc9) (Nat.le_of_ble_eq_true rfl) dX5_copy_73 (fun H locs hat hz hoq hS => ?_)
  replace h_a := h_a.kept (hoq _ ne_3)
  replace hn_1 : mAt g an_2 (.inr (5, [.int c0, .int c1, .int c2, .int c3, .int c4, .int c5, .int c6, .int c7, .int c8, .int c9, .int 0])) H := hat
  refine lv_aload_n hx hb dX5_copy_76 rfl (lv_at hl 0 rfl) ?_
  refine lv_aload_n hx hb dX5_copy_77 rfl (lv_at hl 1 rfl) ?_
  refine mget fx tfX5 h_a 10 (by decide) q330 (fun _ h => h) (v := .int c10) rfl dX5_copy_78 ?_
  refine mput fx tfX5 hn_1 hS inan_2 10 (by decide) q330 (fun _ h => h) rfl (nar_z hzc10) (fit_z hzc10) (Nat.le_of_ble_eq_true rfl) dX5_copy_81 (fun H locs hat hz hoq hS => ?_)
  replace h_a := h_a.kept (hoq _ ne_3)
  replace hn_1 : mAt g an_2 (.inr (5, [.int c0, .int c1, .int c2, .int c3, .int c4, .int c5, .int c6, .int c7, .int c8, .int c9, .int c10])) H := hat
  refine lv_aload_n hx hb dX5_copy_84 rfl (lv_at hl 0 rfl) ?_
  exact ra hx hb hr (Or.inl ⟨_, rfl⟩) hlocks hS (⟨an_2, rfl, by rw [hszs]; exact hloan_2, hn_1⟩) ⟨(Nat.le_of_ble_eq_true rfl), (Nat.le_of_ble_eq_true rfl)⟩ dX5_copy_85

def f_L_init_2 (bu : Int32) : Int32 := let v_2 : Int32 := if bu = 0 then 8 else 2; v_2
set_option maxHeartbeats 4000000 in
theorem m_L_init (l : Launch) (g : GT) (a : Nat) (fi to sw bu cu : Int32) (ha : bA g a) (hzbu : bz bu) : Cn l g yX9_init cX9_init 6 (none) 1 0 0 [.ref a, .int fi, .int to, .int sw, .int bu, .int cu] (fun q => q = a) (fun H => mAt g a (.inr (9, [.int 0, .int 0, .int 0, .int 0, .int 0, .int 0, .int 0, .int 0, .int 0])) H) (fun Hp rv Hq => rv = none ∧ mAt g a (.inr (9, [.int fi, .int to, .int (f_L_init_2 bu), .int bu, .int cu, .int sw, .int 0, .int 0, .int (-1)])) Hq) := by
  refine Cn.start (plainFor_of_name (by decide +kernel)) (Nat.le_of_ble_eq_true rfl) ?_
  intro p ev s m below meth c ls H locs hH hx hb hr hts hown hlocks hml hnm hK hP hS hl
  have h_a := hP
  have fx : Fx p s m ([.ref a, .int fi, .int to, .int sw, .int bu, .int cu] : List Value).toArray c cX9_init RX9 g (fun q => q = a) 6 := ⟨hx, hb, hts, hown, hK, fun q h => by rw [h]; exact ha, hml⟩
  have hl : lv_has ls 6 [(0, .ref a), (1, .int fi), (2, .int to), (3, .int sw), (4, .int bu), (5, .int cu)] := hl
  refine lv_aload_n hx hb dX9_init_0 rfl (lv_at hl 0 rfl) ?_
  refine W.objInit hx hb hown (hts _ q508) (hts _ q86) (hts _ q87) rfl (by rw [hml]; exact hl.1) rfl dX9_init_1 (Nat.le_of_ble_eq_true rfl) (Nat.le_of_ble_eq_true rfl) ?_
  refine W.eq (g2 := F0 m 4 ls []) rfl ?_
  refine lv_aload_n hx hb dX9_init_4 rfl (lv_at hl 0 rfl) ?_
  refine lv_iconst (v := 0) hx hb dX9_init_5 (by decide) ?_
  refine mput fx tfX9 h_a hS rfl 6 (by decide) q524 (fun _ h => h) rfl rfl rfl (Nat.le_of_ble_eq_true rfl) dX9_init_6 (fun H locs hat hz hoq hS => ?_)
  replace h_a : mAt g a (.inr (9, [.int 0, .int 0, .int 0, .int 0, .int 0, .int 0, .int 0, .int 0, .int 0])) H := hat
  refine lv_aload_n hx hb dX9_init_9 rfl (lv_at hl 0 rfl) ?_
  refine lv_iconst (v := (-1)) hx hb dX9_init_10 (by decide) ?_
  refine mput fx tfX9 h_a hS rfl 8 (by decide) q529 (fun _ h => h) rfl rfl rfl (Nat.le_of_ble_eq_true rfl) dX9_init_11 (fun H locs hat hz hoq hS => ?_)
  replace h_a : mAt g a (.inr (9, [.int 0, .int 0, .int 0, .int 0, .int 0, .int 0, .int 0, .int 0, .int (-1)])) H := hat
  refine lv_aload_n hx hb dX9_init_14 rfl (lv_at hl 0 rfl) ?_
  refine lv_iload_n hx hb dX9_init_15 rfl (lv_at hl 1 rfl) ?_
  refine mputF fx hnm tfX9 h_a hS rfl 0 (by decide) q509 (fun _ h => h) rfl rfl rfl rfl (Nat.le_of_ble_eq_true rfl) dX9_init_16 (fun H locs hat hz hoq hS => ?_)
  replace h_a : mAt g a (.inr (9, [.int fi, .int 0, .int 0, .int 0, .int 0, .int 0, .int 0, .int 0, .int (-1)])) H := hat
  refine lv_aload_n hx hb dX9_init_19 rfl (lv_at hl 0 rfl) ?_
  refine lv_iload_n hx hb dX9_init_20 rfl (lv_at hl 2 rfl) ?_
  refine mputF fx hnm tfX9 h_a hS rfl 1 (by decide) q512 (fun _ h => h) rfl rfl rfl rfl (Nat.le_of_ble_eq_true rfl) dX9_init_21 (fun H locs hat hz hoq hS => ?_)
  replace h_a : mAt g a (.inr (9, [.int fi, .int to, .int 0, .int 0, .int 0, .int 0, .int 0, .int 0, .int (-1)])) H := hat
  refine lv_aload_n hx hb dX9_init_24 rfl (lv_at hl 0 rfl) ?_
  refine lv_iload_n hx hb dX9_init_25 rfl (lv_at hl 3 rfl) ?_
  refine mput fx tfX9 h_a hS rfl 5 (by decide) q521 (fun _ h => h) rfl rfl rfl (Nat.le_of_ble_eq_true rfl) dX9_init_26 (fun H locs hat hz hoq hS => ?_)
  replace h_a : mAt g a (.inr (9, [.int fi, .int to, .int 0, .int 0, .int 0, .int sw, .int 0, .int 0, .int (-1)])) H := hat
  refine lv_aload_n hx hb dX9_init_29 rfl (lv_at hl 0 rfl) ?_
  refine lv_iload hx hb dX9_init_30 (lv_at hl 4 rfl) ?_
  refine mputF fx hnm tfX9 h_a hS rfl 3 (by decide) q518 (fun _ h => h) rfl rfl (nar_z hzbu) (fit_z hzbu) (Nat.le_of_ble_eq_true rfl) dX9_init_32 (fun H locs hat hz hoq hS => ?_)
  replace h_a : mAt g a (.inr (9, [.int fi, .int to, .int 0, .int bu, .int 0, .int sw, .int 0, .int 0, .int (-1)])) H := hat
  refine lv_aload_n hx hb dX9_init_35 rfl (lv_at hl 0 rfl) ?_
  refine lv_iload hx hb dX9_init_36 (lv_at hl 5 rfl) ?_
  refine mputF fx hnm tfX9 h_a hS rfl 4 (by decide) q519 (fun _ h => h) rfl rfl rfl rfl (Nat.le_of_ble_eq_true rfl) dX9_init_38 (fun H locs hat hz hoq hS => ?_)
  replace h_a : mAt g a (.inr (9, [.int fi, .int to, .int 0, .int bu, .int cu, .int sw, .int 0, .int 0, .int (-1)])) H := hat
  refine lv_aload_n hx hb dX9_init_41 rfl (lv_at hl 0 rfl) ?_
  refine lv_iload hx hb dX9_init_42 (lv_at hl 4 rfl) ?_
  have K_3 : ∀ (locs : List Loc) (ls : Array Slot) (v_2 : Int32), v_2 = (if bu = 0 then 8 else 2) → va_S (fun q => q = a) s.heap H locs → lv_has ls 6 [(0, .ref a), (1, .int fi), (2, .int to), (3, .int sw), (4, .int bu), (5, .int cu)] → W p l ev (mR 1 0 0) s m ([.ref a, .int fi, .int to, .int sw, .int bu, .int cu] : List Value).toArray below meth c H locs 0 0 (MQ below (mQ (fun q => q = a) (fun Hp rv Hq => rv = none ∧ mAt g a (.inr (9, [.int fi, .int to, .int (f_L_init_2 bu), .int bu, .int cu, .int sw, .int 0, .int 0, .int (-1)])) Hq)) ([.ref a, .int fi, .int to, .int sw, .int bu, .int cu] : List Value).toArray s 0 0 (fun q => q = a)) (F0 m 53 ls [.int v_2, .ref a]) := by
    intro locs ls v_2 hv_2 hS hl
    refine mputF fx hnm tfX9 h_a hS rfl 2 (by decide) q515 (fun _ h => h) rfl rfl rfl rfl (Nat.le_of_ble_eq_true rfl) dX9_init_53 (fun H locs hat hz hoq hS => ?_)
    replace h_a : mAt g a (.inr (9, [.int fi, .int to, .int v_2, .int bu, .int cu, .int sw, .int 0, .int 0, .int (-1)])) H := hat
    exact rv hx hb hr hlocks hS (⟨rfl, by rw [show f_L_init_2 bu = v_2 from (by subst hv_2; simp only [f_L_init_2])]; exact h_a⟩) ⟨(Nat.le_of_ble_eq_true rfl), (Nat.le_of_ble_eq_true rfl)⟩ dX9_init_56
  refine lv_if_eq (tgt := 51) hx hb dX9_init_44 (by decide) (fun c_1 => ?_) (fun c_1 => ?_)
  · skip
    refine lv_bipush (v := 8) hx hb dX9_init_51 (by decide) ?_
    exact K_3 _ _ 8 (by rw [if_pos c_1]) hS (lv_sub hl [0, 1, 2, 3, 4, 5] rfl)
  · skip
    refine lv_iconst (v := 2) hx hb dX9_init_47 (by decide) ?_
    refine lv_goto (tgt := 53) hx hb dX9_init_48 (by decide) ?_
    exact K_3 _ _ 2 (by rw [if_neg c_1]) hS (lv_sub hl [0, 1, 2, 3, 4, 5] rfl)

def f_L_spoil_5 (c3 c5 c6 w : Int32) : Int32 := let v_2 : Int32 := if c6 = 3 then c5 else (jmax 0 (((c5 - 1) - (if w < 30 then 0 else 1)) - (if c3 = 0 then 0 else 1))); v_2
set_option maxHeartbeats 4000000 in
theorem m_L_spoil (l : Launch) (g : GT) (a : Nat) (c0 c1 c2 c3 c4 c5 c6 c7 c8 : Int32) (w : Int32) (ha : bA g a) : Cn l g yX9_spoil cX9_spoil 2 (none) 1 0 0 [.ref a, .int w] (fun q => q = a) (fun H => mAt g a (.inr (9, [.int c0, .int c1, .int c2, .int c3, .int c4, .int c5, .int c6, .int c7, .int c8])) H) (fun Hp rv Hq => rv = none ∧ mAt g a (.inr (9, [.int c0, .int c1, .int c2, .int c3, .int c4, .int (f_L_spoil_5 c3 c5 c6 w), .int c6, .int c7, .int c8])) Hq) := by
  refine Cn.start (plainFor_of_name (by decide +kernel)) (Nat.le_of_ble_eq_true rfl) ?_
  intro p ev s m below meth c ls H locs hH hx hb hr hts hown hlocks hml hnm hK hP hS hl
  have h_a := hP
  have fx : Fx p s m ([.ref a, .int w] : List Value).toArray c cX9_spoil RX9 g (fun q => q = a) 2 := ⟨hx, hb, hts, hown, hK, fun q h => by rw [h]; exact ha, hml⟩
  have hl : lv_has ls 2 [(0, .ref a), (1, .int w)] := hl
  refine lv_aload_n hx hb dX9_spoil_0 rfl (lv_at hl 0 rfl) ?_
  refine mget fx tfX9 h_a 6 (by decide) q524 (fun _ h => h) (v := .int c6) rfl dX9_spoil_1 ?_
  refine lv_iconst (v := 3) hx hb dX9_spoil_4 (by decide) ?_
  have K_3 : ∀ (H : Heap) (locs : List Loc) (ls : Array Slot) (v_2 : Int32), v_2 = (if c6 = 3 then c5 else (jmax 0 (((c5 - 1) - (if w < 30 then 0 else 1)) - (if c3 = 0 then 0 else 1)))) → va_S (fun q => q = a) s.heap H locs → mAt g a (.inr (9, [.int c0, .int c1, .int c2, .int c3, .int c4, .int v_2, .int c6, .int c7, .int c8])) H → lv_has ls 2 [(0, .ref a), (1, .int w)] → W p l ev (mR 1 0 0) s m ([.ref a, .int w] : List Value).toArray below meth c H locs 0 0 (MQ below (mQ (fun q => q = a) (fun Hp rv Hq => rv = none ∧ mAt g a (.inr (9, [.int c0, .int c1, .int c2, .int c3, .int c4, .int (f_L_spoil_5 c3 c5 c6 w), .int c6, .int c7, .int c8])) Hq)) ([.ref a, .int w] : List Value).toArray s 0 0 (fun q => q = a)) (F0 m 47 ls []) := by
    intro H locs ls v_2 hv_2 hS h_a hl
    exact rv hx hb hr hlocks hS (⟨rfl, by rw [show f_L_spoil_5 c3 c5 c6 w = v_2 from (by subst hv_2; simp only [f_L_spoil_5])]; exact h_a⟩) ⟨(Nat.le_of_ble_eq_true rfl), (Nat.le_of_ble_eq_true rfl)⟩ dX9_spoil_47
  refine lv_icmp_eq (tgt := 47) hx hb dX9_spoil_5 (by decide) (fun c_1 => ?_) (fun c_1 => ?_)
  · skip
    exact K_3 _ _ _ c5 (by rw [if_pos c_1]) hS h_a (lv_sub hl [0, 1] rfl)
  · skip
    refine lv_aload_n hx hb dX9_spoil_8 rfl (lv_at hl 0 rfl) ?_
    refine lv_iconst (v := 0) hx hb dX9_spoil_9 (by decide) ?_
    refine lv_aload_n hx hb dX9_spoil_10 rfl (lv_at hl 0 rfl) ?_
    refine mget fx tfX9 h_a 5 (by decide) q521 (fun _ h => h) (v := .int c5) rfl dX9_spoil_11 ?_
    refine lv_iconst (v := 1) hx hb dX9_spoil_14 (by decide) ?_
    refine lv_isub hx hb dX9_spoil_15 ?_
    refine lv_iload_n hx hb dX9_spoil_16 rfl (lv_at hl 1 rfl) ?_
    refine lv_bipush (v := 30) hx hb dX9_spoil_17 (by decide) ?_
    have K_6 : ∀ (locs : List Loc) (ls : Array Slot) (v_5 : Int32), v_5 = (if w < 30 then 0 else 1) → va_S (fun q => q = a) s.heap H locs → lv_has ls 2 [(0, .ref a), (1, .int w)] → W p l ev (mR 1 0 0) s m ([.ref a, .int w] : List Value).toArray below meth c H locs 0 0 (MQ below (mQ (fun q => q = a) (fun Hp rv Hq => rv = none ∧ mAt g a (.inr (9, [.int c0, .int c1, .int c2, .int c3, .int c4, .int (f_L_spoil_5 c3 c5 c6 w), .int c6, .int c7, .int c8])) Hq)) ([.ref a, .int w] : List Value).toArray s 0 0 (fun q => q = a)) (F0 m 27 ls [.int v_5, .int (c5 - 1), .int 0, .ref a]) := by
      intro locs ls v_5 hv_5 hS hl
      have bzv_5 : bz v_5 := by rw [hv_5]; (repeat' split) <;> first | exact Or.inl rfl | exact Or.inr rfl
      refine lv_isub hx hb dX9_spoil_27 ?_
      refine lv_aload_n hx hb dX9_spoil_28 rfl (lv_at hl 0 rfl) ?_
      refine mget fx tfX9 h_a 3 (by decide) q518 (fun _ h => h) (v := .int c3) rfl dX9_spoil_29 ?_
      have K_9 : ∀ (locs : List Loc) (ls : Array Slot) (v_8 : Int32), v_8 = (if c3 = 0 then 0 else 1) → va_S (fun q => q = a) s.heap H locs → lv_has ls 2 [(0, .ref a), (1, .int w)] → W p l ev (mR 1 0 0) s m ([.ref a, .int w] : List Value).toArray below meth c H locs 0 0 (MQ below (mQ (fun q => q = a) (fun Hp rv Hq => rv = none ∧ mAt g a (.inr (9, [.int c0, .int c1, .int c2, .int c3, .int c4, .int (f_L_spoil_5 c3 c5 c6 w), .int c6, .int c7, .int c8])) Hq)) ([.ref a, .int w] : List Value).toArray s 0 0 (fun q => q = a)) (F0 m 40 ls [.int v_8, .int ((c5 - 1) - v_5), .int 0, .ref a]) := by
        intro locs ls v_8 hv_8 hS hl
        have bzv_8 : bz v_8 := by rw [hv_8]; (repeat' split) <;> first | exact Or.inl rfl | exact Or.inr rfl
        refine lv_isub hx hb dX9_spoil_40 ?_
        refine kS fx (m_max l g 0 (((c5 - 1) - v_5) - v_8)) (lw_S q572 q375 q67 q376) hdJ12_max ⟨(Nat.le_of_ble_eq_true rfl), (Nat.le_of_ble_eq_true rfl)⟩ ⟨(Nat.le_of_ble_eq_true rfl), (Nat.le_of_ble_eq_true rfl)⟩ hl.1 hS rfl (Nat.le_of_ble_eq_true rfl) trivial (fun _ h => h.elim) dX9_spoil_41 (fun rv9 H locs hQ hz9 hk9 hS => ?_)
        obtain ⟨rfl, rfl⟩ := hQ
        refine W.eq (g2 := F0 m 44 ls [.int (jmax 0 (((c5 - 1) - v_5) - v_8)), .ref a]) rfl ?_
        refine mput fx tfX9 h_a hS rfl 5 (by decide) q521 (fun _ h => h) rfl rfl rfl (Nat.le_of_ble_eq_true rfl) dX9_spoil_44 (fun H locs hat hz hoq hS => ?_)
        replace h_a : mAt g a (.inr (9, [.int c0, .int c1, .int c2, .int c3, .int c4, .int (jmax 0 (((c5 - 1) - v_5) - v_8)), .int c6, .int c7, .int c8])) H := hat
        exact K_3 _ _ _ (jmax 0 (((c5 - 1) - v_5) - v_8)) (by subst hv_5; subst hv_8; rw [if_neg c_1]) hS h_a (lv_sub hl [0, 1] rfl)
      refine lv_if_eq (tgt := 39) hx hb dX9_spoil_32 (by decide) (fun c_7 => ?_) (fun c_7 => ?_)
      · skip
        refine lv_iconst (v := 0) hx hb dX9_spoil_39 (by decide) ?_
        exact K_9 _ _ 0 (by rw [if_pos c_7]) hS (lv_sub hl [0, 1] rfl)
      · skip
        refine lv_iconst (v := 1) hx hb dX9_spoil_35 (by decide) ?_
        refine lv_goto (tgt := 40) hx hb dX9_spoil_36 (by decide) ?_
        exact K_9 _ _ 1 (by rw [if_neg c_7]) hS (lv_sub hl [0, 1] rfl)
    refine lv_icmp_lt (tgt := 26) hx hb dX9_spoil_19 (by decide) (fun c_4 => ?_) (fun c_4 => ?_)
    · skip
      refine lv_iconst (v := 0) hx hb dX9_spoil_26 (by decide) ?_
      exact K_6 _ _ 0 (by rw [if_pos c_4]) hS (lv_sub hl [0, 1] rfl)
    · skip
      refine lv_iconst (v := 1) hx hb dX9_spoil_22 (by decide) ?_
      refine lv_goto (tgt := 27) hx hb dX9_spoil_23 (by decide) ?_
      exact K_6 _ _ 1 (by rw [if_neg c_4]) hS (lv_sub hl [0, 1] rfl)

set_option maxHeartbeats 4000000 in
theorem m_L_copy (l : Launch) (g : GT) (a sz : Nat) (c0 c1 c2 c3 c4 c5 c6 c7 c8 : Int32) (hzc3 : bz c3) : Cn l g yX9_copy cX9_copy 2 ((some (.object "Canecrush$Load"))) 2 1 9 [.ref a] (fun q => sz ≤ q) (fun H => sz = H.size ∧ mAt g a (.inr (9, [.int c0, .int c1, .int c2, .int c3, .int c4, .int c5, .int c6, .int c7, .int c8])) H) (fun Hp rv Hq => ∃ q, rv = some (.ref q) ∧ sz ≤ q ∧ mAt g q (.inr (9, [.int c0, .int c1, .int (f_L_init_2 c3), .int c3, .int c4, .int c5, .int c6, .int c7, .int c8])) Hq) := by
  refine Cn.start (plainFor_of_name (by decide +kernel)) (Nat.le_of_ble_eq_true rfl) ?_
  intro p ev s m below meth c ls H locs hH hx hb hr hts hown hlocks hml hnm hK hP hS hl
  obtain ⟨hsz, h_a⟩ := hP
  have hszs : sz = s.heap.size := by rw [hsz, hH]
  have hAs : ∀ q, s.heap.size ≤ q → sz ≤ q := fun q h => by rw [hszs]; exact h
  have hAb : ∀ q, sz ≤ q → bA g q := fun q h => Nat.le_trans hK.2.2.sz (by rw [← hszs]; exact h)
  have fx : Fx p s m ([.ref a] : List Value).toArray c cX9_copy RX9 g (fun q => sz ≤ q) 2 := ⟨hx, hb, hts, hown, hK, hAb, hml⟩
  have hl : lv_has ls 2 [(0, .ref a)] := hl
  refine mnew fx [.int 0, .int 0, .int 0, .int 0, .int 0, .int 0, .int 0, .int 0, .int 0] tfX9 q503 q504 q75 hS dv_X9 ⟨(Nat.le_of_ble_eq_true rfl), (Nat.le_of_ble_eq_true rfl)⟩ dX9_copy_0 (fun an_2 H ean_2 hloan_2 hat hz hoq hS => ?_)
  have ne_3 : a ≠ an_2 := Nat.ne_of_lt (by rw [ean_2]; exact h_a.lt)
  replace h_a := h_a.kept (hoq _ (by rw [ean_2]; exact h_a.lt))
  have inan_2 := hAs an_2 hloan_2
  have hn_1 : mAt g an_2 (.inr (9, [.int 0, .int 0, .int 0, .int 0, .int 0, .int 0, .int 0, .int 0, .int 0])) H := hat
  refine lv_dup hx hb dX9_copy_3 rfl ?_
  refine lv_aload_n hx hb dX9_copy_4 rfl (lv_at hl 0 rfl) ?_
  refine mget fx tfX9 h_a 0 (by decide) q509 (fun _ h => h) (v := .int c0) rfl dX9_copy_5 ?_
  refine lv_aload_n hx hb dX9_copy_8 rfl (lv_at hl 0 rfl) ?_
  refine mget fx tfX9 h_a 1 (by decide) q512 (fun _ h => h) (v := .int c1) rfl dX9_copy_9 ?_
  refine lv_aload_n hx hb dX9_copy_12 rfl (lv_at hl 0 rfl) ?_
  refine mget fx tfX9 h_a 5 (by decide) q521 (fun _ h => h) (v := .int c5) rfl dX9_copy_13 ?_
  refine lv_aload_n hx hb dX9_copy_16 rfl (lv_at hl 0 rfl) ?_
  refine mget fx tfX9 h_a 3 (by decide) q518 (fun _ h => h) (v := .int c3) rfl dX9_copy_17 ?_
  refine lv_aload_n hx hb dX9_copy_20 rfl (lv_at hl 0 rfl) ?_
  refine mget fx tfX9 h_a 4 (by decide) q519 (fun _ h => h) (v := .int c4) rfl dX9_copy_21 ?_
  refine kI fx (m_L_init l g an_2  c0 c1 c5 c3 c4 (fx.2.2.2.2.2.1 _ inan_2) hzc3) q507 q75 q505 q506 rfl hdX9_init ⟨(Nat.le_of_ble_eq_true rfl), (Nat.le_of_ble_eq_true rfl)⟩ ⟨(Nat.le_of_ble_eq_true rfl), (Nat.le_of_ble_eq_true rfl)⟩ hl.1 hS rfl (Nat.le_of_ble_eq_true rfl) hn_1 (fun q h => by cases h; exact inan_2) dX9_copy_24 (fun rv9 H locs hQ hz9 hk9 hS => ?_)
  obtain ⟨rfl, hat⟩ := hQ
  replace h_a := h_a.kept (hk9 _ h_a.lt ne_3)
  replace hn_1 : mAt g an_2 (.inr (9, [.int c0, .int c1, .int (f_L_init_2 c3), .int c3, .int c4, .int c5, .int 0, .int 0, .int (-1)])) H := hat
  refine W.eq (g2 := F0 m 27 ls [.ref an_2]) rfl ?_
  refine lv_astore_n (lv' := [(1, .ref an_2), (0, .ref a)]) hx hb dX9_copy_27 rfl hl (by decide) rfl (fun ls hl => ?_)
  refine lv_aload_n hx hb dX9_copy_28 rfl (lv_at hl 0 rfl) ?_
  refine lv_aload_n hx hb dX9_copy_29 rfl (lv_at hl 1 rfl) ?_
  refine mget fx tfX9 h_a 6 (by decide) q524 (fun _ h => h) (v := .int c6) rfl dX9_copy_30 ?_
  refine mput fx tfX9 hn_1 hS inan_2 6 (by decide) q524 (fun _ h => h) rfl rfl rfl (Nat.le_of_ble_eq_true rfl) dX9_copy_33 (fun H locs hat hz hoq hS => ?_)
  replace h_a := h_a.kept (hoq _ ne_3)
  replace hn_1 : mAt g an_2 (.inr (9, [.int c0, .int c1, .int (f_L_init_2 c3), .int c3, .int c4, .int c5, .int c6, .int 0, .int (-1)])) H := hat
  refine lv_aload_n hx hb dX9_copy_36 rfl (lv_at hl 0 rfl) ?_
  refine lv_aload_n hx hb dX9_copy_37 rfl (lv_at hl 1 rfl) ?_
  refine mget fx tfX9 h_a 7 (by decide) q527 (fun _ h => h) (v := .int c7) rfl dX9_copy_38 ?_
  refine mput fx tfX9 hn_1 hS inan_2 7 (by decide) q527 (fun _ h => h) rfl rfl rfl (Nat.le_of_ble_eq_true rfl) dX9_copy_41 (fun H locs hat hz hoq hS => ?_)
  replace h_a := h_a.kept (hoq _ ne_3)
  replace hn_1 : mAt g an_2 (.inr (9, [.int c0, .int c1, .int (f_L_init_2 c3), .int c3, .int c4, .int c5, .int c6, .int c7, .int (-1)])) H := hat
  refine lv_aload_n hx hb dX9_copy_44 rfl (lv_at hl 0 rfl) ?_
  refine lv_aload_n hx hb dX9_copy_45 rfl (lv_at hl 1 rfl) ?_
  refine mget fx tfX9 h_a 8 (by decide) q529 (fun _ h => h) (v := .int c8) rfl dX9_copy_46 ?_
  refine mput fx tfX9 hn_1 hS inan_2 8 (by decide) q529 (fun _ h => h) rfl rfl rfl (Nat.le_of_ble_eq_true rfl) dX9_copy_49 (fun H locs hat hz hoq hS => ?_)
  replace h_a := h_a.kept (hoq _ ne_3)
  replace hn_1 : mAt g an_2 (.inr (9, [.int c0, .int c1, .int (f_L_init_2 c3), .int c3, .int c4, .int c5, .int c6, .int c7, .int c8])) H := hat
  refine lv_aload_n hx hb dX9_copy_52 rfl (lv_at hl 0 rfl) ?_
  exact ra hx hb hr (Or.inl ⟨_, rfl⟩) hlocks hS (⟨an_2, rfl, by rw [hszs]; exact hloan_2, hn_1⟩) ⟨(Nat.le_of_ble_eq_true rfl), (Nat.le_of_ble_eq_true rfl)⟩ dX9_copy_53

set_option maxHeartbeats 4000000 in
theorem m_T_init (l : Launch) (g : GT) (a : Nat) (ha : bA g a) : Cn l g yX7_init cX7_init 1 (none) 1 0 0 [.ref a] (fun q => q = a) (fun H => mAt g a (.inr (7, [.int 0, .int 0, .int 0, .int 0])) H) (fun Hp rv Hq => rv = none ∧ mAt g a (.inr (7, [.int 0, .int (-1), .int (-1), .int 0])) Hq) := by
  refine Cn.start (plainFor_of_name (by decide +kernel)) (Nat.le_of_ble_eq_true rfl) ?_
  intro p ev s m below meth c ls H locs hH hx hb hr hts hown hlocks hml hnm hK hP hS hl
  have h_a := hP
  have fx : Fx p s m ([.ref a] : List Value).toArray c cX7_init RX7 g (fun q => q = a) 1 := ⟨hx, hb, hts, hown, hK, fun q h => by rw [h]; exact ha, hml⟩
  have hl : lv_has ls 1 [(0, .ref a)] := hl
  refine lv_aload_n hx hb dX7_init_0 rfl (lv_at hl 0 rfl) ?_
  refine W.objInit hx hb hown (hts _ q477) (hts _ q86) (hts _ q87) rfl (by rw [hml]; exact hl.1) rfl dX7_init_1 (Nat.le_of_ble_eq_true rfl) (Nat.le_of_ble_eq_true rfl) ?_
  refine W.eq (g2 := F0 m 4 ls []) rfl ?_
  refine lv_aload_n hx hb dX7_init_4 rfl (lv_at hl 0 rfl) ?_
  refine lv_iconst (v := 0) hx hb dX7_init_5 (by decide) ?_
  refine mput fx tfX7 h_a hS rfl 0 (by decide) q478 (fun _ h => h) rfl rfl rfl (Nat.le_of_ble_eq_true rfl) dX7_init_6 (fun H locs hat hz hoq hS => ?_)
  replace h_a : mAt g a (.inr (7, [.int 0, .int 0, .int 0, .int 0])) H := hat
  refine lv_aload_n hx hb dX7_init_9 rfl (lv_at hl 0 rfl) ?_
  refine lv_iconst (v := (-1)) hx hb dX7_init_10 (by decide) ?_
  refine mput fx tfX7 h_a hS rfl 1 (by decide) q481 (fun _ h => h) rfl rfl rfl (Nat.le_of_ble_eq_true rfl) dX7_init_11 (fun H locs hat hz hoq hS => ?_)
  replace h_a : mAt g a (.inr (7, [.int 0, .int (-1), .int 0, .int 0])) H := hat
  refine lv_aload_n hx hb dX7_init_14 rfl (lv_at hl 0 rfl) ?_
  refine lv_iconst (v := (-1)) hx hb dX7_init_15 (by decide) ?_
  refine mput fx tfX7 h_a hS rfl 2 (by decide) q484 (fun _ h => h) rfl rfl rfl (Nat.le_of_ble_eq_true rfl) dX7_init_16 (fun H locs hat hz hoq hS => ?_)
  replace h_a : mAt g a (.inr (7, [.int 0, .int (-1), .int (-1), .int 0])) H := hat
  exact rv hx hb hr hlocks hS (⟨rfl, h_a⟩) ⟨(Nat.le_of_ble_eq_true rfl), (Nat.le_of_ble_eq_true rfl)⟩ dX7_init_19

set_option maxHeartbeats 4000000 in
theorem m_T_stand (l : Launch) (g : GT) (a : Nat) (c0 c1 c2 c3 : Int32) (ha : bA g a) : Cn l g yX7_stand cX7_stand 1 (none) 0 0 0 [.ref a] (fun q => q = a) (fun H => mAt g a (.inr (7, [.int c0, .int c1, .int c2, .int c3])) H) (fun Hp rv Hq => rv = none ∧ mAt g a (.inr (7, [.int 0, .int (-1), .int (-1), .int 0])) Hq) := by
  refine Cn.start (plainFor_of_name (by decide +kernel)) (Nat.le_of_ble_eq_true rfl) ?_
  intro p ev s m below meth c ls H locs hH hx hb hr hts hown hlocks hml hnm hK hP hS hl
  have h_a := hP
  have fx : Fx p s m ([.ref a] : List Value).toArray c cX7_stand RX7 g (fun q => q = a) 1 := ⟨hx, hb, hts, hown, hK, fun q h => by rw [h]; exact ha, hml⟩
  have hl : lv_has ls 1 [(0, .ref a)] := hl
  refine lv_aload_n hx hb dX7_stand_0 rfl (lv_at hl 0 rfl) ?_
  refine lv_iconst (v := 0) hx hb dX7_stand_1 (by decide) ?_
  refine mput fx tfX7 h_a hS rfl 0 (by decide) q478 (fun _ h => h) rfl rfl rfl (Nat.le_of_ble_eq_true rfl) dX7_stand_2 (fun H locs hat hz hoq hS => ?_)
  replace h_a : mAt g a (.inr (7, [.int 0, .int c1, .int c2, .int c3])) H := hat
  refine lv_aload_n hx hb dX7_stand_5 rfl (lv_at hl 0 rfl) ?_
  refine lv_iconst (v := (-1)) hx hb dX7_stand_6 (by decide) ?_
  refine mput fx tfX7 h_a hS rfl 1 (by decide) q481 (fun _ h => h) rfl rfl rfl (Nat.le_of_ble_eq_true rfl) dX7_stand_7 (fun H locs hat hz hoq hS => ?_)
  replace h_a : mAt g a (.inr (7, [.int 0, .int (-1), .int c2, .int c3])) H := hat
  refine lv_aload_n hx hb dX7_stand_10 rfl (lv_at hl 0 rfl) ?_
  refine lv_iconst (v := (-1)) hx hb dX7_stand_11 (by decide) ?_
  refine mput fx tfX7 h_a hS rfl 2 (by decide) q484 (fun _ h => h) rfl rfl rfl (Nat.le_of_ble_eq_true rfl) dX7_stand_12 (fun H locs hat hz hoq hS => ?_)
  replace h_a : mAt g a (.inr (7, [.int 0, .int (-1), .int (-1), .int c3])) H := hat
  refine lv_aload_n hx hb dX7_stand_15 rfl (lv_at hl 0 rfl) ?_
  refine lv_iconst (v := 0) hx hb dX7_stand_16 (by decide) ?_
  refine mput fx tfX7 h_a hS rfl 3 (by decide) q487 (fun _ h => h) rfl rfl rfl (Nat.le_of_ble_eq_true rfl) dX7_stand_17 (fun H locs hat hz hoq hS => ?_)
  replace h_a : mAt g a (.inr (7, [.int 0, .int (-1), .int (-1), .int 0])) H := hat
  exact rv hx hb hr hlocks hS (⟨rfl, h_a⟩) ⟨(Nat.le_of_ble_eq_true rfl), (Nat.le_of_ble_eq_true rfl)⟩ dX7_stand_20

set_option maxHeartbeats 4000000 in
theorem m_T_copy (l : Launch) (g : GT) (a sz : Nat) (c0 c1 c2 c3 : Int32) : Cn l g yX7_copy cX7_copy 2 ((some (.object "Canecrush$Truck"))) 2 1 4 [.ref a] (fun q => sz ≤ q) (fun H => sz = H.size ∧ mAt g a (.inr (7, [.int c0, .int c1, .int c2, .int c3])) H) (fun Hp rv Hq => ∃ q, rv = some (.ref q) ∧ sz ≤ q ∧ mAt g q (.inr (7, [.int c0, .int c1, .int c2, .int c3])) Hq) := by
  refine Cn.start (plainFor_of_name (by decide +kernel)) (Nat.le_of_ble_eq_true rfl) ?_
  intro p ev s m below meth c ls H locs hH hx hb hr hts hown hlocks hml hnm hK hP hS hl
  obtain ⟨hsz, h_a⟩ := hP
  have hszs : sz = s.heap.size := by rw [hsz, hH]
  have hAs : ∀ q, s.heap.size ≤ q → sz ≤ q := fun q h => by rw [hszs]; exact h
  have hAb : ∀ q, sz ≤ q → bA g q := fun q h => Nat.le_trans hK.2.2.sz (by rw [← hszs]; exact h)
  have fx : Fx p s m ([.ref a] : List Value).toArray c cX7_copy RX7 g (fun q => sz ≤ q) 2 := ⟨hx, hb, hts, hown, hK, hAb, hml⟩
  have hl : lv_has ls 2 [(0, .ref a)] := hl
  refine mnew fx [.int 0, .int 0, .int 0, .int 0] tfX7 q472 q473 q71 hS dv_X7 ⟨(Nat.le_of_ble_eq_true rfl), (Nat.le_of_ble_eq_true rfl)⟩ dX7_copy_0 (fun an_2 H ean_2 hloan_2 hat hz hoq hS => ?_)
  have ne_3 : a ≠ an_2 := Nat.ne_of_lt (by rw [ean_2]; exact h_a.lt)
  replace h_a := h_a.kept (hoq _ (by rw [ean_2]; exact h_a.lt))
  have inan_2 := hAs an_2 hloan_2
  have hn_1 : mAt g an_2 (.inr (7, [.int 0, .int 0, .int 0, .int 0])) H := hat
  refine lv_dup hx hb dX7_copy_3 rfl ?_
  refine kI fx (m_T_init l g an_2   (fx.2.2.2.2.2.1 _ inan_2) ) q476 q71 q474 q475 rfl hdX7_init ⟨(Nat.le_of_ble_eq_true rfl), (Nat.le_of_ble_eq_true rfl)⟩ ⟨(Nat.le_of_ble_eq_true rfl), (Nat.le_of_ble_eq_true rfl)⟩ hl.1 hS rfl (Nat.le_of_ble_eq_true rfl) hn_1 (fun q h => by cases h; exact inan_2) dX7_copy_4 (fun rv9 H locs hQ hz9 hk9 hS => ?_)
  obtain ⟨rfl, hat⟩ := hQ
  replace h_a := h_a.kept (hk9 _ h_a.lt ne_3)
  replace hn_1 : mAt g an_2 (.inr (7, [.int 0, .int (-1), .int (-1), .int 0])) H := hat
  refine W.eq (g2 := F0 m 7 ls [.ref an_2]) rfl ?_
  refine lv_astore_n (lv' := [(1, .ref an_2), (0, .ref a)]) hx hb dX7_copy_7 rfl hl (by decide) rfl (fun ls hl => ?_)
  refine lv_aload_n hx hb dX7_copy_8 rfl (lv_at hl 0 rfl) ?_
  refine lv_aload_n hx hb dX7_copy_9 rfl (lv_at hl 1 rfl) ?_
  refine mget fx tfX7 h_a 0 (by decide) q478 (fun _ h => h) (v := .int c0) rfl dX7_copy_10 ?_
  refine mput fx tfX7 hn_1 hS inan_2 0 (by decide) q478 (fun _ h => h) rfl rfl rfl (Nat.le_of_ble_eq_true rfl) dX7_copy_13 (fun H locs hat hz hoq hS => ?_)
  replace h_a := h_a.kept (hoq _ ne_3)
  replace hn_1 : mAt g an_2 (.inr (7, [.int c0, .int (-1), .int (-1), .int 0])) H := hat
  refine lv_aload_n hx hb dX7_copy_16 rfl (lv_at hl 0 rfl) ?_
  refine lv_aload_n hx hb dX7_copy_17 rfl (lv_at hl 1 rfl) ?_
  refine mget fx tfX7 h_a 1 (by decide) q481 (fun _ h => h) (v := .int c1) rfl dX7_copy_18 ?_
  refine mput fx tfX7 hn_1 hS inan_2 1 (by decide) q481 (fun _ h => h) rfl rfl rfl (Nat.le_of_ble_eq_true rfl) dX7_copy_21 (fun H locs hat hz hoq hS => ?_)
  replace h_a := h_a.kept (hoq _ ne_3)
  replace hn_1 : mAt g an_2 (.inr (7, [.int c0, .int c1, .int (-1), .int 0])) H := hat
  refine lv_aload_n hx hb dX7_copy_24 rfl (lv_at hl 0 rfl) ?_
  refine lv_aload_n hx hb dX7_copy_25 rfl (lv_at hl 1 rfl) ?_
  refine mget fx tfX7 h_a 2 (by decide) q484 (fun _ h => h) (v := .int c2) rfl dX7_copy_26 ?_
  refine mput fx tfX7 hn_1 hS inan_2 2 (by decide) q484 (fun _ h => h) rfl rfl rfl (Nat.le_of_ble_eq_true rfl) dX7_copy_29 (fun H locs hat hz hoq hS => ?_)
  replace h_a := h_a.kept (hoq _ ne_3)
  replace hn_1 : mAt g an_2 (.inr (7, [.int c0, .int c1, .int c2, .int 0])) H := hat
  refine lv_aload_n hx hb dX7_copy_32 rfl (lv_at hl 0 rfl) ?_
  refine lv_aload_n hx hb dX7_copy_33 rfl (lv_at hl 1 rfl) ?_
  refine mget fx tfX7 h_a 3 (by decide) q487 (fun _ h => h) (v := .int c3) rfl dX7_copy_34 ?_
  refine mput fx tfX7 hn_1 hS inan_2 3 (by decide) q487 (fun _ h => h) rfl rfl rfl (Nat.le_of_ble_eq_true rfl) dX7_copy_37 (fun H locs hat hz hoq hS => ?_)
  replace h_a := h_a.kept (hoq _ ne_3)
  replace hn_1 : mAt g an_2 (.inr (7, [.int c0, .int c1, .int c2, .int c3])) H := hat
  refine lv_aload_n hx hb dX7_copy_40 rfl (lv_at hl 0 rfl) ?_
  exact ra hx hb hr (Or.inl ⟨_, rfl⟩) hlocks hS (⟨an_2, rfl, by rw [hszs]; exact hloan_2, hn_1⟩) ⟨(Nat.le_of_ble_eq_true rfl), (Nat.le_of_ble_eq_true rfl)⟩ dX7_copy_41

set_option maxHeartbeats 4000000 in
theorem m_MF_init (l : Launch) (g : GT) (a : Nat) (gr ar fa : Int32) (ha : bA g a) : Cn l g yX6_init cX6_init 4 (none) 1 0 0 [.ref a, .int gr, .int ar, .int fa] (fun q => q = a) (fun H => mAt g a (.inr (6, [.int 0, .int 0, .int 0, .int 0, .int 0, .int 0, .int 0, .int 0, .int 0, .int 0, .int 0])) H) (fun Hp rv Hq => rv = none ∧ mAt g a (.inr (6, [.int gr, .int ar, .int fa, .int 0, .int 60, .int 0, .int 0, .int 0, .int 0, .int 0, .int 0])) Hq) := by
  refine Cn.start (plainFor_of_name (by decide +kernel)) (Nat.le_of_ble_eq_true rfl) ?_
  intro p ev s m below meth c ls H locs hH hx hb hr hts hown hlocks hml hnm hK hP hS hl
  have h_a := hP
  have fx : Fx p s m ([.ref a, .int gr, .int ar, .int fa] : List Value).toArray c cX6_init RX6 g (fun q => q = a) 4 := ⟨hx, hb, hts, hown, hK, fun q h => by rw [h]; exact ha, hml⟩
  have hl : lv_has ls 4 [(0, .ref a), (1, .int gr), (2, .int ar), (3, .int fa)] := hl
  refine lv_aload_n hx hb dX6_init_0 rfl (lv_at hl 0 rfl) ?_
  refine W.objInit hx hb hown (hts _ q1083) (hts _ q86) (hts _ q87) rfl (by rw [hml]; exact hl.1) rfl dX6_init_1 (Nat.le_of_ble_eq_true rfl) (Nat.le_of_ble_eq_true rfl) ?_
  refine W.eq (g2 := F0 m 4 ls []) rfl ?_
  refine lv_aload_n hx hb dX6_init_4 rfl (lv_at hl 0 rfl) ?_
  refine lv_bipush (v := 60) hx hb dX6_init_5 (by decide) ?_
  refine mput fx tfX6 h_a hS rfl 4 (by decide) q1093 (fun _ h => h) rfl rfl rfl (Nat.le_of_ble_eq_true rfl) dX6_init_7 (fun H locs hat hz hoq hS => ?_)
  replace h_a : mAt g a (.inr (6, [.int 0, .int 0, .int 0, .int 0, .int 60, .int 0, .int 0, .int 0, .int 0, .int 0, .int 0])) H := hat
  refine lv_aload_n hx hb dX6_init_10 rfl (lv_at hl 0 rfl) ?_
  refine lv_iload_n hx hb dX6_init_11 rfl (lv_at hl 1 rfl) ?_
  refine mputF fx hnm tfX6 h_a hS rfl 0 (by decide) q1084 (fun _ h => h) rfl rfl rfl rfl (Nat.le_of_ble_eq_true rfl) dX6_init_12 (fun H locs hat hz hoq hS => ?_)
  replace h_a : mAt g a (.inr (6, [.int gr, .int 0, .int 0, .int 0, .int 60, .int 0, .int 0, .int 0, .int 0, .int 0, .int 0])) H := hat
  refine lv_aload_n hx hb dX6_init_15 rfl (lv_at hl 0 rfl) ?_
  refine lv_iload_n hx hb dX6_init_16 rfl (lv_at hl 2 rfl) ?_
  refine mputF fx hnm tfX6 h_a hS rfl 1 (by decide) q1086 (fun _ h => h) rfl rfl rfl rfl (Nat.le_of_ble_eq_true rfl) dX6_init_17 (fun H locs hat hz hoq hS => ?_)
  replace h_a : mAt g a (.inr (6, [.int gr, .int ar, .int 0, .int 0, .int 60, .int 0, .int 0, .int 0, .int 0, .int 0, .int 0])) H := hat
  refine lv_aload_n hx hb dX6_init_20 rfl (lv_at hl 0 rfl) ?_
  refine lv_iload_n hx hb dX6_init_21 rfl (lv_at hl 3 rfl) ?_
  refine mputF fx hnm tfX6 h_a hS rfl 2 (by decide) q1088 (fun _ h => h) rfl rfl rfl rfl (Nat.le_of_ble_eq_true rfl) dX6_init_22 (fun H locs hat hz hoq hS => ?_)
  replace h_a : mAt g a (.inr (6, [.int gr, .int ar, .int fa, .int 0, .int 60, .int 0, .int 0, .int 0, .int 0, .int 0, .int 0])) H := hat
  exact rv hx hb hr hlocks hS (⟨rfl, h_a⟩) ⟨(Nat.le_of_ble_eq_true rfl), (Nat.le_of_ble_eq_true rfl)⟩ dX6_init_25

def f_MF_day_3 (c1 c3 c7 c8 c10 w r : Int32) : Int32 := let v_2 : Int32 := if c10 = 0 then (jmin 999 ((c3 + (if c8 = 0 then (c1 * ((jmax 0 (jfdiv w 8)) + (r / 3))) else ((c1 * ((jmax 0 (jfdiv w 8)) + (r / 3))) / 2))) - (((if c8 = 0 then (c1 * ((jmax 0 (jfdiv w 8)) + (r / 3))) else ((c1 * ((jmax 0 (jfdiv w 8)) + (r / 3))) / 2)) * c7) / 100))) else c3; v_2
def f_MF_day_4 (c4 c5 c9 c10 w r : Int32) : Int32 := let v_5 : Int32 := if (c5 + 1) < 10 then 0 else (if 3 ≤ r then 0 else (0 + 4)); let v_8 : Int32 := if r < 6 then v_5 else (v_5 + (-2)); let v_11 : Int32 := if 20 ≤ w then v_8 else (v_8 + ((20 - w) / 10)); let v_14 : Int32 := if c9 = 0 then v_11 else (v_11 + (-6)); let v_17 : Int32 := if c10 = 0 then v_14 else (v_14 + (-5)); heldM (c4 + v_17) 180
def f_MF_day_5 (c5 : Int32) : Int32 := c5 + 1
def f_MF_day_7 (c7 w n : Int32) : Int32 := let v_26 : Int32 := if c7 ≤ 0 then 0 else 1; let v_29 : Int32 := if n = 0 then 0 else (if w < 25 then 0 else 2); jmin 100 ((c7 + v_26) + v_29)
def f_MF_day_8 (c1 c3 c7 c8 c10 w r : Int32) : Int32 := let v_2 : Int32 := if c10 = 0 then (jmin 999 ((c3 + (if c8 = 0 then (c1 * ((jmax 0 (jfdiv w 8)) + (r / 3))) else ((c1 * ((jmax 0 (jfdiv w 8)) + (r / 3))) / 2))) - (((if c8 = 0 then (c1 * ((jmax 0 (jfdiv w 8)) + (r / 3))) else ((c1 * ((jmax 0 (jfdiv w 8)) + (r / 3))) / 2)) * c7) / 100))) else c3; let v_20 : Int32 := if r < 8 then c8 else (if v_2 < (20 * c1) then c8 else 1); v_20
def f_MF_day_9 (c9 w : Int32) : Int32 := let v_23 : Int32 := if 2 ≤ w then c9 else 1; v_23
set_option maxHeartbeats 4000000 in
theorem m_MF_day (l : Launch) (g : GT) (a : Nat) (c0 c1 c2 c3 c4 c5 c6 c7 c8 c9 c10 : Int32) (w r n : Int32) (ha : bA g a) (hzc8 : bz c8) (hzc9 : bz c9) : Cn l g yX6_day cX6_day 5 (none) 2 0 0 [.ref a, .int w, .int r, .int n] (fun q => q = a) (fun H => mAt g a (.inr (6, [.int c0, .int c1, .int c2, .int c3, .int c4, .int c5, .int c6, .int c7, .int c8, .int c9, .int c10])) H) (fun Hp rv Hq => rv = none ∧ mAt g a (.inr (6, [.int c0, .int c1, .int c2, .int (f_MF_day_3 c1 c3 c7 c8 c10 w r), .int (f_MF_day_4 c4 c5 c9 c10 w r), .int (f_MF_day_5 c5), .int c6, .int (f_MF_day_7 c7 w n), .int (f_MF_day_8 c1 c3 c7 c8 c10 w r), .int (f_MF_day_9 c9 w), .int c10])) Hq) := by
  refine Cn.start (plainFor_of_name (by decide +kernel)) (Nat.le_of_ble_eq_true rfl) ?_
  intro p ev s m below meth c ls H locs hH hx hb hr hts hown hlocks hml hnm hK hP hS hl
  have h_a := hP
  have fx : Fx p s m ([.ref a, .int w, .int r, .int n] : List Value).toArray c cX6_day RX6 g (fun q => q = a) 5 := ⟨hx, hb, hts, hown, hK, fun q h => by rw [h]; exact ha, hml⟩
  have hl : lv_has ls 5 [(0, .ref a), (1, .int w), (2, .int r), (3, .int n)] := hl
  refine lv_aload_n hx hb dX6_day_0 rfl (lv_at hl 0 rfl) ?_
  refine lv_dup hx hb dX6_day_1 rfl ?_
  refine mget fx tfX6 h_a 5 (by decide) q1095 (fun _ h => h) (v := .int c5) rfl dX6_day_2 ?_
  refine lv_iconst (v := 1) hx hb dX6_day_5 (by decide) ?_
  refine lv_iadd hx hb dX6_day_6 ?_
  refine mput fx tfX6 h_a hS rfl 5 (by decide) q1095 (fun _ h => h) rfl rfl rfl (Nat.le_of_ble_eq_true rfl) dX6_day_7 (fun H locs hat hz hoq hS => ?_)
  replace h_a : mAt g a (.inr (6, [.int c0, .int c1, .int c2, .int c3, .int c4, .int (c5 + 1), .int c6, .int c7, .int c8, .int c9, .int c10])) H := hat
  refine lv_aload_n hx hb dX6_day_10 rfl (lv_at hl 0 rfl) ?_
  refine mget fx tfX6 h_a 10 (by decide) q1106 (fun _ h => h) (v := .int c10) rfl dX6_day_11 ?_
  have K_3 : ∀ (H : Heap) (locs : List Loc) (ls : Array Slot) (v_2 : Int32), v_2 = (if c10 = 0 then (jmin 999 ((c3 + (if c8 = 0 then (c1 * ((jmax 0 (jfdiv w 8)) + (r / 3))) else ((c1 * ((jmax 0 (jfdiv w 8)) + (r / 3))) / 2))) - (((if c8 = 0 then (c1 * ((jmax 0 (jfdiv w 8)) + (r / 3))) else ((c1 * ((jmax 0 (jfdiv w 8)) + (r / 3))) / 2)) * c7) / 100))) else c3) → va_S (fun q => q = a) s.heap H locs → mAt g a (.inr (6, [.int c0, .int c1, .int c2, .int v_2, .int c4, .int (c5 + 1), .int c6, .int c7, .int c8, .int c9, .int c10])) H → lv_has ls 5 [(0, .ref a), (1, .int w), (2, .int r), (3, .int n)] → W p l ev (mR 2 0 0) s m ([.ref a, .int w, .int r, .int n] : List Value).toArray below meth c H locs 0 0 (MQ below (mQ (fun q => q = a) (fun Hp rv Hq => rv = none ∧ mAt g a (.inr (6, [.int c0, .int c1, .int c2, .int (f_MF_day_3 c1 c3 c7 c8 c10 w r), .int (f_MF_day_4 c4 c5 c9 c10 w r), .int (f_MF_day_5 c5), .int c6, .int (f_MF_day_7 c7 w n), .int (f_MF_day_8 c1 c3 c7 c8 c10 w r), .int (f_MF_day_9 c9 w), .int c10])) Hq)) ([.ref a, .int w, .int r, .int n] : List Value).toArray s 0 0 (fun q => q = a)) (F0 m 79 ls []) := by
    intro H locs ls v_2 hv_2 hS h_a hl
    refine lv_iconst (v := 0) hx hb dX6_day_79 (by decide) ?_
    refine lv_istore (lv' := [(4, .int 0), (0, .ref a), (1, .int w), (2, .int r), (3, .int n)]) hx hb dX6_day_80 hl (by decide) rfl (fun ls hl => ?_)
    refine lv_aload_n hx hb dX6_day_82 rfl (lv_at hl 1 rfl) ?_
    refine mget fx tfX6 h_a 5 (by decide) q1095 (fun _ h => h) (v := .int (c5 + 1)) rfl dX6_day_83 ?_
    refine lv_bipush (v := 10) hx hb dX6_day_86 (by decide) ?_
    have K_6 : ∀ (locs : List Loc) (ls : Array Slot) (v_5 : Int32), v_5 = (if (c5 + 1) < 10 then 0 else (if 3 ≤ r then 0 else (0 + 4))) → va_S (fun q => q = a) s.heap H locs → lv_has ls 5 [(4, .int v_5), (0, .ref a), (1, .int w), (2, .int r), (3, .int n)] → W p l ev (mR 2 0 0) s m ([.ref a, .int w, .int r, .int n] : List Value).toArray below meth c H locs 0 0 (MQ below (mQ (fun q => q = a) (fun Hp rv Hq => rv = none ∧ mAt g a (.inr (6, [.int c0, .int c1, .int c2, .int (f_MF_day_3 c1 c3 c7 c8 c10 w r), .int (f_MF_day_4 c4 c5 c9 c10 w r), .int (f_MF_day_5 c5), .int c6, .int (f_MF_day_7 c7 w n), .int (f_MF_day_8 c1 c3 c7 c8 c10 w r), .int (f_MF_day_9 c9 w), .int c10])) Hq)) ([.ref a, .int w, .int r, .int n] : List Value).toArray s 0 0 (fun q => q = a)) (F0 m 99 ls []) := by
      intro locs ls v_5 hv_5 hS hl
      refine lv_iload_n hx hb dX6_day_99 rfl (lv_at hl 3 rfl) ?_
      refine lv_bipush (v := 6) hx hb dX6_day_100 (by decide) ?_
      have K_9 : ∀ (locs : List Loc) (ls : Array Slot) (v_8 : Int32), v_8 = (if r < 6 then v_5 else (v_5 + (-2))) → va_S (fun q => q = a) s.heap H locs → lv_has ls 5 [(4, .int v_8), (0, .ref a), (1, .int w), (2, .int r), (3, .int n)] → W p l ev (mR 2 0 0) s m ([.ref a, .int w, .int r, .int n] : List Value).toArray below meth c H locs 0 0 (MQ below (mQ (fun q => q = a) (fun Hp rv Hq => rv = none ∧ mAt g a (.inr (6, [.int c0, .int c1, .int c2, .int (f_MF_day_3 c1 c3 c7 c8 c10 w r), .int (f_MF_day_4 c4 c5 c9 c10 w r), .int (f_MF_day_5 c5), .int c6, .int (f_MF_day_7 c7 w n), .int (f_MF_day_8 c1 c3 c7 c8 c10 w r), .int (f_MF_day_9 c9 w), .int c10])) Hq)) ([.ref a, .int w, .int r, .int n] : List Value).toArray s 0 0 (fun q => q = a)) (F0 m 108 ls []) := by
        intro locs ls v_8 hv_8 hS hl
        refine lv_iload_n hx hb dX6_day_108 rfl (lv_at hl 2 rfl) ?_
        refine lv_bipush (v := 20) hx hb dX6_day_109 (by decide) ?_
        have K_12 : ∀ (locs : List Loc) (ls : Array Slot) (v_11 : Int32), v_11 = (if 20 ≤ w then v_8 else (v_8 + ((20 - w) / 10))) → va_S (fun q => q = a) s.heap H locs → lv_has ls 5 [(4, .int v_11), (0, .ref a), (1, .int w), (2, .int r), (3, .int n)] → W p l ev (mR 2 0 0) s m ([.ref a, .int w, .int r, .int n] : List Value).toArray below meth c H locs 0 0 (MQ below (mQ (fun q => q = a) (fun Hp rv Hq => rv = none ∧ mAt g a (.inr (6, [.int c0, .int c1, .int c2, .int (f_MF_day_3 c1 c3 c7 c8 c10 w r), .int (f_MF_day_4 c4 c5 c9 c10 w r), .int (f_MF_day_5 c5), .int c6, .int (f_MF_day_7 c7 w n), .int (f_MF_day_8 c1 c3 c7 c8 c10 w r), .int (f_MF_day_9 c9 w), .int c10])) Hq)) ([.ref a, .int w, .int r, .int n] : List Value).toArray s 0 0 (fun q => q = a)) (F0 m 126 ls []) := by
          intro locs ls v_11 hv_11 hS hl
          refine lv_aload_n hx hb dX6_day_126 rfl (lv_at hl 1 rfl) ?_
          refine mget fx tfX6 h_a 9 (by decide) q1104 (fun _ h => h) (v := .int c9) rfl dX6_day_127 ?_
          have K_15 : ∀ (locs : List Loc) (ls : Array Slot) (v_14 : Int32), v_14 = (if c9 = 0 then v_11 else (v_11 + (-6))) → va_S (fun q => q = a) s.heap H locs → lv_has ls 5 [(4, .int v_14), (0, .ref a), (1, .int w), (2, .int r), (3, .int n)] → W p l ev (mR 2 0 0) s m ([.ref a, .int w, .int r, .int n] : List Value).toArray below meth c H locs 0 0 (MQ below (mQ (fun q => q = a) (fun Hp rv Hq => rv = none ∧ mAt g a (.inr (6, [.int c0, .int c1, .int c2, .int (f_MF_day_3 c1 c3 c7 c8 c10 w r), .int (f_MF_day_4 c4 c5 c9 c10 w r), .int (f_MF_day_5 c5), .int c6, .int (f_MF_day_7 c7 w n), .int (f_MF_day_8 c1 c3 c7 c8 c10 w r), .int (f_MF_day_9 c9 w), .int c10])) Hq)) ([.ref a, .int w, .int r, .int n] : List Value).toArray s 0 0 (fun q => q = a)) (F0 m 136 ls []) := by
            intro locs ls v_14 hv_14 hS hl
            refine lv_aload_n hx hb dX6_day_136 rfl (lv_at hl 1 rfl) ?_
            refine mget fx tfX6 h_a 10 (by decide) q1106 (fun _ h => h) (v := .int c10) rfl dX6_day_137 ?_
            have K_18 : ∀ (locs : List Loc) (ls : Array Slot) (v_17 : Int32), v_17 = (if c10 = 0 then v_14 else (v_14 + (-5))) → va_S (fun q => q = a) s.heap H locs → lv_has ls 5 [(4, .int v_17), (0, .ref a), (1, .int w), (2, .int r), (3, .int n)] → W p l ev (mR 2 0 0) s m ([.ref a, .int w, .int r, .int n] : List Value).toArray below meth c H locs 0 0 (MQ below (mQ (fun q => q = a) (fun Hp rv Hq => rv = none ∧ mAt g a (.inr (6, [.int c0, .int c1, .int c2, .int (f_MF_day_3 c1 c3 c7 c8 c10 w r), .int (f_MF_day_4 c4 c5 c9 c10 w r), .int (f_MF_day_5 c5), .int c6, .int (f_MF_day_7 c7 w n), .int (f_MF_day_8 c1 c3 c7 c8 c10 w r), .int (f_MF_day_9 c9 w), .int c10])) Hq)) ([.ref a, .int w, .int r, .int n] : List Value).toArray s 0 0 (fun q => q = a)) (F0 m 146 ls []) := by
              intro locs ls v_17 hv_17 hS hl
              refine lv_aload_n hx hb dX6_day_146 rfl (lv_at hl 1 rfl) ?_
              refine lv_aload_n hx hb dX6_day_147 rfl (lv_at hl 1 rfl) ?_
              refine mget fx tfX6 h_a 4 (by decide) q1093 (fun _ h => h) (v := .int c4) rfl dX6_day_148 ?_
              refine lv_iload hx hb dX6_day_151 (lv_at hl 0 rfl) ?_
              refine lv_iadd hx hb dX6_day_153 ?_
              refine lv_sipush (v := 180) hx hb dX6_day_154 (by decide) ?_
              refine kSN fx (m_heldM l g (c4 + v_17) 180) q1371 q55 q1369 q1370 hdX3_held ⟨(Nat.le_of_ble_eq_true rfl), (Nat.le_of_ble_eq_true rfl)⟩ ⟨(Nat.le_of_ble_eq_true rfl), (Nat.le_of_ble_eq_true rfl)⟩ hl.1 hS rfl (Nat.le_of_ble_eq_true rfl) trivial (fun _ h => h.elim) dX6_day_157 (fun rv9 H locs hQ hz9 hk9 hS => ?_)
              obtain ⟨rfl, rfl⟩ := hQ
              refine W.eq (g2 := F0 m 160 ls [.int (heldM (c4 + v_17) 180), .ref a]) rfl ?_
              refine mput fx tfX6 h_a hS rfl 4 (by decide) q1093 (fun _ h => h) rfl rfl rfl (Nat.le_of_ble_eq_true rfl) dX6_day_160 (fun H locs hat hz hoq hS => ?_)
              replace h_a : mAt g a (.inr (6, [.int c0, .int c1, .int c2, .int v_2, .int (heldM (c4 + v_17) 180), .int (c5 + 1), .int c6, .int c7, .int c8, .int c9, .int c10])) H := hat
              refine lv_iload_n hx hb dX6_day_163 rfl (lv_at hl 3 rfl) ?_
              refine lv_bipush (v := 8) hx hb dX6_day_164 (by decide) ?_
              have K_21 : ∀ (H : Heap) (locs : List Loc) (ls : Array Slot) (v_20 : Int32), v_20 = (if r < 8 then c8 else (if v_2 < (20 * c1) then c8 else 1)) → va_S (fun q => q = a) s.heap H locs → mAt g a (.inr (6, [.int c0, .int c1, .int c2, .int v_2, .int (heldM (c4 + v_17) 180), .int (c5 + 1), .int c6, .int c7, .int v_20, .int c9, .int c10])) H → lv_has ls 5 [(4, .int v_17), (0, .ref a), (1, .int w), (2, .int r), (3, .int n)] → W p l ev (mR 2 0 0) s m ([.ref a, .int w, .int r, .int n] : List Value).toArray below meth c H locs 0 0 (MQ below (mQ (fun q => q = a) (fun Hp rv Hq => rv = none ∧ mAt g a (.inr (6, [.int c0, .int c1, .int c2, .int (f_MF_day_3 c1 c3 c7 c8 c10 w r), .int (f_MF_day_4 c4 c5 c9 c10 w r), .int (f_MF_day_5 c5), .int c6, .int (f_MF_day_7 c7 w n), .int (f_MF_day_8 c1 c3 c7 c8 c10 w r), .int (f_MF_day_9 c9 w), .int c10])) Hq)) ([.ref a, .int w, .int r, .int n] : List Value).toArray s 0 0 (fun q => q = a)) (F0 m 188 ls []) := by
                intro H locs ls v_20 hv_20 hS h_a hl
                have bzv_20 : bz v_20 := by rw [hv_20]; (repeat' split) <;> first | exact Or.inl rfl | exact Or.inr rfl | exact hzc8 | exact hzc8
                refine lv_iload_n hx hb dX6_day_188 rfl (lv_at hl 2 rfl) ?_
                refine lv_iconst (v := 2) hx hb dX6_day_189 (by decide) ?_
                have K_24 : ∀ (H : Heap) (locs : List Loc) (ls : Array Slot) (v_23 : Int32), v_23 = (if 2 ≤ w then c9 else 1) → va_S (fun q => q = a) s.heap H locs → mAt g a (.inr (6, [.int c0, .int c1, .int c2, .int v_2, .int (heldM (c4 + v_17) 180), .int (c5 + 1), .int c6, .int c7, .int v_20, .int v_23, .int c10])) H → lv_has ls 5 [(4, .int v_17), (0, .ref a), (1, .int w), (2, .int r), (3, .int n)] → W p l ev (mR 2 0 0) s m ([.ref a, .int w, .int r, .int n] : List Value).toArray below meth c H locs 0 0 (MQ below (mQ (fun q => q = a) (fun Hp rv Hq => rv = none ∧ mAt g a (.inr (6, [.int c0, .int c1, .int c2, .int (f_MF_day_3 c1 c3 c7 c8 c10 w r), .int (f_MF_day_4 c4 c5 c9 c10 w r), .int (f_MF_day_5 c5), .int c6, .int (f_MF_day_7 c7 w n), .int (f_MF_day_8 c1 c3 c7 c8 c10 w r), .int (f_MF_day_9 c9 w), .int c10])) Hq)) ([.ref a, .int w, .int r, .int n] : List Value).toArray s 0 0 (fun q => q = a)) (F0 m 198 ls []) := by
                  intro H locs ls v_23 hv_23 hS h_a hl
                  have bzv_23 : bz v_23 := by rw [hv_23]; (repeat' split) <;> first | exact Or.inl rfl | exact Or.inr rfl | exact hzc9
                  refine lv_aload_n hx hb dX6_day_198 rfl (lv_at hl 1 rfl) ?_
                  refine lv_bipush (v := 100) hx hb dX6_day_199 (by decide) ?_
                  refine lv_aload_n hx hb dX6_day_201 rfl (lv_at hl 1 rfl) ?_
                  refine mget fx tfX6 h_a 7 (by decide) q1099 (fun _ h => h) (v := .int c7) rfl dX6_day_202 ?_
                  refine lv_aload_n hx hb dX6_day_205 rfl (lv_at hl 1 rfl) ?_
                  refine mget fx tfX6 h_a 7 (by decide) q1099 (fun _ h => h) (v := .int c7) rfl dX6_day_206 ?_
                  have K_27 : ∀ (locs : List Loc) (ls : Array Slot) (v_26 : Int32), v_26 = (if c7 ≤ 0 then 0 else 1) → va_S (fun q => q = a) s.heap H locs → lv_has ls 5 [(4, .int v_17), (0, .ref a), (1, .int w), (2, .int r), (3, .int n)] → W p l ev (mR 2 0 0) s m ([.ref a, .int w, .int r, .int n] : List Value).toArray below meth c H locs 0 0 (MQ below (mQ (fun q => q = a) (fun Hp rv Hq => rv = none ∧ mAt g a (.inr (6, [.int c0, .int c1, .int c2, .int (f_MF_day_3 c1 c3 c7 c8 c10 w r), .int (f_MF_day_4 c4 c5 c9 c10 w r), .int (f_MF_day_5 c5), .int c6, .int (f_MF_day_7 c7 w n), .int (f_MF_day_8 c1 c3 c7 c8 c10 w r), .int (f_MF_day_9 c9 w), .int c10])) Hq)) ([.ref a, .int w, .int r, .int n] : List Value).toArray s 0 0 (fun q => q = a)) (F0 m 217 ls [.int v_26, .int c7, .int 100, .ref a]) := by
                    intro locs ls v_26 hv_26 hS hl
                    have bzv_26 : bz v_26 := by rw [hv_26]; (repeat' split) <;> first | exact Or.inl rfl | exact Or.inr rfl
                    refine lv_iadd hx hb dX6_day_217 ?_
                    refine lv_iload_n hx hb dX6_day_218 rfl (lv_at hl 4 rfl) ?_
                    have K_30 : ∀ (locs : List Loc) (ls : Array Slot) (v_29 : Int32), v_29 = (if n = 0 then 0 else (if w < 25 then 0 else 2)) → va_S (fun q => q = a) s.heap H locs → lv_has ls 5 [(4, .int v_17), (0, .ref a), (1, .int w), (2, .int r), (3, .int n)] → W p l ev (mR 2 0 0) s m ([.ref a, .int w, .int r, .int n] : List Value).toArray below meth c H locs 0 0 (MQ below (mQ (fun q => q = a) (fun Hp rv Hq => rv = none ∧ mAt g a (.inr (6, [.int c0, .int c1, .int c2, .int (f_MF_day_3 c1 c3 c7 c8 c10 w r), .int (f_MF_day_4 c4 c5 c9 c10 w r), .int (f_MF_day_5 c5), .int c6, .int (f_MF_day_7 c7 w n), .int (f_MF_day_8 c1 c3 c7 c8 c10 w r), .int (f_MF_day_9 c9 w), .int c10])) Hq)) ([.ref a, .int w, .int r, .int n] : List Value).toArray s 0 0 (fun q => q = a)) (F0 m 233 ls [.int v_29, .int (c7 + v_26), .int 100, .ref a]) := by
                      intro locs ls v_29 hv_29 hS hl
                      refine lv_iadd hx hb dX6_day_233 ?_
                      refine kS fx (m_min l g 100 ((c7 + v_26) + v_29)) (lw_S q1368 q411 q67 q412) hdJ12_min ⟨(Nat.le_of_ble_eq_true rfl), (Nat.le_of_ble_eq_true rfl)⟩ ⟨(Nat.le_of_ble_eq_true rfl), (Nat.le_of_ble_eq_true rfl)⟩ hl.1 hS rfl (Nat.le_of_ble_eq_true rfl) trivial (fun _ h => h.elim) dX6_day_234 (fun rv9 H locs hQ hz9 hk9 hS => ?_)
                      obtain ⟨rfl, rfl⟩ := hQ
                      refine W.eq (g2 := F0 m 237 ls [.int (jmin 100 ((c7 + v_26) + v_29)), .ref a]) rfl ?_
                      refine mput fx tfX6 h_a hS rfl 7 (by decide) q1099 (fun _ h => h) rfl rfl rfl (Nat.le_of_ble_eq_true rfl) dX6_day_237 (fun H locs hat hz hoq hS => ?_)
                      replace h_a : mAt g a (.inr (6, [.int c0, .int c1, .int c2, .int v_2, .int (heldM (c4 + v_17) 180), .int (c5 + 1), .int c6, .int (jmin 100 ((c7 + v_26) + v_29)), .int v_20, .int v_23, .int c10])) H := hat
                      exact rv hx hb hr hlocks hS (⟨rfl, by rw [show f_MF_day_3 c1 c3 c7 c8 c10 w r = v_2 from (by subst hv_2; subst hv_5; subst hv_8; subst hv_11; subst hv_14; subst hv_17; subst hv_20; subst hv_23; subst hv_26; subst hv_29; simp only [f_MF_day_3]), show f_MF_day_4 c4 c5 c9 c10 w r = heldM (c4 + v_17) 180 from (by subst hv_2; subst hv_5; subst hv_8; subst hv_11; subst hv_14; subst hv_17; subst hv_20; subst hv_23; subst hv_26; subst hv_29; simp only [f_MF_day_4]), show f_MF_day_5 c5 = c5 + 1 from (by subst hv_2; subst hv_5; subst hv_8; subst hv_11; subst hv_14; subst hv_17; subst hv_20; subst hv_23; subst hv_26; subst hv_29; simp only [f_MF_day_5]), show f_MF_day_7 c7 w n = jmin 100 ((c7 + v_26) + v_29) from (by subst hv_2; subst hv_5; subst hv_8; subst hv_11; subst hv_14; subst hv_17; subst hv_20; subst hv_23; subst hv_26; subst hv_29; simp only [f_MF_day_7]), show f_MF_day_8 c1 c3 c7 c8 c10 w r = v_20 from (by subst hv_2; subst hv_5; subst hv_8; subst hv_11; subst hv_14; subst hv_17; subst hv_20; subst hv_23; subst hv_26; subst hv_29; simp only [f_MF_day_8]), show f_MF_day_9 c9 w = v_23 from (by subst hv_2; subst hv_5; subst hv_8; subst hv_11; subst hv_14; subst hv_17; subst hv_20; subst hv_23; subst hv_26; subst hv_29; simp only [f_MF_day_9])]; exact h_a⟩) ⟨(Nat.le_of_ble_eq_true rfl), (Nat.le_of_ble_eq_true rfl)⟩ dX6_day_240
                    refine lv_if_eq (tgt := 232) hx hb dX6_day_219 (by decide) (fun c_28 => ?_) (fun c_28 => ?_)
                    · skip
                      refine lv_iconst (v := 0) hx hb dX6_day_232 (by decide) ?_
                      exact K_30 _ _ 0 (by rw [if_pos c_28]) hS (lv_sub hl [0, 1, 2, 3, 4] rfl)
                    · skip
                      refine lv_iload_n hx hb dX6_day_222 rfl (lv_at hl 2 rfl) ?_
                      refine lv_bipush (v := 25) hx hb dX6_day_223 (by decide) ?_
                      refine lv_icmp_lt (tgt := 232) hx hb dX6_day_225 (by decide) (fun c_31 => ?_) (fun c_31 => ?_)
                      · skip
                        refine lv_iconst (v := 0) hx hb dX6_day_232 (by decide) ?_
                        exact K_30 _ _ 0 (by rw [if_neg c_28, if_pos c_31]) hS (lv_sub hl [0, 1, 2, 3, 4] rfl)
                      · skip
                        refine lv_iconst (v := 2) hx hb dX6_day_228 (by decide) ?_
                        refine lv_goto (tgt := 233) hx hb dX6_day_229 (by decide) ?_
                        exact K_30 _ _ 2 (by rw [if_neg c_28, if_neg c_31]) hS (lv_sub hl [0, 1, 2, 3, 4] rfl)
                  refine lv_if_le (tgt := 216) hx hb dX6_day_209 (by decide) (fun c_25 => ?_) (fun c_25 => ?_)
                  · skip
                    refine lv_iconst (v := 0) hx hb dX6_day_216 (by decide) ?_
                    exact K_27 _ _ 0 (by rw [if_pos c_25]) hS (lv_sub hl [0, 1, 2, 3, 4] rfl)
                  · skip
                    refine lv_iconst (v := 1) hx hb dX6_day_212 (by decide) ?_
                    refine lv_goto (tgt := 217) hx hb dX6_day_213 (by decide) ?_
                    exact K_27 _ _ 1 (by rw [if_neg c_25]) hS (lv_sub hl [0, 1, 2, 3, 4] rfl)
                refine lv_icmp_ge (tgt := 198) hx hb dX6_day_190 (by decide) (fun c_22 => ?_) (fun c_22 => ?_)
                · skip
                  exact K_24 _ _ _ c9 (by rw [if_pos c_22]) hS h_a (lv_sub hl [0, 1, 2, 3, 4] rfl)
                · skip
                  refine lv_aload_n hx hb dX6_day_193 rfl (lv_at hl 1 rfl) ?_
                  refine lv_iconst (v := 1) hx hb dX6_day_194 (by decide) ?_
                  refine mput fx tfX6 h_a hS rfl 9 (by decide) q1104 (fun _ h => h) rfl rfl rfl (Nat.le_of_ble_eq_true rfl) dX6_day_195 (fun H locs hat hz hoq hS => ?_)
                  replace h_a : mAt g a (.inr (6, [.int c0, .int c1, .int c2, .int v_2, .int (heldM (c4 + v_17) 180), .int (c5 + 1), .int c6, .int c7, .int v_20, .int 1, .int c10])) H := hat
                  exact K_24 _ _ _ 1 (by rw [if_neg c_22]) hS h_a (lv_sub hl [0, 1, 2, 3, 4] rfl)
              refine lv_icmp_lt (tgt := 188) hx hb dX6_day_166 (by decide) (fun c_19 => ?_) (fun c_19 => ?_)
              · skip
                exact K_21 _ _ _ c8 (by rw [if_pos c_19]) hS h_a (lv_sub hl [0, 1, 2, 3, 4] rfl)
              · skip
                refine lv_aload_n hx hb dX6_day_169 rfl (lv_at hl 1 rfl) ?_
                refine mget fx tfX6 h_a 3 (by decide) q1091 (fun _ h => h) (v := .int v_2) rfl dX6_day_170 ?_
                refine lv_bipush (v := 20) hx hb dX6_day_173 (by decide) ?_
                refine lv_aload_n hx hb dX6_day_175 rfl (lv_at hl 1 rfl) ?_
                refine mget fx tfX6 h_a 1 (by decide) q1086 (fun _ h => h) (v := .int c1) rfl dX6_day_176 ?_
                refine lv_imul hx hb dX6_day_179 ?_
                refine lv_icmp_lt (tgt := 188) hx hb dX6_day_180 (by decide) (fun c_32 => ?_) (fun c_32 => ?_)
                · skip
                  exact K_21 _ _ _ c8 (by rw [if_neg c_19, if_pos c_32]) hS h_a (lv_sub hl [0, 1, 2, 3, 4] rfl)
                · skip
                  refine lv_aload_n hx hb dX6_day_183 rfl (lv_at hl 1 rfl) ?_
                  refine lv_iconst (v := 1) hx hb dX6_day_184 (by decide) ?_
                  refine mput fx tfX6 h_a hS rfl 8 (by decide) q1102 (fun _ h => h) rfl rfl rfl (Nat.le_of_ble_eq_true rfl) dX6_day_185 (fun H locs hat hz hoq hS => ?_)
                  replace h_a : mAt g a (.inr (6, [.int c0, .int c1, .int c2, .int v_2, .int (heldM (c4 + v_17) 180), .int (c5 + 1), .int c6, .int c7, .int 1, .int c9, .int c10])) H := hat
                  exact K_21 _ _ _ 1 (by rw [if_neg c_19, if_neg c_32]) hS h_a (lv_sub hl [0, 1, 2, 3, 4] rfl)
            refine lv_if_eq (tgt := 146) hx hb dX6_day_140 (by decide) (fun c_16 => ?_) (fun c_16 => ?_)
            · skip
              exact K_18 _ _ v_14 (by rw [if_pos c_16]) hS (lv_sub hl [0, 1, 2, 3, 4] rfl)
            · skip
              refine lv_iinc (v := v_14 + (-5)) (lv' := [(4, .int (v_14 + (-5))), (0, .ref a), (1, .int w), (2, .int r), (3, .int n)]) hx hb dX6_day_143 hl (k := 0) rfl rfl (by decide) rfl (fun ls hl => ?_)
              exact K_18 _ _ (v_14 + (-5)) (by rw [if_neg c_16]) hS (lv_sub hl [0, 1, 2, 3, 4] rfl)
          refine lv_if_eq (tgt := 136) hx hb dX6_day_130 (by decide) (fun c_13 => ?_) (fun c_13 => ?_)
          · skip
            exact K_15 _ _ v_11 (by rw [if_pos c_13]) hS (lv_sub hl [0, 1, 2, 3, 4] rfl)
          · skip
            refine lv_iinc (v := v_11 + (-6)) (lv' := [(4, .int (v_11 + (-6))), (0, .ref a), (1, .int w), (2, .int r), (3, .int n)]) hx hb dX6_day_133 hl (k := 0) rfl rfl (by decide) rfl (fun ls hl => ?_)
            exact K_15 _ _ (v_11 + (-6)) (by rw [if_neg c_13]) hS (lv_sub hl [0, 1, 2, 3, 4] rfl)
        refine lv_icmp_ge (tgt := 126) hx hb dX6_day_111 (by decide) (fun c_10 => ?_) (fun c_10 => ?_)
        · skip
          exact K_12 _ _ v_8 (by rw [if_pos c_10]) hS (lv_sub hl [0, 1, 2, 3, 4] rfl)
        · skip
          refine lv_iload hx hb dX6_day_114 (lv_at hl 0 rfl) ?_
          refine lv_bipush (v := 20) hx hb dX6_day_116 (by decide) ?_
          refine lv_iload_n hx hb dX6_day_118 rfl (lv_at hl 2 rfl) ?_
          refine lv_isub hx hb dX6_day_119 ?_
          refine lv_bipush (v := 10) hx hb dX6_day_120 (by decide) ?_
          refine lv_idiv hx hb dX6_day_122 (by decide) ?_
          refine lv_iadd hx hb dX6_day_123 ?_
          refine lv_istore (lv' := [(4, .int (v_8 + ((20 - w) / 10))), (0, .ref a), (1, .int w), (2, .int r), (3, .int n)]) hx hb dX6_day_124 hl (by decide) rfl (fun ls hl => ?_)
          exact K_12 _ _ (v_8 + ((20 - w) / 10)) (by rw [if_neg c_10]) hS (lv_sub hl [0, 1, 2, 3, 4] rfl)
      refine lv_icmp_lt (tgt := 108) hx hb dX6_day_102 (by decide) (fun c_7 => ?_) (fun c_7 => ?_)
      · skip
        exact K_9 _ _ v_5 (by rw [if_pos c_7]) hS (lv_sub hl [0, 1, 2, 3, 4] rfl)
      · skip
        refine lv_iinc (v := v_5 + (-2)) (lv' := [(4, .int (v_5 + (-2))), (0, .ref a), (1, .int w), (2, .int r), (3, .int n)]) hx hb dX6_day_105 hl (k := 0) rfl rfl (by decide) rfl (fun ls hl => ?_)
        exact K_9 _ _ (v_5 + (-2)) (by rw [if_neg c_7]) hS (lv_sub hl [0, 1, 2, 3, 4] rfl)
    refine lv_icmp_lt (tgt := 99) hx hb dX6_day_88 (by decide) (fun c_4 => ?_) (fun c_4 => ?_)
    · skip
      exact K_6 _ _ 0 (by rw [if_pos c_4]) hS (lv_sub hl [0, 1, 2, 3, 4] rfl)
    · skip
      refine lv_iload_n hx hb dX6_day_91 rfl (lv_at hl 3 rfl) ?_
      refine lv_iconst (v := 3) hx hb dX6_day_92 (by decide) ?_
      refine lv_icmp_ge (tgt := 99) hx hb dX6_day_93 (by decide) (fun c_33 => ?_) (fun c_33 => ?_)
      · skip
        exact K_6 _ _ 0 (by rw [if_neg c_4, if_pos c_33]) hS (lv_sub hl [0, 1, 2, 3, 4] rfl)
      · skip
        refine lv_iinc (v := 0 + 4) (lv' := [(4, .int (0 + 4)), (0, .ref a), (1, .int w), (2, .int r), (3, .int n)]) hx hb dX6_day_96 hl (k := 0) rfl rfl (by decide) rfl (fun ls hl => ?_)
        exact K_6 _ _ (0 + 4) (by rw [if_neg c_4, if_neg c_33]) hS (lv_sub hl [0, 1, 2, 3, 4] rfl)
  refine lv_if_ne (tgt := 79) hx hb dX6_day_14 (by decide) (fun c_1 => ?_) (fun c_1 => ?_)
  · skip
    exact K_3 _ _ _ c3 (by rw [if_neg c_1]) hS h_a (lv_sub hl [0, 1, 2, 3] rfl)
  · skip
    refine lv_aload_n hx hb dX6_day_17 rfl (lv_at hl 0 rfl) ?_
    refine mget fx tfX6 h_a 1 (by decide) q1086 (fun _ h => h) (v := .int c1) rfl dX6_day_18 ?_
    refine lv_iconst (v := 0) hx hb dX6_day_21 (by decide) ?_
    refine lv_iload_n hx hb dX6_day_22 rfl (lv_at hl 1 rfl) ?_
    refine lv_bipush (v := 8) hx hb dX6_day_23 (by decide) ?_
    refine kS fx (m_floorDiv l g w 8 (by decide)) (lw_S q1366 q429 q67 q430) hdJ12_floorDiv ⟨(Nat.le_of_ble_eq_true rfl), (Nat.le_of_ble_eq_true rfl)⟩ ⟨(Nat.le_of_ble_eq_true rfl), (Nat.le_of_ble_eq_true rfl)⟩ hl.1 hS rfl (Nat.le_of_ble_eq_true rfl) trivial (fun _ h => h.elim) dX6_day_25 (fun rv9 H locs hQ hz9 hk9 hS => ?_)
    obtain ⟨rfl, rfl⟩ := hQ
    refine W.eq (g2 := F0 m 28 ls [.int (jfdiv w 8), .int 0, .int c1]) rfl ?_
    refine kS fx (m_max l g 0 (jfdiv w 8)) (lw_S q1367 q375 q67 q376) hdJ12_max ⟨(Nat.le_of_ble_eq_true rfl), (Nat.le_of_ble_eq_true rfl)⟩ ⟨(Nat.le_of_ble_eq_true rfl), (Nat.le_of_ble_eq_true rfl)⟩ hl.1 hS rfl (Nat.le_of_ble_eq_true rfl) trivial (fun _ h => h.elim) dX6_day_28 (fun rv9 H locs hQ hz9 hk9 hS => ?_)
    obtain ⟨rfl, rfl⟩ := hQ
    refine W.eq (g2 := F0 m 31 ls [.int (jmax 0 (jfdiv w 8)), .int c1]) rfl ?_
    refine lv_iload_n hx hb dX6_day_31 rfl (lv_at hl 2 rfl) ?_
    refine lv_iconst (v := 3) hx hb dX6_day_32 (by decide) ?_
    refine lv_idiv hx hb dX6_day_33 (by decide) ?_
    refine lv_iadd hx hb dX6_day_34 ?_
    refine lv_imul hx hb dX6_day_35 ?_
    refine lv_istore (lv' := [(4, .int (c1 * ((jmax 0 (jfdiv w 8)) + (r / 3)))), (0, .ref a), (1, .int w), (2, .int r), (3, .int n)]) hx hb dX6_day_36 hl (by decide) rfl (fun ls hl => ?_)
    refine lv_aload_n hx hb dX6_day_38 rfl (lv_at hl 1 rfl) ?_
    refine mget fx tfX6 h_a 8 (by decide) q1102 (fun _ h => h) (v := .int c8) rfl dX6_day_39 ?_
    have K_36 : ∀ (locs : List Loc) (ls : Array Slot) (v_35 : Int32), v_35 = (if c8 = 0 then (c1 * ((jmax 0 (jfdiv w 8)) + (r / 3))) else ((c1 * ((jmax 0 (jfdiv w 8)) + (r / 3))) / 2)) → va_S (fun q => q = a) s.heap H locs → lv_has ls 5 [(4, .int v_35), (0, .ref a), (1, .int w), (2, .int r), (3, .int n)] → W p l ev (mR 2 0 0) s m ([.ref a, .int w, .int r, .int n] : List Value).toArray below meth c H locs 0 0 (MQ below (mQ (fun q => q = a) (fun Hp rv Hq => rv = none ∧ mAt g a (.inr (6, [.int c0, .int c1, .int c2, .int (f_MF_day_3 c1 c3 c7 c8 c10 w r), .int (f_MF_day_4 c4 c5 c9 c10 w r), .int (f_MF_day_5 c5), .int c6, .int (f_MF_day_7 c7 w n), .int (f_MF_day_8 c1 c3 c7 c8 c10 w r), .int (f_MF_day_9 c9 w), .int c10])) Hq)) ([.ref a, .int w, .int r, .int n] : List Value).toArray s 0 0 (fun q => q = a)) (F0 m 51 ls []) := by
      intro locs ls v_35 hv_35 hS hl
      refine lv_aload_n hx hb dX6_day_51 rfl (lv_at hl 1 rfl) ?_
      refine lv_sipush (v := 999) hx hb dX6_day_52 (by decide) ?_
      refine lv_aload_n hx hb dX6_day_55 rfl (lv_at hl 1 rfl) ?_
      refine mget fx tfX6 h_a 3 (by decide) q1091 (fun _ h => h) (v := .int c3) rfl dX6_day_56 ?_
      refine lv_iload hx hb dX6_day_59 (lv_at hl 0 rfl) ?_
      refine lv_iadd hx hb dX6_day_61 ?_
      refine lv_iload hx hb dX6_day_62 (lv_at hl 0 rfl) ?_
      refine lv_aload_n hx hb dX6_day_64 rfl (lv_at hl 1 rfl) ?_
      refine mget fx tfX6 h_a 7 (by decide) q1099 (fun _ h => h) (v := .int c7) rfl dX6_day_65 ?_
      refine lv_imul hx hb dX6_day_68 ?_
      refine lv_bipush (v := 100) hx hb dX6_day_69 (by decide) ?_
      refine lv_idiv hx hb dX6_day_71 (by decide) ?_
      refine lv_isub hx hb dX6_day_72 ?_
      refine kS fx (m_min l g 999 ((c3 + v_35) - ((v_35 * c7) / 100))) (lw_S q1368 q411 q67 q412) hdJ12_min ⟨(Nat.le_of_ble_eq_true rfl), (Nat.le_of_ble_eq_true rfl)⟩ ⟨(Nat.le_of_ble_eq_true rfl), (Nat.le_of_ble_eq_true rfl)⟩ hl.1 hS rfl (Nat.le_of_ble_eq_true rfl) trivial (fun _ h => h.elim) dX6_day_73 (fun rv9 H locs hQ hz9 hk9 hS => ?_)
      obtain ⟨rfl, rfl⟩ := hQ
      refine W.eq (g2 := F0 m 76 ls [.int (jmin 999 ((c3 + v_35) - ((v_35 * c7) / 100))), .ref a]) rfl ?_
      refine mput fx tfX6 h_a hS rfl 3 (by decide) q1091 (fun _ h => h) rfl rfl rfl (Nat.le_of_ble_eq_true rfl) dX6_day_76 (fun H locs hat hz hoq hS => ?_)
      replace h_a : mAt g a (.inr (6, [.int c0, .int c1, .int c2, .int (jmin 999 ((c3 + v_35) - ((v_35 * c7) / 100))), .int c4, .int (c5 + 1), .int c6, .int c7, .int c8, .int c9, .int c10])) H := hat
      exact K_3 _ _ _ (jmin 999 ((c3 + v_35) - ((v_35 * c7) / 100))) (by subst hv_35; rw [if_pos c_1]) hS h_a (lv_sub hl [1, 2, 3, 4] rfl)
    refine lv_if_eq (tgt := 51) hx hb dX6_day_42 (by decide) (fun c_34 => ?_) (fun c_34 => ?_)
    · skip
      exact K_36 _ _ (c1 * ((jmax 0 (jfdiv w 8)) + (r / 3))) (by rw [if_pos c_34]) hS (lv_sub hl [0, 1, 2, 3, 4] rfl)
    · skip
      refine lv_iload hx hb dX6_day_45 (lv_at hl 0 rfl) ?_
      refine lv_iconst (v := 2) hx hb dX6_day_47 (by decide) ?_
      refine lv_idiv hx hb dX6_day_48 (by decide) ?_
      refine lv_istore (lv' := [(4, .int ((c1 * ((jmax 0 (jfdiv w 8)) + (r / 3))) / 2)), (0, .ref a), (1, .int w), (2, .int r), (3, .int n)]) hx hb dX6_day_49 hl (by decide) rfl (fun ls hl => ?_)
      exact K_36 _ _ ((c1 * ((jmax 0 (jfdiv w 8)) + (r / 3))) / 2) (by rw [if_neg c_34]) hS (lv_sub hl [0, 1, 2, 3, 4] rfl)

def f_MF_again_6 (c6 : Int32) : Int32 := c6 + 1
def f_MF_again_7 (c7 : Int32) : Int32 := c7 / 2
set_option maxHeartbeats 4000000 in
theorem m_MF_again (l : Launch) (g : GT) (a : Nat) (c0 c1 c2 c3 c4 c5 c6 c7 c8 c9 c10 : Int32) (ha : bA g a) : Cn l g yX6_again cX6_again 1 (none) 0 0 0 [.ref a] (fun q => q = a) (fun H => mAt g a (.inr (6, [.int c0, .int c1, .int c2, .int c3, .int c4, .int c5, .int c6, .int c7, .int c8, .int c9, .int c10])) H) (fun Hp rv Hq => rv = none ∧ mAt g a (.inr (6, [.int c0, .int c1, .int c2, .int c3, .int 60, .int 0, .int (f_MF_again_6 c6), .int (f_MF_again_7 c7), .int 0, .int 0, .int 0])) Hq) := by
  refine Cn.start (plainFor_of_name (by decide +kernel)) (Nat.le_of_ble_eq_true rfl) ?_
  intro p ev s m below meth c ls H locs hH hx hb hr hts hown hlocks hml hnm hK hP hS hl
  have h_a := hP
  have fx : Fx p s m ([.ref a] : List Value).toArray c cX6_again RX6 g (fun q => q = a) 1 := ⟨hx, hb, hts, hown, hK, fun q h => by rw [h]; exact ha, hml⟩
  have hl : lv_has ls 1 [(0, .ref a)] := hl
  refine lv_aload_n hx hb dX6_again_0 rfl (lv_at hl 0 rfl) ?_
  refine lv_dup hx hb dX6_again_1 rfl ?_
  refine mget fx tfX6 h_a 6 (by decide) q1097 (fun _ h => h) (v := .int c6) rfl dX6_again_2 ?_
  refine lv_iconst (v := 1) hx hb dX6_again_5 (by decide) ?_
  refine lv_iadd hx hb dX6_again_6 ?_
  refine mput fx tfX6 h_a hS rfl 6 (by decide) q1097 (fun _ h => h) rfl rfl rfl (Nat.le_of_ble_eq_true rfl) dX6_again_7 (fun H locs hat hz hoq hS => ?_)
  replace h_a : mAt g a (.inr (6, [.int c0, .int c1, .int c2, .int c3, .int c4, .int c5, .int (c6 + 1), .int c7, .int c8, .int c9, .int c10])) H := hat
  refine lv_aload_n hx hb dX6_again_10 rfl (lv_at hl 0 rfl) ?_
  refine lv_iconst (v := 0) hx hb dX6_again_11 (by decide) ?_
  refine mput fx tfX6 h_a hS rfl 5 (by decide) q1095 (fun _ h => h) rfl rfl rfl (Nat.le_of_ble_eq_true rfl) dX6_again_12 (fun H locs hat hz hoq hS => ?_)
  replace h_a : mAt g a (.inr (6, [.int c0, .int c1, .int c2, .int c3, .int c4, .int 0, .int (c6 + 1), .int c7, .int c8, .int c9, .int c10])) H := hat
  refine lv_aload_n hx hb dX6_again_15 rfl (lv_at hl 0 rfl) ?_
  refine lv_bipush (v := 60) hx hb dX6_again_16 (by decide) ?_
  refine mput fx tfX6 h_a hS rfl 4 (by decide) q1093 (fun _ h => h) rfl rfl rfl (Nat.le_of_ble_eq_true rfl) dX6_again_18 (fun H locs hat hz hoq hS => ?_)
  replace h_a : mAt g a (.inr (6, [.int c0, .int c1, .int c2, .int c3, .int 60, .int 0, .int (c6 + 1), .int c7, .int c8, .int c9, .int c10])) H := hat
  refine lv_aload_n hx hb dX6_again_21 rfl (lv_at hl 0 rfl) ?_
  refine lv_dup hx hb dX6_again_22 rfl ?_
  refine mget fx tfX6 h_a 7 (by decide) q1099 (fun _ h => h) (v := .int c7) rfl dX6_again_23 ?_
  refine lv_iconst (v := 2) hx hb dX6_again_26 (by decide) ?_
  refine lv_idiv hx hb dX6_again_27 (by decide) ?_
  refine mput fx tfX6 h_a hS rfl 7 (by decide) q1099 (fun _ h => h) rfl rfl rfl (Nat.le_of_ble_eq_true rfl) dX6_again_28 (fun H locs hat hz hoq hS => ?_)
  replace h_a : mAt g a (.inr (6, [.int c0, .int c1, .int c2, .int c3, .int 60, .int 0, .int (c6 + 1), .int (c7 / 2), .int c8, .int c9, .int c10])) H := hat
  refine lv_aload_n hx hb dX6_again_31 rfl (lv_at hl 0 rfl) ?_
  refine lv_iconst (v := 0) hx hb dX6_again_32 (by decide) ?_
  refine mput fx tfX6 h_a hS rfl 8 (by decide) q1102 (fun _ h => h) rfl rfl rfl (Nat.le_of_ble_eq_true rfl) dX6_again_33 (fun H locs hat hz hoq hS => ?_)
  replace h_a : mAt g a (.inr (6, [.int c0, .int c1, .int c2, .int c3, .int 60, .int 0, .int (c6 + 1), .int (c7 / 2), .int 0, .int c9, .int c10])) H := hat
  refine lv_aload_n hx hb dX6_again_36 rfl (lv_at hl 0 rfl) ?_
  refine lv_iconst (v := 0) hx hb dX6_again_37 (by decide) ?_
  refine mput fx tfX6 h_a hS rfl 9 (by decide) q1104 (fun _ h => h) rfl rfl rfl (Nat.le_of_ble_eq_true rfl) dX6_again_38 (fun H locs hat hz hoq hS => ?_)
  replace h_a : mAt g a (.inr (6, [.int c0, .int c1, .int c2, .int c3, .int 60, .int 0, .int (c6 + 1), .int (c7 / 2), .int 0, .int 0, .int c10])) H := hat
  refine lv_aload_n hx hb dX6_again_41 rfl (lv_at hl 0 rfl) ?_
  refine lv_iconst (v := 0) hx hb dX6_again_42 (by decide) ?_
  refine mput fx tfX6 h_a hS rfl 10 (by decide) q1106 (fun _ h => h) rfl rfl rfl (Nat.le_of_ble_eq_true rfl) dX6_again_43 (fun H locs hat hz hoq hS => ?_)
  replace h_a : mAt g a (.inr (6, [.int c0, .int c1, .int c2, .int c3, .int 60, .int 0, .int (c6 + 1), .int (c7 / 2), .int 0, .int 0, .int 0])) H := hat
  exact rv hx hb hr hlocks hS (⟨rfl, by rw [show f_MF_again_6 c6 = c6 + 1 from rfl, show f_MF_again_7 c7 = c7 / 2 from rfl]; exact h_a⟩) ⟨(Nat.le_of_ble_eq_true rfl), (Nat.le_of_ble_eq_true rfl)⟩ dX6_again_46

set_option maxHeartbeats 4000000 in
theorem m_MF_copy (l : Launch) (g : GT) (a sz : Nat) (c0 c1 c2 c3 c4 c5 c6 c7 c8 c9 c10 : Int32) (hzc8 : bz c8) (hzc9 : bz c9) (hzc10 : bz c10) : Cn l g yX6_copy cX6_copy 2 ((some (.object "CanecrushModel$Field"))) 2 1 11 [.ref a] (fun q => sz ≤ q) (fun H => sz = H.size ∧ mAt g a (.inr (6, [.int c0, .int c1, .int c2, .int c3, .int c4, .int c5, .int c6, .int c7, .int c8, .int c9, .int c10])) H) (fun Hp rv Hq => ∃ q, rv = some (.ref q) ∧ sz ≤ q ∧ mAt g q (.inr (6, [.int c0, .int c1, .int c2, .int c3, .int c4, .int c5, .int c6, .int c7, .int c8, .int c9, .int c10])) Hq) := by
  refine Cn.start (plainFor_of_name (by decide +kernel)) (Nat.le_of_ble_eq_true rfl) ?_
  intro p ev s m below meth c ls H locs hH hx hb hr hts hown hlocks hml hnm hK hP hS hl
  obtain ⟨hsz, h_a⟩ := hP
  have hszs : sz = s.heap.size := by rw [hsz, hH]
  have hAs : ∀ q, s.heap.size ≤ q → sz ≤ q := fun q h => by rw [hszs]; exact h
  have hAb : ∀ q, sz ≤ q → bA g q := fun q h => Nat.le_trans hK.2.2.sz (by rw [← hszs]; exact h)
  have fx : Fx p s m ([.ref a] : List Value).toArray c cX6_copy RX6 g (fun q => sz ≤ q) 2 := ⟨hx, hb, hts, hown, hK, hAb, hml⟩
  have hl : lv_has ls 2 [(0, .ref a)] := hl
  refine mnew fx [.int 0, .int 0, .int 0, .int 0, .int 0, .int 0, .int 0, .int 0, .int 0, .int 0, .int 0] tfX6 q1448 q1079 q70 hS dv_X6 ⟨(Nat.le_of_ble_eq_true rfl), (Nat.le_of_ble_eq_true rfl)⟩ dX6_copy_0 (fun an_2 H ean_2 hloan_2 hat hz hoq hS => ?_)
  have ne_3 : a ≠ an_2 := Nat.ne_of_lt (by rw [ean_2]; exact h_a.lt)
  replace h_a := h_a.kept (hoq _ (by rw [ean_2]; exact h_a.lt))
  have inan_2 := hAs an_2 hloan_2
  have hn_1 : mAt g an_2 (.inr (6, [.int 0, .int 0, .int 0, .int 0, .int 0, .int 0, .int 0, .int 0, .int 0, .int 0, .int 0])) H := hat
  refine lv_dup hx hb dX6_copy_3 rfl ?_
  refine lv_aload_n hx hb dX6_copy_4 rfl (lv_at hl 0 rfl) ?_
  refine mget fx tfX6 h_a 0 (by decide) q1084 (fun _ h => h) (v := .int c0) rfl dX6_copy_5 ?_
  refine lv_aload_n hx hb dX6_copy_8 rfl (lv_at hl 0 rfl) ?_
  refine mget fx tfX6 h_a 1 (by decide) q1086 (fun _ h => h) (v := .int c1) rfl dX6_copy_9 ?_
  refine lv_aload_n hx hb dX6_copy_12 rfl (lv_at hl 0 rfl) ?_
  refine mget fx tfX6 h_a 2 (by decide) q1088 (fun _ h => h) (v := .int c2) rfl dX6_copy_13 ?_
  refine kI fx (m_MF_init l g an_2  c0 c1 c2 (fx.2.2.2.2.2.1 _ inan_2) ) q1082 q70 q1449 q1081 rfl hdX6_init ⟨(Nat.le_of_ble_eq_true rfl), (Nat.le_of_ble_eq_true rfl)⟩ ⟨(Nat.le_of_ble_eq_true rfl), (Nat.le_of_ble_eq_true rfl)⟩ hl.1 hS rfl (Nat.le_of_ble_eq_true rfl) hn_1 (fun q h => by cases h; exact inan_2) dX6_copy_16 (fun rv9 H locs hQ hz9 hk9 hS => ?_)
  obtain ⟨rfl, hat⟩ := hQ
  replace h_a := h_a.kept (hk9 _ h_a.lt ne_3)
  replace hn_1 : mAt g an_2 (.inr (6, [.int c0, .int c1, .int c2, .int 0, .int 60, .int 0, .int 0, .int 0, .int 0, .int 0, .int 0])) H := hat
  refine W.eq (g2 := F0 m 19 ls [.ref an_2]) rfl ?_
  refine lv_astore_n (lv' := [(1, .ref an_2), (0, .ref a)]) hx hb dX6_copy_19 rfl hl (by decide) rfl (fun ls hl => ?_)
  refine lv_aload_n hx hb dX6_copy_20 rfl (lv_at hl 0 rfl) ?_
  refine lv_aload_n hx hb dX6_copy_21 rfl (lv_at hl 1 rfl) ?_
  refine mget fx tfX6 h_a 3 (by decide) q1091 (fun _ h => h) (v := .int c3) rfl dX6_copy_22 ?_
  refine mput fx tfX6 hn_1 hS inan_2 3 (by decide) q1091 (fun _ h => h) rfl rfl rfl (Nat.le_of_ble_eq_true rfl) dX6_copy_25 (fun H locs hat hz hoq hS => ?_)
  replace h_a := h_a.kept (hoq _ ne_3)
  replace hn_1 : mAt g an_2 (.inr (6, [.int c0, .int c1, .int c2, .int c3, .int 60, .int 0, .int 0, .int 0, .int 0, .int 0, .int 0])) H := hat
  refine lv_aload_n hx hb dX6_copy_28 rfl (lv_at hl 0 rfl) ?_
  refine lv_aload_n hx hb dX6_copy_29 rfl (lv_at hl 1 rfl) ?_
  refine mget fx tfX6 h_a 4 (by decide) q1093 (fun _ h => h) (v := .int c4) rfl dX6_copy_30 ?_
  refine mput fx tfX6 hn_1 hS inan_2 4 (by decide) q1093 (fun _ h => h) rfl rfl rfl (Nat.le_of_ble_eq_true rfl) dX6_copy_33 (fun H locs hat hz hoq hS => ?_)
  replace h_a := h_a.kept (hoq _ ne_3)
  replace hn_1 : mAt g an_2 (.inr (6, [.int c0, .int c1, .int c2, .int c3, .int c4, .int 0, .int 0, .int 0, .int 0, .int 0, .int 0])) H := hat
  refine lv_aload_n hx hb dX6_copy_36 rfl (lv_at hl 0 rfl) ?_
  refine lv_aload_n hx hb dX6_copy_37 rfl (lv_at hl 1 rfl) ?_
  refine mget fx tfX6 h_a 5 (by decide) q1095 (fun _ h => h) (v := .int c5) rfl dX6_copy_38 ?_
  refine mput fx tfX6 hn_1 hS inan_2 5 (by decide) q1095 (fun _ h => h) rfl rfl rfl (Nat.le_of_ble_eq_true rfl) dX6_copy_41 (fun H locs hat hz hoq hS => ?_)
  replace h_a := h_a.kept (hoq _ ne_3)
  replace hn_1 : mAt g an_2 (.inr (6, [.int c0, .int c1, .int c2, .int c3, .int c4, .int c5, .int 0, .int 0, .int 0, .int 0, .int 0])) H := hat
  refine lv_aload_n hx hb dX6_copy_44 rfl (lv_at hl 0 rfl) ?_
  refine lv_aload_n hx hb dX6_copy_45 rfl (lv_at hl 1 rfl) ?_
  refine mget fx tfX6 h_a 6 (by decide) q1097 (fun _ h => h) (v := .int c6) rfl dX6_copy_46 ?_
  refine mput fx tfX6 hn_1 hS inan_2 6 (by decide) q1097 (fun _ h => h) rfl rfl rfl (Nat.le_of_ble_eq_true rfl) dX6_copy_49 (fun H locs hat hz hoq hS => ?_)
  replace h_a := h_a.kept (hoq _ ne_3)
  replace hn_1 : mAt g an_2 (.inr (6, [.int c0, .int c1, .int c2, .int c3, .int c4, .int c5, .int c6, .int 0, .int 0, .int 0, .int 0])) H := hat
  refine lv_aload_n hx hb dX6_copy_52 rfl (lv_at hl 0 rfl) ?_
  refine lv_aload_n hx hb dX6_copy_53 rfl (lv_at hl 1 rfl) ?_
  refine mget fx tfX6 h_a 7 (by decide) q1099 (fun _ h => h) (v := .int c7) rfl dX6_copy_54 ?_
  refine mput fx tfX6 hn_1 hS inan_2 7 (by decide) q1099 (fun _ h => h) rfl rfl rfl (Nat.le_of_ble_eq_true rfl) dX6_copy_57 (fun H locs hat hz hoq hS => ?_)
  replace h_a := h_a.kept (hoq _ ne_3)
  replace hn_1 : mAt g an_2 (.inr (6, [.int c0, .int c1, .int c2, .int c3, .int c4, .int c5, .int c6, .int c7, .int 0, .int 0, .int 0])) H := hat
  refine lv_aload_n hx hb dX6_copy_60 rfl (lv_at hl 0 rfl) ?_
  refine lv_aload_n hx hb dX6_copy_61 rfl (lv_at hl 1 rfl) ?_
  refine mget fx tfX6 h_a 8 (by decide) q1102 (fun _ h => h) (v := .int c8) rfl dX6_copy_62 ?_
  refine mput fx tfX6 hn_1 hS inan_2 8 (by decide) q1102 (fun _ h => h) rfl (nar_z hzc8) (fit_z hzc8) (Nat.le_of_ble_eq_true rfl) dX6_copy_65 (fun H locs hat hz hoq hS => ?_)
  replace h_a := h_a.kept (hoq _ ne_3)
  replace hn_1 : mAt g an_2 (.inr (6, [.int c0, .int c1, .int c2, .int c3, .int c4, .int c5, .int c6, .int c7, .int c8, .int 0, .int 0])) H := hat
  refine lv_aload_n hx hb dX6_copy_68 rfl (lv_at hl 0 rfl) ?_
  refine lv_aload_n hx hb dX6_copy_69 rfl (lv_at hl 1 rfl) ?_
  refine mget fx tfX6 h_a 9 (by decide) q1104 (fun _ h => h) (v := .int c9) rfl dX6_copy_70 ?_
  refine mput fx tfX6 hn_1 hS inan_2 9 (by decide) q1104 (fun _ h => h) rfl (nar_z hzc9) (fit_z hzc9) (Nat.le_of_ble_eq_true rfl) dX6_copy_73 (fun H locs hat hz hoq hS => ?_)
  replace h_a := h_a.kept (hoq _ ne_3)
  replace hn_1 : mAt g an_2 (.inr (6, [.int c0, .int c1, .int c2, .int c3, .int c4, .int c5, .int c6, .int c7, .int c8, .int c9, .int 0])) H := hat
  refine lv_aload_n hx hb dX6_copy_76 rfl (lv_at hl 0 rfl) ?_
  refine lv_aload_n hx hb dX6_copy_77 rfl (lv_at hl 1 rfl) ?_
  refine mget fx tfX6 h_a 10 (by decide) q1106 (fun _ h => h) (v := .int c10) rfl dX6_copy_78 ?_
  refine mput fx tfX6 hn_1 hS inan_2 10 (by decide) q1106 (fun _ h => h) rfl (nar_z hzc10) (fit_z hzc10) (Nat.le_of_ble_eq_true rfl) dX6_copy_81 (fun H locs hat hz hoq hS => ?_)
  replace h_a := h_a.kept (hoq _ ne_3)
  replace hn_1 : mAt g an_2 (.inr (6, [.int c0, .int c1, .int c2, .int c3, .int c4, .int c5, .int c6, .int c7, .int c8, .int c9, .int c10])) H := hat
  refine lv_aload_n hx hb dX6_copy_84 rfl (lv_at hl 0 rfl) ?_
  exact ra hx hb hr (Or.inl ⟨_, rfl⟩) hlocks hS (⟨an_2, rfl, by rw [hszs]; exact hloan_2, hn_1⟩) ⟨(Nat.le_of_ble_eq_true rfl), (Nat.le_of_ble_eq_true rfl)⟩ dX6_copy_85

set_option maxHeartbeats 4000000 in
theorem m_ML_init (l : Launch) (g : GT) (a : Nat) (fi gr to sw bu cu : Int32) (ha : bA g a) (hzbu : bz bu) : Cn l g yX10_init cX10_init 7 (none) 1 0 0 [.ref a, .int fi, .int gr, .int to, .int sw, .int bu, .int cu] (fun q => q = a) (fun H => mAt g a (.inr (10, [.int 0, .int 0, .int 0, .int 0, .int 0, .int 0, .int 0, .int 0])) H) (fun Hp rv Hq => rv = none ∧ mAt g a (.inr (10, [.int fi, .int gr, .int to, .int sw, .int bu, .int cu, .int 0, .int (-1)])) Hq) := by
  refine Cn.start (plainFor_of_name (by decide +kernel)) (Nat.le_of_ble_eq_true rfl) ?_
  intro p ev s m below meth c ls H locs hH hx hb hr hts hown hlocks hml hnm hK hP hS hl
  have h_a := hP
  have fx : Fx p s m ([.ref a, .int fi, .int gr, .int to, .int sw, .int bu, .int cu] : List Value).toArray c cX10_init RX10 g (fun q => q = a) 7 := ⟨hx, hb, hts, hown, hK, fun q h => by rw [h]; exact ha, hml⟩
  have hl : lv_has ls 7 [(0, .ref a), (1, .int fi), (2, .int gr), (3, .int to), (4, .int sw), (5, .int bu), (6, .int cu)] := hl
  refine lv_aload_n hx hb dX10_init_0 rfl (lv_at hl 0 rfl) ?_
  refine W.objInit hx hb hown (hts _ q1190) (hts _ q86) (hts _ q87) rfl (by rw [hml]; exact hl.1) rfl dX10_init_1 (Nat.le_of_ble_eq_true rfl) (Nat.le_of_ble_eq_true rfl) ?_
  refine W.eq (g2 := F0 m 4 ls []) rfl ?_
  refine lv_aload_n hx hb dX10_init_4 rfl (lv_at hl 0 rfl) ?_
  refine lv_iconst (v := 0) hx hb dX10_init_5 (by decide) ?_
  refine mput fx tfX10 h_a hS rfl 6 (by decide) q1206 (fun _ h => h) rfl rfl rfl (Nat.le_of_ble_eq_true rfl) dX10_init_6 (fun H locs hat hz hoq hS => ?_)
  replace h_a : mAt g a (.inr (10, [.int 0, .int 0, .int 0, .int 0, .int 0, .int 0, .int 0, .int 0])) H := hat
  refine lv_aload_n hx hb dX10_init_9 rfl (lv_at hl 0 rfl) ?_
  refine lv_iconst (v := (-1)) hx hb dX10_init_10 (by decide) ?_
  refine mput fx tfX10 h_a hS rfl 7 (by decide) q1209 (fun _ h => h) rfl rfl rfl (Nat.le_of_ble_eq_true rfl) dX10_init_11 (fun H locs hat hz hoq hS => ?_)
  replace h_a : mAt g a (.inr (10, [.int 0, .int 0, .int 0, .int 0, .int 0, .int 0, .int 0, .int (-1)])) H := hat
  refine lv_aload_n hx hb dX10_init_14 rfl (lv_at hl 0 rfl) ?_
  refine lv_iload_n hx hb dX10_init_15 rfl (lv_at hl 1 rfl) ?_
  refine mputF fx hnm tfX10 h_a hS rfl 0 (by decide) q1191 (fun _ h => h) rfl rfl rfl rfl (Nat.le_of_ble_eq_true rfl) dX10_init_16 (fun H locs hat hz hoq hS => ?_)
  replace h_a : mAt g a (.inr (10, [.int fi, .int 0, .int 0, .int 0, .int 0, .int 0, .int 0, .int (-1)])) H := hat
  refine lv_aload_n hx hb dX10_init_19 rfl (lv_at hl 0 rfl) ?_
  refine lv_iload_n hx hb dX10_init_20 rfl (lv_at hl 2 rfl) ?_
  refine mputF fx hnm tfX10 h_a hS rfl 1 (by decide) q1194 (fun _ h => h) rfl rfl rfl rfl (Nat.le_of_ble_eq_true rfl) dX10_init_21 (fun H locs hat hz hoq hS => ?_)
  replace h_a : mAt g a (.inr (10, [.int fi, .int gr, .int 0, .int 0, .int 0, .int 0, .int 0, .int (-1)])) H := hat
  refine lv_aload_n hx hb dX10_init_24 rfl (lv_at hl 0 rfl) ?_
  refine lv_iload_n hx hb dX10_init_25 rfl (lv_at hl 3 rfl) ?_
  refine mputF fx hnm tfX10 h_a hS rfl 2 (by decide) q1196 (fun _ h => h) rfl rfl rfl rfl (Nat.le_of_ble_eq_true rfl) dX10_init_26 (fun H locs hat hz hoq hS => ?_)
  replace h_a : mAt g a (.inr (10, [.int fi, .int gr, .int to, .int 0, .int 0, .int 0, .int 0, .int (-1)])) H := hat
  refine lv_aload_n hx hb dX10_init_29 rfl (lv_at hl 0 rfl) ?_
  refine lv_iload hx hb dX10_init_30 (lv_at hl 4 rfl) ?_
  refine mput fx tfX10 h_a hS rfl 3 (by decide) q1199 (fun _ h => h) rfl rfl rfl (Nat.le_of_ble_eq_true rfl) dX10_init_32 (fun H locs hat hz hoq hS => ?_)
  replace h_a : mAt g a (.inr (10, [.int fi, .int gr, .int to, .int sw, .int 0, .int 0, .int 0, .int (-1)])) H := hat
  refine lv_aload_n hx hb dX10_init_35 rfl (lv_at hl 0 rfl) ?_
  refine lv_iload hx hb dX10_init_36 (lv_at hl 5 rfl) ?_
  refine mputF fx hnm tfX10 h_a hS rfl 4 (by decide) q1202 (fun _ h => h) rfl rfl (nar_z hzbu) (fit_z hzbu) (Nat.le_of_ble_eq_true rfl) dX10_init_38 (fun H locs hat hz hoq hS => ?_)
  replace h_a : mAt g a (.inr (10, [.int fi, .int gr, .int to, .int sw, .int bu, .int 0, .int 0, .int (-1)])) H := hat
  refine lv_aload_n hx hb dX10_init_41 rfl (lv_at hl 0 rfl) ?_
  refine lv_iload hx hb dX10_init_42 (lv_at hl 6 rfl) ?_
  refine mputF fx hnm tfX10 h_a hS rfl 5 (by decide) q1204 (fun _ h => h) rfl rfl rfl rfl (Nat.le_of_ble_eq_true rfl) dX10_init_44 (fun H locs hat hz hoq hS => ?_)
  replace h_a : mAt g a (.inr (10, [.int fi, .int gr, .int to, .int sw, .int bu, .int cu, .int 0, .int (-1)])) H := hat
  exact rv hx hb hr hlocks hS (⟨rfl, h_a⟩) ⟨(Nat.le_of_ble_eq_true rfl), (Nat.le_of_ble_eq_true rfl)⟩ dX10_init_47

def f_ML_trash_r (c4 : Int32) : Int32 := let v_2 : Int32 := if c4 = 0 then 8 else 2; v_2
set_option maxHeartbeats 4000000 in
theorem m_ML_trash (l : Launch) (g : GT) (a : Nat) (c0 c1 c2 c3 c4 c5 c6 c7 : Int32) (ha : bA g a) : Cn l g yX10_trash cX10_trash 1 ((some .int)) 0 0 0 [.ref a] (fun q => q = a) (fun H => mAt g a (.inr (10, [.int c0, .int c1, .int c2, .int c3, .int c4, .int c5, .int c6, .int c7])) H) (fun Hp rv Hq => rv = some (.int (f_ML_trash_r c4)) ∧ mAt g a (.inr (10, [.int c0, .int c1, .int c2, .int c3, .int c4, .int c5, .int c6, .int c7])) Hq) := by
  refine Cn.start (plainFor_of_name (by decide +kernel)) (Nat.le_of_ble_eq_true rfl) ?_
  intro p ev s m below meth c ls H locs hH hx hb hr hts hown hlocks hml hnm hK hP hS hl
  have h_a := hP
  have fx : Fx p s m ([.ref a] : List Value).toArray c cX10_trash RX10 g (fun q => q = a) 1 := ⟨hx, hb, hts, hown, hK, fun q h => by rw [h]; exact ha, hml⟩
  have hl : lv_has ls 1 [(0, .ref a)] := hl
  refine lv_aload_n hx hb dX10_trash_0 rfl (lv_at hl 0 rfl) ?_
  refine mget fx tfX10 h_a 4 (by decide) q1202 (fun _ h => h) (v := .int c4) rfl dX10_trash_1 ?_
  have K_3 : ∀ (locs : List Loc) (ls : Array Slot) (v_2 : Int32), v_2 = (if c4 = 0 then 8 else 2) → va_S (fun q => q = a) s.heap H locs → lv_has ls 1 [(0, .ref a)] → W p l ev (mR 0 0 0) s m ([.ref a] : List Value).toArray below meth c H locs 0 0 (MQ below (mQ (fun q => q = a) (fun Hp rv Hq => rv = some (.int (f_ML_trash_r c4)) ∧ mAt g a (.inr (10, [.int c0, .int c1, .int c2, .int c3, .int c4, .int c5, .int c6, .int c7])) Hq)) ([.ref a] : List Value).toArray s 0 0 (fun q => q = a)) (F0 m 13 ls [.int v_2]) := by
    intro locs ls v_2 hv_2 hS hl
    exact ri hx hb hr hlocks hS (⟨by rw [show f_ML_trash_r c4 = v_2 from (by subst hv_2; simp only [f_ML_trash_r])], h_a⟩) ⟨(Nat.le_of_ble_eq_true rfl), (Nat.le_of_ble_eq_true rfl)⟩ dX10_trash_13
  refine lv_if_eq (tgt := 11) hx hb dX10_trash_4 (by decide) (fun c_1 => ?_) (fun c_1 => ?_)
  · skip
    refine lv_bipush (v := 8) hx hb dX10_trash_11 (by decide) ?_
    exact K_3 _ _ 8 (by rw [if_pos c_1]) hS (lv_sub hl [0] rfl)
  · skip
    refine lv_iconst (v := 2) hx hb dX10_trash_7 (by decide) ?_
    refine lv_goto (tgt := 13) hx hb dX10_trash_8 (by decide) ?_
    exact K_3 _ _ 2 (by rw [if_neg c_1]) hS (lv_sub hl [0] rfl)

set_option maxHeartbeats 4000000 in
theorem m_ML_copy (l : Launch) (g : GT) (a sz : Nat) (c0 c1 c2 c3 c4 c5 c6 c7 : Int32) (hzc4 : bz c4) : Cn l g yX10_copy cX10_copy 2 ((some (.object "CanecrushModel$Load"))) 2 1 8 [.ref a] (fun q => sz ≤ q) (fun H => sz = H.size ∧ mAt g a (.inr (10, [.int c0, .int c1, .int c2, .int c3, .int c4, .int c5, .int c6, .int c7])) H) (fun Hp rv Hq => ∃ q, rv = some (.ref q) ∧ sz ≤ q ∧ mAt g q (.inr (10, [.int c0, .int c1, .int c2, .int c3, .int c4, .int c5, .int c6, .int c7])) Hq) := by
  refine Cn.start (plainFor_of_name (by decide +kernel)) (Nat.le_of_ble_eq_true rfl) ?_
  intro p ev s m below meth c ls H locs hH hx hb hr hts hown hlocks hml hnm hK hP hS hl
  obtain ⟨hsz, h_a⟩ := hP
  have hszs : sz = s.heap.size := by rw [hsz, hH]
  have hAs : ∀ q, s.heap.size ≤ q → sz ≤ q := fun q h => by rw [hszs]; exact h
  have hAb : ∀ q, sz ≤ q → bA g q := fun q h => Nat.le_trans hK.2.2.sz (by rw [← hszs]; exact h)
  have fx : Fx p s m ([.ref a] : List Value).toArray c cX10_copy RX10 g (fun q => sz ≤ q) 2 := ⟨hx, hb, hts, hown, hK, hAb, hml⟩
  have hl : lv_has ls 2 [(0, .ref a)] := hl
  refine mnew fx [.int 0, .int 0, .int 0, .int 0, .int 0, .int 0, .int 0, .int 0] tfX10 q1454 q1186 q76 hS dv_X10 ⟨(Nat.le_of_ble_eq_true rfl), (Nat.le_of_ble_eq_true rfl)⟩ dX10_copy_0 (fun an_2 H ean_2 hloan_2 hat hz hoq hS => ?_)
  have ne_3 : a ≠ an_2 := Nat.ne_of_lt (by rw [ean_2]; exact h_a.lt)
  replace h_a := h_a.kept (hoq _ (by rw [ean_2]; exact h_a.lt))
  have inan_2 := hAs an_2 hloan_2
  have hn_1 : mAt g an_2 (.inr (10, [.int 0, .int 0, .int 0, .int 0, .int 0, .int 0, .int 0, .int 0])) H := hat
  refine lv_dup hx hb dX10_copy_3 rfl ?_
  refine lv_aload_n hx hb dX10_copy_4 rfl (lv_at hl 0 rfl) ?_
  refine mget fx tfX10 h_a 0 (by decide) q1191 (fun _ h => h) (v := .int c0) rfl dX10_copy_5 ?_
  refine lv_aload_n hx hb dX10_copy_8 rfl (lv_at hl 0 rfl) ?_
  refine mget fx tfX10 h_a 1 (by decide) q1194 (fun _ h => h) (v := .int c1) rfl dX10_copy_9 ?_
  refine lv_aload_n hx hb dX10_copy_12 rfl (lv_at hl 0 rfl) ?_
  refine mget fx tfX10 h_a 2 (by decide) q1196 (fun _ h => h) (v := .int c2) rfl dX10_copy_13 ?_
  refine lv_aload_n hx hb dX10_copy_16 rfl (lv_at hl 0 rfl) ?_
  refine mget fx tfX10 h_a 3 (by decide) q1199 (fun _ h => h) (v := .int c3) rfl dX10_copy_17 ?_
  refine lv_aload_n hx hb dX10_copy_20 rfl (lv_at hl 0 rfl) ?_
  refine mget fx tfX10 h_a 4 (by decide) q1202 (fun _ h => h) (v := .int c4) rfl dX10_copy_21 ?_
  refine lv_aload_n hx hb dX10_copy_24 rfl (lv_at hl 0 rfl) ?_
  refine mget fx tfX10 h_a 5 (by decide) q1204 (fun _ h => h) (v := .int c5) rfl dX10_copy_25 ?_
  refine kI fx (m_ML_init l g an_2  c0 c1 c2 c3 c4 c5 (fx.2.2.2.2.2.1 _ inan_2) hzc4) q1189 q76 q1455 q1188 rfl hdX10_init ⟨(Nat.le_of_ble_eq_true rfl), (Nat.le_of_ble_eq_true rfl)⟩ ⟨(Nat.le_of_ble_eq_true rfl), (Nat.le_of_ble_eq_true rfl)⟩ hl.1 hS rfl (Nat.le_of_ble_eq_true rfl) hn_1 (fun q h => by cases h; exact inan_2) dX10_copy_28 (fun rv9 H locs hQ hz9 hk9 hS => ?_)
  obtain ⟨rfl, hat⟩ := hQ
  replace h_a := h_a.kept (hk9 _ h_a.lt ne_3)
  replace hn_1 : mAt g an_2 (.inr (10, [.int c0, .int c1, .int c2, .int c3, .int c4, .int c5, .int 0, .int (-1)])) H := hat
  refine W.eq (g2 := F0 m 31 ls [.ref an_2]) rfl ?_
  refine lv_astore_n (lv' := [(1, .ref an_2), (0, .ref a)]) hx hb dX10_copy_31 rfl hl (by decide) rfl (fun ls hl => ?_)
  refine lv_aload_n hx hb dX10_copy_32 rfl (lv_at hl 0 rfl) ?_
  refine lv_aload_n hx hb dX10_copy_33 rfl (lv_at hl 1 rfl) ?_
  refine mget fx tfX10 h_a 6 (by decide) q1206 (fun _ h => h) (v := .int c6) rfl dX10_copy_34 ?_
  refine mput fx tfX10 hn_1 hS inan_2 6 (by decide) q1206 (fun _ h => h) rfl rfl rfl (Nat.le_of_ble_eq_true rfl) dX10_copy_37 (fun H locs hat hz hoq hS => ?_)
  replace h_a := h_a.kept (hoq _ ne_3)
  replace hn_1 : mAt g an_2 (.inr (10, [.int c0, .int c1, .int c2, .int c3, .int c4, .int c5, .int c6, .int (-1)])) H := hat
  refine lv_aload_n hx hb dX10_copy_40 rfl (lv_at hl 0 rfl) ?_
  refine lv_aload_n hx hb dX10_copy_41 rfl (lv_at hl 1 rfl) ?_
  refine mget fx tfX10 h_a 7 (by decide) q1209 (fun _ h => h) (v := .int c7) rfl dX10_copy_42 ?_
  refine mput fx tfX10 hn_1 hS inan_2 7 (by decide) q1209 (fun _ h => h) rfl rfl rfl (Nat.le_of_ble_eq_true rfl) dX10_copy_45 (fun H locs hat hz hoq hS => ?_)
  replace h_a := h_a.kept (hoq _ ne_3)
  replace hn_1 : mAt g an_2 (.inr (10, [.int c0, .int c1, .int c2, .int c3, .int c4, .int c5, .int c6, .int c7])) H := hat
  refine lv_aload_n hx hb dX10_copy_48 rfl (lv_at hl 0 rfl) ?_
  exact ra hx hb hr (Or.inl ⟨_, rfl⟩) hlocks hS (⟨an_2, rfl, by rw [hszs]; exact hloan_2, hn_1⟩) ⟨(Nat.le_of_ble_eq_true rfl), (Nat.le_of_ble_eq_true rfl)⟩ dX10_copy_49

set_option maxHeartbeats 4000000 in
theorem m_MT_init (l : Launch) (g : GT) (a : Nat) (ha : bA g a) : Cn l g yX8_init cX8_init 1 (none) 1 0 0 [.ref a] (fun q => q = a) (fun H => mAt g a (.inr (8, [.int 0, .int 0, .int 0, .int 0])) H) (fun Hp rv Hq => rv = none ∧ mAt g a (.inr (8, [.int 0, .int (-1), .int (-1), .int 0])) Hq) := by
  refine Cn.start (plainFor_of_name (by decide +kernel)) (Nat.le_of_ble_eq_true rfl) ?_
  intro p ev s m below meth c ls H locs hH hx hb hr hts hown hlocks hml hnm hK hP hS hl
  have h_a := hP
  have fx : Fx p s m ([.ref a] : List Value).toArray c cX8_init RX8 g (fun q => q = a) 1 := ⟨hx, hb, hts, hown, hK, fun q h => by rw [h]; exact ha, hml⟩
  have hl : lv_has ls 1 [(0, .ref a)] := hl
  refine lv_aload_n hx hb dX8_init_0 rfl (lv_at hl 0 rfl) ?_
  refine W.objInit hx hb hown (hts _ q1141) (hts _ q86) (hts _ q87) rfl (by rw [hml]; exact hl.1) rfl dX8_init_1 (Nat.le_of_ble_eq_true rfl) (Nat.le_of_ble_eq_true rfl) ?_
  refine W.eq (g2 := F0 m 4 ls []) rfl ?_
  refine lv_aload_n hx hb dX8_init_4 rfl (lv_at hl 0 rfl) ?_
  refine lv_iconst (v := 0) hx hb dX8_init_5 (by decide) ?_
  refine mput fx tfX8 h_a hS rfl 0 (by decide) q1142 (fun _ h => h) rfl rfl rfl (Nat.le_of_ble_eq_true rfl) dX8_init_6 (fun H locs hat hz hoq hS => ?_)
  replace h_a : mAt g a (.inr (8, [.int 0, .int 0, .int 0, .int 0])) H := hat
  refine lv_aload_n hx hb dX8_init_9 rfl (lv_at hl 0 rfl) ?_
  refine lv_iconst (v := (-1)) hx hb dX8_init_10 (by decide) ?_
  refine mput fx tfX8 h_a hS rfl 1 (by decide) q1145 (fun _ h => h) rfl rfl rfl (Nat.le_of_ble_eq_true rfl) dX8_init_11 (fun H locs hat hz hoq hS => ?_)
  replace h_a : mAt g a (.inr (8, [.int 0, .int (-1), .int 0, .int 0])) H := hat
  refine lv_aload_n hx hb dX8_init_14 rfl (lv_at hl 0 rfl) ?_
  refine lv_iconst (v := (-1)) hx hb dX8_init_15 (by decide) ?_
  refine mput fx tfX8 h_a hS rfl 2 (by decide) q1148 (fun _ h => h) rfl rfl rfl (Nat.le_of_ble_eq_true rfl) dX8_init_16 (fun H locs hat hz hoq hS => ?_)
  replace h_a : mAt g a (.inr (8, [.int 0, .int (-1), .int (-1), .int 0])) H := hat
  exact rv hx hb hr hlocks hS (⟨rfl, h_a⟩) ⟨(Nat.le_of_ble_eq_true rfl), (Nat.le_of_ble_eq_true rfl)⟩ dX8_init_19

set_option maxHeartbeats 4000000 in
theorem m_MT_copy (l : Launch) (g : GT) (a sz : Nat) (c0 c1 c2 c3 : Int32) : Cn l g yX8_copy cX8_copy 2 ((some (.object "CanecrushModel$Truck"))) 2 1 4 [.ref a] (fun q => sz ≤ q) (fun H => sz = H.size ∧ mAt g a (.inr (8, [.int c0, .int c1, .int c2, .int c3])) H) (fun Hp rv Hq => ∃ q, rv = some (.ref q) ∧ sz ≤ q ∧ mAt g q (.inr (8, [.int c0, .int c1, .int c2, .int c3])) Hq) := by
  refine Cn.start (plainFor_of_name (by decide +kernel)) (Nat.le_of_ble_eq_true rfl) ?_
  intro p ev s m below meth c ls H locs hH hx hb hr hts hown hlocks hml hnm hK hP hS hl
  obtain ⟨hsz, h_a⟩ := hP
  have hszs : sz = s.heap.size := by rw [hsz, hH]
  have hAs : ∀ q, s.heap.size ≤ q → sz ≤ q := fun q h => by rw [hszs]; exact h
  have hAb : ∀ q, sz ≤ q → bA g q := fun q h => Nat.le_trans hK.2.2.sz (by rw [← hszs]; exact h)
  have fx : Fx p s m ([.ref a] : List Value).toArray c cX8_copy RX8 g (fun q => sz ≤ q) 2 := ⟨hx, hb, hts, hown, hK, hAb, hml⟩
  have hl : lv_has ls 2 [(0, .ref a)] := hl
  refine mnew fx [.int 0, .int 0, .int 0, .int 0] tfX8 q1460 q1137 q72 hS dv_X8 ⟨(Nat.le_of_ble_eq_true rfl), (Nat.le_of_ble_eq_true rfl)⟩ dX8_copy_0 (fun an_2 H ean_2 hloan_2 hat hz hoq hS => ?_)
  have ne_3 : a ≠ an_2 := Nat.ne_of_lt (by rw [ean_2]; exact h_a.lt)
  replace h_a := h_a.kept (hoq _ (by rw [ean_2]; exact h_a.lt))
  have inan_2 := hAs an_2 hloan_2
  have hn_1 : mAt g an_2 (.inr (8, [.int 0, .int 0, .int 0, .int 0])) H := hat
  refine lv_dup hx hb dX8_copy_3 rfl ?_
  refine kI fx (m_MT_init l g an_2   (fx.2.2.2.2.2.1 _ inan_2) ) q1140 q72 q1461 q1139 rfl hdX8_init ⟨(Nat.le_of_ble_eq_true rfl), (Nat.le_of_ble_eq_true rfl)⟩ ⟨(Nat.le_of_ble_eq_true rfl), (Nat.le_of_ble_eq_true rfl)⟩ hl.1 hS rfl (Nat.le_of_ble_eq_true rfl) hn_1 (fun q h => by cases h; exact inan_2) dX8_copy_4 (fun rv9 H locs hQ hz9 hk9 hS => ?_)
  obtain ⟨rfl, hat⟩ := hQ
  replace h_a := h_a.kept (hk9 _ h_a.lt ne_3)
  replace hn_1 : mAt g an_2 (.inr (8, [.int 0, .int (-1), .int (-1), .int 0])) H := hat
  refine W.eq (g2 := F0 m 7 ls [.ref an_2]) rfl ?_
  refine lv_astore_n (lv' := [(1, .ref an_2), (0, .ref a)]) hx hb dX8_copy_7 rfl hl (by decide) rfl (fun ls hl => ?_)
  refine lv_aload_n hx hb dX8_copy_8 rfl (lv_at hl 0 rfl) ?_
  refine lv_aload_n hx hb dX8_copy_9 rfl (lv_at hl 1 rfl) ?_
  refine mget fx tfX8 h_a 0 (by decide) q1142 (fun _ h => h) (v := .int c0) rfl dX8_copy_10 ?_
  refine mput fx tfX8 hn_1 hS inan_2 0 (by decide) q1142 (fun _ h => h) rfl rfl rfl (Nat.le_of_ble_eq_true rfl) dX8_copy_13 (fun H locs hat hz hoq hS => ?_)
  replace h_a := h_a.kept (hoq _ ne_3)
  replace hn_1 : mAt g an_2 (.inr (8, [.int c0, .int (-1), .int (-1), .int 0])) H := hat
  refine lv_aload_n hx hb dX8_copy_16 rfl (lv_at hl 0 rfl) ?_
  refine lv_aload_n hx hb dX8_copy_17 rfl (lv_at hl 1 rfl) ?_
  refine mget fx tfX8 h_a 1 (by decide) q1145 (fun _ h => h) (v := .int c1) rfl dX8_copy_18 ?_
  refine mput fx tfX8 hn_1 hS inan_2 1 (by decide) q1145 (fun _ h => h) rfl rfl rfl (Nat.le_of_ble_eq_true rfl) dX8_copy_21 (fun H locs hat hz hoq hS => ?_)
  replace h_a := h_a.kept (hoq _ ne_3)
  replace hn_1 : mAt g an_2 (.inr (8, [.int c0, .int c1, .int (-1), .int 0])) H := hat
  refine lv_aload_n hx hb dX8_copy_24 rfl (lv_at hl 0 rfl) ?_
  refine lv_aload_n hx hb dX8_copy_25 rfl (lv_at hl 1 rfl) ?_
  refine mget fx tfX8 h_a 2 (by decide) q1148 (fun _ h => h) (v := .int c2) rfl dX8_copy_26 ?_
  refine mput fx tfX8 hn_1 hS inan_2 2 (by decide) q1148 (fun _ h => h) rfl rfl rfl (Nat.le_of_ble_eq_true rfl) dX8_copy_29 (fun H locs hat hz hoq hS => ?_)
  replace h_a := h_a.kept (hoq _ ne_3)
  replace hn_1 : mAt g an_2 (.inr (8, [.int c0, .int c1, .int c2, .int 0])) H := hat
  refine lv_aload_n hx hb dX8_copy_32 rfl (lv_at hl 0 rfl) ?_
  refine lv_aload_n hx hb dX8_copy_33 rfl (lv_at hl 1 rfl) ?_
  refine mget fx tfX8 h_a 3 (by decide) q1151 (fun _ h => h) (v := .int c3) rfl dX8_copy_34 ?_
  refine mput fx tfX8 hn_1 hS inan_2 3 (by decide) q1151 (fun _ h => h) rfl rfl rfl (Nat.le_of_ble_eq_true rfl) dX8_copy_37 (fun H locs hat hz hoq hS => ?_)
  replace h_a := h_a.kept (hoq _ ne_3)
  replace hn_1 : mAt g an_2 (.inr (8, [.int c0, .int c1, .int c2, .int c3])) H := hat
  refine lv_aload_n hx hb dX8_copy_40 rfl (lv_at hl 0 rfl) ?_
  exact ra hx hb hr (Or.inl ⟨_, rfl⟩) hlocks hS (⟨an_2, rfl, by rw [hszs]; exact hloan_2, hn_1⟩) ⟨(Nat.le_of_ble_eq_true rfl), (Nat.le_of_ble_eq_true rfl)⟩ dX8_copy_41

