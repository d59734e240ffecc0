/-! Works: how it begins, how it is copied -/
set_option maxRecDepth 100000
theorem hdJ2_add : yJ2_add.cls ≠ "java/lang/invoke/MethodHandle" ∧ yJ2_add.cls ≠ "java/lang/invoke/VarHandle" ∧ (parseMethodDescriptor yJ2_add.desc).map (fun d => d.parameters.length) = some 1 := by decide +kernel
theorem hdJ2_init : yJ2_init.cls ≠ "java/lang/invoke/MethodHandle" ∧ yJ2_init.cls ≠ "java/lang/invoke/VarHandle" ∧ (parseMethodDescriptor yJ2_init.desc).map (fun d => d.parameters.length) = some 0 := by decide +kernel
theorem hdX2_init : yX2_init.cls ≠ "java/lang/invoke/MethodHandle" ∧ yX2_init.cls ≠ "java/lang/invoke/VarHandle" ∧ (parseMethodDescriptor yX2_init.desc).map (fun d => d.parameters.length) = some 0 := by decide +kernel
theorem hdX5_copy : yX5_copy.cls ≠ "java/lang/invoke/MethodHandle" ∧ yX5_copy.cls ≠ "java/lang/invoke/VarHandle" ∧ (parseMethodDescriptor yX5_copy.desc).map (fun d => d.parameters.length) = some 0 := by decide +kernel
theorem hdX7_copy : yX7_copy.cls ≠ "java/lang/invoke/MethodHandle" ∧ yX7_copy.cls ≠ "java/lang/invoke/VarHandle" ∧ (parseMethodDescriptor yX7_copy.desc).map (fun d => d.parameters.length) = some 0 := by decide +kernel
theorem hdX9_copy : yX9_copy.cls ≠ "java/lang/invoke/MethodHandle" ∧ yX9_copy.cls ≠ "java/lang/invoke/VarHandle" ∧ (parseMethodDescriptor yX9_copy.desc).map (fun d => d.parameters.length) = some 0 := by decide +kernel
def scI : Nat → Int32 := va_up (va_up (fun _ => 0) 7 40) 8 5
def C0 : CT := (scI, 0, fun _ _ => 0, fun _ _ => 0, fun _ _ => 0, fun _ _ => 0, fun _ => 0)
set_option maxHeartbeats 4000000 in
theorem m_W_init (l : Launch) (g : GT) (a sz : Nat) (ha : bA g a) : Cn l g yX2_init cX2_init 1 (none) 4 6 21 [.ref a] (fA (fun q => q = a) sz) (fun H => sz = H.size ∧ mAt g a (.inr (1, [.null, .null, .null, .null, .null, .null, .int 0, .int 0, .int 0, .int 0, .int 0, .int 0, .int 0, .int 0, .int 0, .int 0, .int 0, .int 0, .int 0, .int 0, .int 0, .long 0])) H) (fun Hp rv Hq => rv = none ∧ ∃ la : LT, la.1 0 0 = a ∧ (∀ k, la.2.1 k = 0) ∧ cw g (fA (fun q => q = a) sz) la C0 Hq) := by
  refine Cn.start (plainFor_of_name (by decide +kernel)) (Nat.le_of_ble_eq_true rfl) ?_
  intro p ev s m below meth c ls H locs hH hx hb hr hts hown hlocks hml hnm hK hP hS hl
  obtain ⟨hsz, h_a⟩ := hP
  have hszs : sz = s.heap.size := by rw [hsz, hH]
  have hAs : ∀ q, s.heap.size ≤ q → (fA (fun q => q = a) sz) q := fun q h => Or.inr (by rw [hszs]; exact h)
  have hAb : ∀ q, (fA (fun q => q = a) sz) q → bA g q := fun q h => h.elim (fun h => by rw [h]; exact ha) (fun h => Nat.le_trans hK.2.2.sz (by rw [← hszs]; exact h))
  have fx : Fx p s m ([.ref a] : List Value).toArray c cX2_init RX2 g (fA (fun q => q = a) sz) 1 := ⟨hx, hb, hts, hown, hK, hAb, hml⟩
  have hl : lv_has ls 1 [(0, .ref a)] := hl
  refine lv_aload_n hx hb dX2_init_0 rfl (lv_at hl 0 rfl) ?_
  refine W.objInit hx hb hown (hts _ q93) (hts _ q86) (hts _ q87) rfl (by rw [hml]; exact hl.1) rfl dX2_init_1 (Nat.le_of_ble_eq_true rfl) (Nat.le_of_ble_eq_true rfl) ?_
  refine W.eq (g2 := F0 m 4 ls []) rfl ?_
  refine lv_aload_n hx hb dX2_init_4 rfl (lv_at hl 0 rfl) ?_
  refine mnew fx [.int 0, .null, .int 0] tfJ2 q94 q95 q54 hS dv_J2 ⟨(Nat.le_of_ble_eq_true rfl), (Nat.le_of_ble_eq_true rfl)⟩ dX2_init_5 (fun an_2 H ean_2 hloan_2 hat hz hoq hS => ?_)
  have hlt_3 : a < an_2 := by rw [ean_2]; exact h_a.lt
  have ne_4 : a ≠ an_2 := Nat.ne_of_lt (by rw [ean_2]; exact h_a.lt)
  replace h_a := h_a.kept (hoq _ (by rw [ean_2]; exact h_a.lt))
  have inan_2 := hAs an_2 hloan_2
  have hn_1 : mAt g an_2 (.inr (2, [.int 0, .null, .int 0])) H := hat
  refine lv_dup hx hb dX2_init_8 rfl ?_
  refine kI fx (m_AL_init l g an_2 (fx.2.2.2.2.2.1 _ inan_2)) q98 q54 q96 q97 rfl hdJ2_init ⟨(Nat.le_of_ble_eq_true rfl), (Nat.le_of_ble_eq_true rfl)⟩ ⟨(Nat.le_of_ble_eq_true rfl), (Nat.le_of_ble_eq_true rfl)⟩ hl.1 hS rfl (Nat.le_of_ble_eq_true rfl) hn_1 (fun q h => by cases h; exact inan_2) dX2_init_9 (fun rv9 H locs hQ hz9 hk9 hS => ?_)
  obtain ⟨rfl, hat⟩ := hQ
  replace h_a := h_a.kept (hk9 _ h_a.lt ne_4)
  replace hn_1 : mAt g an_2 (.inr (2, [.int 0, .ref (g.2.2 1), .int 0])) H := hat
  refine W.eq (g2 := F0 m 12 ls [.ref an_2, .ref a]) rfl ?_
  refine mputF fx hnm tfX2 h_a hS (Or.inl rfl) 0 (by decide) q120 (fun _ h => h) rfl rfl rfl rfl (Nat.le_of_ble_eq_true rfl) dX2_init_12 (fun H locs hat hz hoq hS => ?_)
  replace hn_1 := hn_1.kept (hoq _ (Ne.symm ne_4))
  replace h_a : mAt g a (.inr (1, [.ref an_2, .null, .null, .null, .null, .null, .int 0, .int 0, .int 0, .int 0, .int 0, .int 0, .int 0, .int 0, .int 0, .int 0, .int 0, .int 0, .int 0, .int 0, .int 0, .long 0])) H := hat
  refine lv_aload_n hx hb dX2_init_15 rfl (lv_at hl 0 rfl) ?_
  refine mnew fx [.int 0, .null, .int 0] tfJ2 q94 q95 q54 hS dv_J2 ⟨(Nat.le_of_ble_eq_true rfl), (Nat.le_of_ble_eq_true rfl)⟩ dX2_init_16 (fun an_6 H ean_6 hloan_6 hat hz hoq hS => ?_)
  have hlt_7 : an_2 < an_6 := by rw [ean_6]; exact hn_1.lt
  have ne_8 : a ≠ an_6 := Nat.ne_of_lt (by rw [ean_6]; exact h_a.lt)
  replace h_a := h_a.kept (hoq _ (by rw [ean_6]; exact h_a.lt))
  have ne_9 : an_2 ≠ an_6 := Nat.ne_of_lt (by rw [ean_6]; exact hn_1.lt)
  replace hn_1 := hn_1.kept (hoq _ (by rw [ean_6]; exact hn_1.lt))
  have inan_6 := hAs an_6 hloan_6
  have hn_5 : mAt g an_6 (.inr (2, [.int 0, .null, .int 0])) H := hat
  refine lv_dup hx hb dX2_init_19 rfl ?_
  refine kI fx (m_AL_init l g an_6 (fx.2.2.2.2.2.1 _ inan_6)) q98 q54 q96 q97 rfl hdJ2_init ⟨(Nat.le_of_ble_eq_true rfl), (Nat.le_of_ble_eq_true rfl)⟩ ⟨(Nat.le_of_ble_eq_true rfl), (Nat.le_of_ble_eq_true rfl)⟩ hl.1 hS rfl (Nat.le_of_ble_eq_true rfl) hn_5 (fun q h => by cases h; exact inan_6) dX2_init_20 (fun rv9 H locs hQ hz9 hk9 hS => ?_)
  obtain ⟨rfl, hat⟩ := hQ
  replace h_a := h_a.kept (hk9 _ h_a.lt ne_8)
  replace hn_1 := hn_1.kept (hk9 _ hn_1.lt ne_9)
  replace hn_5 : mAt g an_6 (.inr (2, [.int 0, .ref (g.2.2 1), .int 0])) H := hat
  refine W.eq (g2 := F0 m 23 ls [.ref an_6, .ref a]) rfl ?_
  refine mputF fx hnm tfX2 h_a hS (Or.inl rfl) 1 (by decide) q122 (fun _ h => h) rfl rfl rfl rfl (Nat.le_of_ble_eq_true rfl) dX2_init_23 (fun H locs hat hz hoq hS => ?_)
  replace hn_1 := hn_1.kept (hoq _ (Ne.symm ne_4))
  replace hn_5 := hn_5.kept (hoq _ (Ne.symm ne_8))
  replace h_a : mAt g a (.inr (1, [.ref an_2, .ref an_6, .null, .null, .null, .null, .int 0, .int 0, .int 0, .int 0, .int 0, .int 0, .int 0, .int 0, .int 0, .int 0, .int 0, .int 0, .int 0, .int 0, .int 0, .long 0])) H := hat
  refine lv_aload_n hx hb dX2_init_26 rfl (lv_at hl 0 rfl) ?_
  refine mnew fx [.int 0, .null, .int 0] tfJ2 q94 q95 q54 hS dv_J2 ⟨(Nat.le_of_ble_eq_true rfl), (Nat.le_of_ble_eq_true rfl)⟩ dX2_init_27 (fun an_11 H ean_11 hloan_11 hat hz hoq hS => ?_)
  have hlt_12 : an_6 < an_11 := by rw [ean_11]; exact hn_5.lt
  have ne_13 : a ≠ an_11 := Nat.ne_of_lt (by rw [ean_11]; exact h_a.lt)
  replace h_a := h_a.kept (hoq _ (by rw [ean_11]; exact h_a.lt))
  have ne_14 : an_2 ≠ an_11 := Nat.ne_of_lt (by rw [ean_11]; exact hn_1.lt)
  replace hn_1 := hn_1.kept (hoq _ (by rw [ean_11]; exact hn_1.lt))
  have ne_15 : an_6 ≠ an_11 := Nat.ne_of_lt (by rw [ean_11]; exact hn_5.lt)
  replace hn_5 := hn_5.kept (hoq _ (by rw [ean_11]; exact hn_5.lt))
  have inan_11 := hAs an_11 hloan_11
  have hn_10 : mAt g an_11 (.inr (2, [.int 0, .null, .int 0])) H := hat
  refine lv_dup hx hb dX2_init_30 rfl ?_
  refine kI fx (m_AL_init l g an_11 (fx.2.2.2.2.2.1 _ inan_11)) q98 q54 q96 q97 rfl hdJ2_init ⟨(Nat.le_of_ble_eq_true rfl), (Nat.le_of_ble_eq_true rfl)⟩ ⟨(Nat.le_of_ble_eq_true rfl), (Nat.le_of_ble_eq_true rfl)⟩ hl.1 hS rfl (Nat.le_of_ble_eq_true rfl) hn_10 (fun q h => by cases h; exact inan_11) dX2_init_31 (fun rv9 H locs hQ hz9 hk9 hS => ?_)
  obtain ⟨rfl, hat⟩ := hQ
  replace h_a := h_a.kept (hk9 _ h_a.lt ne_13)
  replace hn_1 := hn_1.kept (hk9 _ hn_1.lt ne_14)
  replace hn_5 := hn_5.kept (hk9 _ hn_5.lt ne_15)
  replace hn_10 : mAt g an_11 (.inr (2, [.int 0, .ref (g.2.2 1), .int 0])) H := hat
  refine W.eq (g2 := F0 m 34 ls [.ref an_11, .ref a]) rfl ?_
  refine mputF fx hnm tfX2 h_a hS (Or.inl rfl) 2 (by decide) q124 (fun _ h => h) rfl rfl rfl rfl (Nat.le_of_ble_eq_true rfl) dX2_init_34 (fun H locs hat hz hoq hS => ?_)
  replace hn_1 := hn_1.kept (hoq _ (Ne.symm ne_4))
  replace hn_5 := hn_5.kept (hoq _ (Ne.symm ne_8))
  replace hn_10 := hn_10.kept (hoq _ (Ne.symm ne_13))
  replace h_a : mAt g a (.inr (1, [.ref an_2, .ref an_6, .ref an_11, .null, .null, .null, .int 0, .int 0, .int 0, .int 0, .int 0, .int 0, .int 0, .int 0, .int 0, .int 0, .int 0, .int 0, .int 0, .int 0, .int 0, .long 0])) H := hat
  refine lv_aload_n hx hb dX2_init_37 rfl (lv_at hl 0 rfl) ?_
  refine lv_iconst (v := 4) hx hb dX2_init_38 (by decide) ?_
  refine mnewa fx q208 hS 4 rfl (by decide) ⟨(Nat.le_of_ble_eq_true rfl), (Nat.le_of_ble_eq_true rfl)⟩ dX2_init_39 (fun an_17 H ean_17 hloan_17 hat hz hoq hS => ?_)
  have hlt_18 : an_11 < an_17 := by rw [ean_17]; exact hn_10.lt
  have ne_19 : a ≠ an_17 := Nat.ne_of_lt (by rw [ean_17]; exact h_a.lt)
  replace h_a := h_a.kept (hoq _ (by rw [ean_17]; exact h_a.lt))
  have ne_20 : an_2 ≠ an_17 := Nat.ne_of_lt (by rw [ean_17]; exact hn_1.lt)
  replace hn_1 := hn_1.kept (hoq _ (by rw [ean_17]; exact hn_1.lt))
  have ne_21 : an_6 ≠ an_17 := Nat.ne_of_lt (by rw [ean_17]; exact hn_5.lt)
  replace hn_5 := hn_5.kept (hoq _ (by rw [ean_17]; exact hn_5.lt))
  have ne_22 : an_11 ≠ an_17 := Nat.ne_of_lt (by rw [ean_17]; exact hn_10.lt)
  replace hn_10 := hn_10.kept (hoq _ (by rw [ean_17]; exact hn_10.lt))
  have inan_17 := hAs an_17 hloan_17
  have hn_16 : mAt g an_17 (.inl (g.2.1 0, 4, .inl (fun _ => 0))) H := hat
  refine mputF fx hnm tfX2 h_a hS (Or.inl rfl) 3 (by decide) q126 (fun _ h => h) rfl rfl rfl rfl (Nat.le_of_ble_eq_true rfl) dX2_init_41 (fun H locs hat hz hoq hS => ?_)
  replace hn_1 := hn_1.kept (hoq _ (Ne.symm ne_4))
  replace hn_5 := hn_5.kept (hoq _ (Ne.symm ne_8))
  replace hn_10 := hn_10.kept (hoq _ (Ne.symm ne_13))
  replace hn_16 := hn_16.kept (hoq _ (Ne.symm ne_19))
  replace h_a : mAt g a (.inr (1, [.ref an_2, .ref an_6, .ref an_11, .ref an_17, .null, .null, .int 0, .int 0, .int 0, .int 0, .int 0, .int 0, .int 0, .int 0, .int 0, .int 0, .int 0, .int 0, .int 0, .int 0, .int 0, .long 0])) H := hat
  refine lv_aload_n hx hb dX2_init_44 rfl (lv_at hl 0 rfl) ?_
  refine lv_iconst (v := 4) hx hb dX2_init_45 (by decide) ?_
  refine mnewa fx q208 hS 4 rfl (by decide) ⟨(Nat.le_of_ble_eq_true rfl), (Nat.le_of_ble_eq_true rfl)⟩ dX2_init_46 (fun an_24 H ean_24 hloan_24 hat hz hoq hS => ?_)
  have hlt_25 : an_17 < an_24 := by rw [ean_24]; exact hn_16.lt
  have ne_26 : a ≠ an_24 := Nat.ne_of_lt (by rw [ean_24]; exact h_a.lt)
  replace h_a := h_a.kept (hoq _ (by rw [ean_24]; exact h_a.lt))
  have ne_27 : an_2 ≠ an_24 := Nat.ne_of_lt (by rw [ean_24]; exact hn_1.lt)
  replace hn_1 := hn_1.kept (hoq _ (by rw [ean_24]; exact hn_1.lt))
  have ne_28 : an_6 ≠ an_24 := Nat.ne_of_lt (by rw [ean_24]; exact hn_5.lt)
  replace hn_5 := hn_5.kept (hoq _ (by rw [ean_24]; exact hn_5.lt))
  have ne_29 : an_11 ≠ an_24 := Nat.ne_of_lt (by rw [ean_24]; exact hn_10.lt)
  replace hn_10 := hn_10.kept (hoq _ (by rw [ean_24]; exact hn_10.lt))
  have ne_30 : an_17 ≠ an_24 := Nat.ne_of_lt (by rw [ean_24]; exact hn_16.lt)
  replace hn_16 := hn_16.kept (hoq _ (by rw [ean_24]; exact hn_16.lt))
  have inan_24 := hAs an_24 hloan_24
  have hn_23 : mAt g an_24 (.inl (g.2.1 0, 4, .inl (fun _ => 0))) H := hat
  refine mputF fx hnm tfX2 h_a hS (Or.inl rfl) 4 (by decide) q128 (fun _ h => h) rfl rfl rfl rfl (Nat.le_of_ble_eq_true rfl) dX2_init_48 (fun H locs hat hz hoq hS => ?_)
  replace hn_1 := hn_1.kept (hoq _ (Ne.symm ne_4))
  replace hn_5 := hn_5.kept (hoq _ (Ne.symm ne_8))
  replace hn_10 := hn_10.kept (hoq _ (Ne.symm ne_13))
  replace hn_16 := hn_16.kept (hoq _ (Ne.symm ne_19))
  replace hn_23 := hn_23.kept (hoq _ (Ne.symm ne_26))
  replace h_a : mAt g a (.inr (1, [.ref an_2, .ref an_6, .ref an_11, .ref an_17, .ref an_24, .null, .int 0, .int 0, .int 0, .int 0, .int 0, .int 0, .int 0, .int 0, .int 0, .int 0, .int 0, .int 0, .int 0, .int 0, .int 0, .long 0])) H := hat
  refine lv_aload_n hx hb dX2_init_51 rfl (lv_at hl 0 rfl) ?_
  refine lv_iconst (v := 4) hx hb dX2_init_52 (by decide) ?_
  refine mnewa fx q208 hS 4 rfl (by decide) ⟨(Nat.le_of_ble_eq_true rfl), (Nat.le_of_ble_eq_true rfl)⟩ dX2_init_53 (fun an_32 H ean_32 hloan_32 hat hz hoq hS => ?_)
  have hlt_33 : an_24 < an_32 := by rw [ean_32]; exact hn_23.lt
  have ne_34 : a ≠ an_32 := Nat.ne_of_lt (by rw [ean_32]; exact h_a.lt)
  replace h_a := h_a.kept (hoq _ (by rw [ean_32]; exact h_a.lt))
  have ne_35 : an_2 ≠ an_32 := Nat.ne_of_lt (by rw [ean_32]; exact hn_1.lt)
  replace hn_1 := hn_1.kept (hoq _ (by rw [ean_32]; exact hn_1.lt))
  have ne_36 : an_6 ≠ an_32 := Nat.ne_of_lt (by rw [ean_32]; exact hn_5.lt)
  replace hn_5 := hn_5.kept (hoq _ (by rw [ean_32]; exact hn_5.lt))
  have ne_37 : an_11 ≠ an_32 := Nat.ne_of_lt (by rw [ean_32]; exact hn_10.lt)
  replace hn_10 := hn_10.kept (hoq _ (by rw [ean_32]; exact hn_10.lt))
  have ne_38 : an_17 ≠ an_32 := Nat.ne_of_lt (by rw [ean_32]; exact hn_16.lt)
  replace hn_16 := hn_16.kept (hoq _ (by rw [ean_32]; exact hn_16.lt))
  have ne_39 : an_24 ≠ an_32 := Nat.ne_of_lt (by rw [ean_32]; exact hn_23.lt)
  replace hn_23 := hn_23.kept (hoq _ (by rw [ean_32]; exact hn_23.lt))
  have inan_32 := hAs an_32 hloan_32
  have hn_31 : mAt g an_32 (.inl (g.2.1 0, 4, .inl (fun _ => 0))) H := hat
  refine mputF fx hnm tfX2 h_a hS (Or.inl rfl) 5 (by decide) q130 (fun _ h => h) rfl rfl rfl rfl (Nat.le_of_ble_eq_true rfl) dX2_init_55 (fun H locs hat hz hoq hS => ?_)
  replace hn_1 := hn_1.kept (hoq _ (Ne.symm ne_4))
  replace hn_5 := hn_5.kept (hoq _ (Ne.symm ne_8))
  replace hn_10 := hn_10.kept (hoq _ (Ne.symm ne_13))
  replace hn_16 := hn_16.kept (hoq _ (Ne.symm ne_19))
  replace hn_23 := hn_23.kept (hoq _ (Ne.symm ne_26))
  replace hn_31 := hn_31.kept (hoq _ (Ne.symm ne_34))
  replace h_a : mAt g a (.inr (1, [.ref an_2, .ref an_6, .ref an_11, .ref an_17, .ref an_24, .ref an_32, .int 0, .int 0, .int 0, .int 0, .int 0, .int 0, .int 0, .int 0, .int 0, .int 0, .int 0, .int 0, .int 0, .int 0, .int 0, .long 0])) H := hat
  refine lv_aload_n hx hb dX2_init_58 rfl (lv_at hl 0 rfl) ?_
  refine lv_iconst (v := 0) hx hb dX2_init_59 (by decide) ?_
  refine mput fx tfX2 h_a hS (Or.inl rfl) 8 (by decide) q135 (fun _ h => h) rfl rfl rfl (Nat.le_of_ble_eq_true rfl) dX2_init_60 (fun H locs hat hz hoq hS => ?_)
  replace hn_1 := hn_1.kept (hoq _ (Ne.symm ne_4))
  replace hn_5 := hn_5.kept (hoq _ (Ne.symm ne_8))
  replace hn_10 := hn_10.kept (hoq _ (Ne.symm ne_13))
  replace hn_16 := hn_16.kept (hoq _ (Ne.symm ne_19))
  replace hn_23 := hn_23.kept (hoq _ (Ne.symm ne_26))
  replace hn_31 := hn_31.kept (hoq _ (Ne.symm ne_34))
  replace h_a : mAt g a (.inr (1, [.ref an_2, .ref an_6, .ref an_11, .ref an_17, .ref an_24, .ref an_32, .int 0, .int 0, .int 0, .int 0, .int 0, .int 0, .int 0, .int 0, .int 0, .int 0, .int 0, .int 0, .int 0, .int 0, .int 0, .long 0])) H := hat
  refine lv_aload_n hx hb dX2_init_63 rfl (lv_at hl 0 rfl) ?_
  refine lv_bipush (v := 40) hx hb dX2_init_64 (by decide) ?_
  refine mput fx tfX2 h_a hS (Or.inl rfl) 13 (by decide) q145 (fun _ h => h) rfl rfl rfl (Nat.le_of_ble_eq_true rfl) dX2_init_66 (fun H locs hat hz hoq hS => ?_)
  replace hn_1 := hn_1.kept (hoq _ (Ne.symm ne_4))
  replace hn_5 := hn_5.kept (hoq _ (Ne.symm ne_8))
  replace hn_10 := hn_10.kept (hoq _ (Ne.symm ne_13))
  replace hn_16 := hn_16.kept (hoq _ (Ne.symm ne_19))
  replace hn_23 := hn_23.kept (hoq _ (Ne.symm ne_26))
  replace hn_31 := hn_31.kept (hoq _ (Ne.symm ne_34))
  replace h_a : mAt g a (.inr (1, [.ref an_2, .ref an_6, .ref an_11, .ref an_17, .ref an_24, .ref an_32, .int 0, .int 0, .int 0, .int 0, .int 0, .int 0, .int 0, .int 40, .int 0, .int 0, .int 0, .int 0, .int 0, .int 0, .int 0, .long 0])) H := hat
  refine lv_aload_n hx hb dX2_init_69 rfl (lv_at hl 0 rfl) ?_
  refine lv_iconst (v := 5) hx hb dX2_init_70 (by decide) ?_
  refine mput fx tfX2 h_a hS (Or.inl rfl) 14 (by decide) q147 (fun _ h => h) rfl rfl rfl (Nat.le_of_ble_eq_true rfl) dX2_init_71 (fun H locs hat hz hoq hS => ?_)
  replace hn_1 := hn_1.kept (hoq _ (Ne.symm ne_4))
  replace hn_5 := hn_5.kept (hoq _ (Ne.symm ne_8))
  replace hn_10 := hn_10.kept (hoq _ (Ne.symm ne_13))
  replace hn_16 := hn_16.kept (hoq _ (Ne.symm ne_19))
  replace hn_23 := hn_23.kept (hoq _ (Ne.symm ne_26))
  replace hn_31 := hn_31.kept (hoq _ (Ne.symm ne_34))
  replace h_a : mAt g a (.inr (1, [.ref an_2, .ref an_6, .ref an_11, .ref an_17, .ref an_24, .ref an_32, .int 0, .int 0, .int 0, .int 0, .int 0, .int 0, .int 0, .int 40, .int 5, .int 0, .int 0, .int 0, .int 0, .int 0, .int 0, .long 0])) H := hat
  exact rv hx hb hr hlocks hS (⟨rfl, _, rfl, fun _ => rfl, cw_mk (a0 := a) (a1 := an_2) (a2 := an_6) (a3 := an_11) (a4 := an_17) (a5 := an_24) (a6 := an_32) (sc := scI) h_a hn_1 hn_5 hn_10 hn_16 hn_23 hn_31 ⟨(Or.inl rfl), inan_2, inan_6, inan_11, inan_17, inan_24, inan_32⟩ ⟨hlt_3, hlt_7, hlt_12, hlt_18, hlt_25, hlt_33⟩⟩) ⟨(Nat.le_of_ble_eq_true rfl), (Nat.le_of_ble_eq_true rfl)⟩ dX2_init_74

theorem cw.begin {g : GT} {A : Nat → Prop} {la : LT} {H : Heap} (h : cw g A la C0 H) : cw g A la (scI, 0, fun _ _ => 0, fun _ _ => 0, fun _ _ => 0, fun _ _ => 0, nA 0 0 0) H :=
  cw.congr h (fun _ _ => rfl) (fun _ _ => rfl) (fun k hk => by match k, hk with | 0, _ => rfl | 1, _ => rfl | 2, _ => rfl | k + 3, hk => omega) (fun _ _ _ _ => rfl) (fun _ _ _ _ => rfl) (fun _ _ _ _ => rfl)
def scCp (sc : Nat → Int32) : Nat → Int32 := va_up (va_up (va_up (va_up (va_up (va_up (va_up (va_up (va_up (va_up scI 0 (sc 0)) 1 (sc 1)) 2 (sc 2)) 3 (sc 3)) 4 (sc 4)) 7 (sc 7)) 8 (sc 8)) 9 (sc 9)) 10 (sc 10)) 12 (sc 12)
def arCp (ar : Nat → Nat → Int32) : Nat → Nat → Int32 := va_up (fun _ _ => 0) 0 (va_cpy (ar 0) (fun _ => 0) 0 0 4)
set_option maxHeartbeats 4000000 in
theorem m_W_copy (l : Launch) (g : GT) (sz : Nat) (la : LT) (sc : Nat → Int32) (sw : Int64) (ar fd tr ld : Nat → Nat → Int32) (n : CN) (hn : cN n) (hv : cV n fd tr ld) : Cn l g yX2_copy cX2_copy 3 ((some (.object "Canecrush$Works"))) 7 400 2000 [.ref (la.1 0 0)] (fun q => sz ≤ q) (fun H => sz = H.size ∧ cw g (bA g) la (sc, sw, ar, fd, tr, ld, n) H) (fun Hp rv Hq => ∃ lb : LT, rv = some (.ref (lb.1 0 0)) ∧ cw g (fun q => sz ≤ q) lb (scCp sc, 0, arCp ar, fd, tr, ld, n) Hq) := by
  refine Cn.start (plainFor_of_name (by decide +kernel)) (Nat.le_of_ble_eq_true rfl) ?_
  intro p ev s m below meth c ls H locs hH hx hb hr hts hown hlocks hml hnm hK hP hS hl
  obtain ⟨hsz, hw⟩ := hP
  have hszs : sz = s.heap.size := by rw [hsz, hH]
  have hAs : ∀ q, s.heap.size ≤ q → sz ≤ q := fun q h => by rw [hszs]; exact h
  have hAb : ∀ q, sz ≤ q → bA g q := fun q h => Nat.le_trans hK.2.2.sz (by rw [← hszs]; exact h)
  have hwlt : ∀ q, cF la n q → q < sz := fun q h => by rw [hsz]; exact hw.1.ftlt q h
  have hn9 := hn.1
  have hn8 := hn.2.1
  have hn7 := hn.2.2
  have fx : Fx p s m ([.ref (la.1 0 0)] : List Value).toArray c cX2_copy RX2 g (fun q => sz ≤ q) 3 := ⟨hx, hb, hts, hown, hK, hAb, hml⟩
  have hl : lv_has ls 3 [(0, .ref (la.1 0 0))] := hl
  refine mnew fx [.null, .null, .null, .null, .null, .null, .int 0, .int 0, .int 0, .int 0, .int 0, .int 0, .int 0, .int 0, .int 0, .int 0, .int 0, .int 0, .int 0, .int 0, .int 0, .long 0] tfX2 q463 q89 q51 hS dv_X2 ⟨(Nat.le_of_ble_eq_true rfl), (Nat.le_of_ble_eq_true rfl)⟩ dX2_copy_0 (fun an_2 H ean_2 hloan_2 hat hz hoq hS => ?_)
  have nin_3 : ∀ q, cF la n q → q ≠ an_2 := fun q h9 => Nat.ne_of_lt (by rw [ean_2]; exact hw.1.ftlt q h9)
  replace hw : cw g (bA g) la (sc, sw, ar, fd, tr, ld, n) H := cw.kept hw (fun q h9 _ => hoq q (by rw [ean_2]; exact h9))
  have inan_2 := hAs an_2 hloan_2
  have hn_1 : mAt g an_2 (.inr (1, [.null, .null, .null, .null, .null, .null, .int 0, .int 0, .int 0, .int 0, .int 0, .int 0, .int 0, .int 0, .int 0, .int 0, .int 0, .int 0, .int 0, .int 0, .int 0, .long 0])) H := hat
  refine lv_dup hx hb dX2_copy_3 rfl ?_
  have hbk : ∀ q, fA (fun q => q = an_2) H.size q → (fun q => sz ≤ q) q := fun q h9 => h9.elim (fun h8 => by rw [h8]; exact inan_2) (fun h8 => hAs q (Nat.le_trans hS.1 h8))
  have hSb := hS
  refine kI fx (m_W_init l g an_2 _ (fx.2.2.2.2.2.1 _ inan_2)) q92 q51 q464 q91 rfl hdX2_init ⟨(Nat.le_of_ble_eq_true rfl), (Nat.le_of_ble_eq_true rfl)⟩ ⟨(Nat.le_of_ble_eq_true rfl), (Nat.le_of_ble_eq_true rfl)⟩ hl.1 hS rfl (Nat.le_of_ble_eq_true rfl) (⟨rfl, hn_1⟩) (fun q h9 => hbk q h9) dX2_copy_4 (fun rv9 H locs hQ hz9 hk9 hS => ?_)
  obtain ⟨rfl, lb, hb0, hcap0, hwm9⟩ := hQ
  replace hw : cw g (bA g) la (sc, sw, ar, fd, tr, ld, n) H := cw.kept hw (fun q h9 hf9 => hk9 _ h9 (fun h8 => h8.elim (fun h7 => nin_3 q hf9 h7) (Nat.not_le.mpr h9)))
  have hwm : cw g (fun q => sz ≤ q) lb (scI, 0, (fun _ _ => 0), (fun _ _ => 0), (fun _ _ => 0), (fun _ _ => 0), (nA 0 0 0)) H := cw.begin (cw.weaken hwm9 hbk)
  refine W.eq (g2 := F0 m 7 ls [.ref (lb.1 0 0)]) (by rw [hb0]; rfl) ?_
  refine lv_astore_n (lv' := [(1, .ref (lb.1 0 0)), (0, .ref (la.1 0 0))]) hx hb dX2_copy_7 rfl hl (by decide) rfl (fun ls hl => ?_)
  refine lv_iconst (v := 0) hx hb dX2_copy_8 (by decide) ?_
  refine lv_istore_n (lv' := [(2, .int 0), (1, .ref (lb.1 0 0)), (0, .ref (la.1 0 0))]) hx hb dX2_copy_9 rfl hl (by decide) rfl (fun ls hl => ?_)
  have lp_4 : ∀ (d_5 i : Nat) (H : Heap) (locs : List Loc) (ls : Array Slot) (lb0 : LT), i + d_5 = n 0 → va_S (fun q => sz ≤ q) s.heap H locs → cw g (bA g) la (sc, sw, ar, fd, tr, ld, n) H → cw g (fun q => sz ≤ q) lb0 (scI, 0, (fun _ _ => 0), cpF fd i, (fun _ _ => 0), (fun _ _ => 0), (nA i 0 0)) H → lv_has ls 3 [(2, .int (nI i)), (1, .ref (lb0.1 0 0)), (0, .ref (la.1 0 0))] → W p l ev (mR 7 400 2000) s m ([.ref (la.1 0 0)] : List Value).toArray below meth c H locs (7 + (i + lb0.2.1 0)) (43 + (11 * i + 4 * lb0.2.1 0)) (MQ below (mQ (fun q => sz ≤ q) (fun Hp rv Hq => ∃ lb : LT, rv = some (.ref (lb.1 0 0)) ∧ cw g (fun q => sz ≤ q) lb (scCp sc, 0, arCp ar, fd, tr, ld, n) Hq)) ([.ref (la.1 0 0)] : List Value).toArray s 400 2000 (fun q => sz ≤ q)) (F0 m 10 ls []) := by
    intro d_5
    induction d_5 with
    | zero =>
      intro i H locs ls lb0 hid hS hw hwm hl
      obtain rfl : n 0 = i := by omega
      have hcb0 : 2 * lb0.2.1 0 ≤ 20 + 3 * (n 0) := (hwm.2 0 (by decide)).2.2.2
      refine lv_iload_n hx hb dX2_copy_10 rfl (lv_at hl 0 rfl) ?_
      refine lv_aload_n hx hb dX2_copy_11 rfl (lv_at hl 2 rfl) ?_
      refine mget fx tfX2 (cw.w hw) 0 (by decide) q120 (fun _ h => h) (v := .ref (la.1 0 1)) rfl dX2_copy_12 ?_
      refine kV fx (m_AL_size l g (la.1 0 1) (la.1 1 0) (la.2.2 0) (nI (n 0))) (lw_V q261 q254 q255 q54 q256) hdJ2_size ⟨(Nat.le_of_ble_eq_true rfl), (Nat.le_of_ble_eq_true rfl)⟩ ⟨(by show 7 + (n 0 + lb0.2.1 0) + 0 ≤ 400; omega), (by show 43 + (11 * (n 0) + 4 * lb0.2.1 0) + 0 ≤ 2000; omega)⟩ hl.1 hS tfJ2.2.1 (cw.al0 hw) rfl (Nat.le_of_ble_eq_true rfl) (cw.al0 hw) (fun _ h => h.elim) dX2_copy_15 (fun rv9 H locs hQ hz9 hk9 hS => ?_)
      obtain ⟨rfl, rfl⟩ := hQ
      refine W.eq (g2 := F0 m 18 ls [.int (nI (n 0)), .int (nI (n 0))]) rfl ?_
      refine lv_icmp_ge (tgt := 49) hx hb dX2_copy_18 (by decide) (fun _ => ?_) (fun h9 => absurd (nI_le (Nat.le_refl _) hn.h0) h9)
      refine lv_iconst (v := 0) hx hb dX2_copy_49 (by decide) ?_
      refine lv_istore_n (lv' := [(2, .int 0), (1, .ref (lb0.1 0 0)), (0, .ref (la.1 0 0))]) hx hb dX2_copy_50 rfl hl (by decide) rfl (fun ls hl => ?_)
      have lp_6 : ∀ (d_7 i : Nat) (H : Heap) (locs : List Loc) (ls : Array Slot) (lb1 : LT), i + d_7 = n 1 → va_S (fun q => sz ≤ q) s.heap H locs → cw g (bA g) la (sc, sw, ar, fd, tr, ld, n) H → cw g (fun q => sz ≤ q) lb1 (scI, 0, (fun _ _ => 0), cpF fd (n 0), cpT tr i, (fun _ _ => 0), (nA (n 0) i 0)) H → lv_has ls 3 [(2, .int (nI i)), (1, .ref (lb1.1 0 0)), (0, .ref (la.1 0 0))] → W p l ev (mR 7 400 2000) s m ([.ref (la.1 0 0)] : List Value).toArray below meth c H locs (7 + (n 0 + lb1.2.1 0 + i + lb1.2.1 1)) (43 + (11 * n 0 + 4 * lb1.2.1 0 + 4 * i + 4 * lb1.2.1 1)) (MQ below (mQ (fun q => sz ≤ q) (fun Hp rv Hq => ∃ lb : LT, rv = some (.ref (lb.1 0 0)) ∧ cw g (fun q => sz ≤ q) lb (scCp sc, 0, arCp ar, fd, tr, ld, n) Hq)) ([.ref (la.1 0 0)] : List Value).toArray s 400 2000 (fun q => sz ≤ q)) (F0 m 51 ls []) := by
        intro d_7
        induction d_7 with
        | zero =>
          intro i H locs ls lb1 hid hS hw hwm hl
          obtain rfl : n 1 = i := by omega
          have hcb0 : 2 * lb1.2.1 0 ≤ 20 + 3 * n 0 := (hwm.2 0 (by decide)).2.2.2
          have hcb1 : 2 * lb1.2.1 1 ≤ 20 + 3 * (n 1) := (hwm.2 1 (by decide)).2.2.2
          refine lv_iload_n hx hb dX2_copy_51 rfl (lv_at hl 0 rfl) ?_
          refine lv_aload_n hx hb dX2_copy_52 rfl (lv_at hl 2 rfl) ?_
          refine mget fx tfX2 (cw.w hw) 1 (by decide) q122 (fun _ h => h) (v := .ref (la.1 0 2)) rfl dX2_copy_53 ?_
          refine kV fx (m_AL_size l g (la.1 0 2) (la.1 1 1) (la.2.2 1) (nI (n 1))) (lw_V q261 q254 q255 q54 q256) hdJ2_size ⟨(Nat.le_of_ble_eq_true rfl), (Nat.le_of_ble_eq_true rfl)⟩ ⟨(by show 7 + (n 0 + lb1.2.1 0 + n 1 + lb1.2.1 1) + 0 ≤ 400; omega), (by show 43 + (11 * n 0 + 4 * lb1.2.1 0 + 4 * (n 1) + 4 * lb1.2.1 1) + 0 ≤ 2000; omega)⟩ hl.1 hS tfJ2.2.1 (cw.al1 hw) rfl (Nat.le_of_ble_eq_true rfl) (cw.al1 hw) (fun _ h => h.elim) dX2_copy_56 (fun rv9 H locs hQ hz9 hk9 hS => ?_)
          obtain ⟨rfl, rfl⟩ := hQ
          refine W.eq (g2 := F0 m 59 ls [.int (nI (n 1)), .int (nI (n 1))]) rfl ?_
          refine lv_icmp_ge (tgt := 90) hx hb dX2_copy_59 (by decide) (fun _ => ?_) (fun h9 => absurd (nI_le (Nat.le_refl _) hn.h1) h9)
          refine lv_iconst (v := 0) hx hb dX2_copy_90 (by decide) ?_
          refine lv_istore_n (lv' := [(2, .int 0), (1, .ref (lb1.1 0 0)), (0, .ref (la.1 0 0))]) hx hb dX2_copy_91 rfl hl (by decide) rfl (fun ls hl => ?_)
          have lp_8 : ∀ (d_9 i : Nat) (H : Heap) (locs : List Loc) (ls : Array Slot) (lb2 : LT), i + d_9 = n 2 → va_S (fun q => sz ≤ q) s.heap H locs → cw g (bA g) la (sc, sw, ar, fd, tr, ld, n) H → cw g (fun q => sz ≤ q) lb2 (scI, 0, (fun _ _ => 0), cpF fd (n 0), cpT tr (n 1), cpL ld i, (nA (n 0) (n 1) i)) H → lv_has ls 3 [(2, .int (nI i)), (1, .ref (lb2.1 0 0)), (0, .ref (la.1 0 0))] → W p l ev (mR 7 400 2000) s m ([.ref (la.1 0 0)] : List Value).toArray below meth c H locs (7 + (n 0 + lb2.2.1 0 + n 1 + lb2.2.1 1 + i + lb2.2.1 2)) (43 + (11 * n 0 + 4 * lb2.2.1 0 + 4 * n 1 + 4 * lb2.2.1 1 + 9 * i + 4 * lb2.2.1 2)) (MQ below (mQ (fun q => sz ≤ q) (fun Hp rv Hq => ∃ lb : LT, rv = some (.ref (lb.1 0 0)) ∧ cw g (fun q => sz ≤ q) lb (scCp sc, 0, arCp ar, fd, tr, ld, n) Hq)) ([.ref (la.1 0 0)] : List Value).toArray s 400 2000 (fun q => sz ≤ q)) (F0 m 92 ls []) := by
            intro d_9
            induction d_9 with
            | zero =>
              intro i H locs ls lb2 hid hS hw hwm hl
              obtain rfl : n 2 = i := by omega
              have hcb0 : 2 * lb2.2.1 0 ≤ 20 + 3 * n 0 := (hwm.2 0 (by decide)).2.2.2
              have hcb1 : 2 * lb2.2.1 1 ≤ 20 + 3 * n 1 := (hwm.2 1 (by decide)).2.2.2
              have hcb2 : 2 * lb2.2.1 2 ≤ 20 + 3 * (n 2) := (hwm.2 2 (by decide)).2.2.2
              refine lv_iload_n hx hb dX2_copy_92 rfl (lv_at hl 0 rfl) ?_
              refine lv_aload_n hx hb dX2_copy_93 rfl (lv_at hl 2 rfl) ?_
              refine mget fx tfX2 (cw.w hw) 2 (by decide) q124 (fun _ h => h) (v := .ref (la.1 0 3)) rfl dX2_copy_94 ?_
              refine kV fx (m_AL_size l g (la.1 0 3) (la.1 1 2) (la.2.2 2) (nI (n 2))) (lw_V q261 q254 q255 q54 q256) hdJ2_size ⟨(Nat.le_of_ble_eq_true rfl), (Nat.le_of_ble_eq_true rfl)⟩ ⟨(by show 7 + (n 0 + lb2.2.1 0 + n 1 + lb2.2.1 1 + n 2 + lb2.2.1 2) + 0 ≤ 400; omega), (by show 43 + (11 * n 0 + 4 * lb2.2.1 0 + 4 * n 1 + 4 * lb2.2.1 1 + 9 * (n 2) + 4 * lb2.2.1 2) + 0 ≤ 2000; omega)⟩ hl.1 hS tfJ2.2.1 (cw.al2 hw) rfl (Nat.le_of_ble_eq_true rfl) (cw.al2 hw) (fun _ h => h.elim) dX2_copy_97 (fun rv9 H locs hQ hz9 hk9 hS => ?_)
              obtain ⟨rfl, rfl⟩ := hQ
              refine W.eq (g2 := F0 m 100 ls [.int (nI (n 2)), .int (nI (n 2))]) rfl ?_
              refine lv_icmp_ge (tgt := 131) hx hb dX2_copy_100 (by decide) (fun _ => ?_) (fun h9 => absurd (nI_le (Nat.le_refl _) hn.h2) h9)
              refine lv_aload_n hx hb dX2_copy_131 rfl (lv_at hl 2 rfl) ?_
              refine mget fx tfX2 (cw.w hw) 3 (by decide) q126 (fun _ h => h) (v := .ref (la.1 0 4)) rfl dX2_copy_132 ?_
              refine lv_iconst (v := 0) hx hb dX2_copy_135 (by decide) ?_
              refine lv_aload_n hx hb dX2_copy_136 rfl (lv_at hl 1 rfl) ?_
              refine mget fx tfX2 (cw.w hwm) 3 (by decide) q126 (fun _ h => h) (v := .ref (lb2.1 0 4)) rfl dX2_copy_137 ?_
              refine lv_iconst (v := 0) hx hb dX2_copy_140 (by decide) ?_
              refine lv_iconst (v := 4) hx hb dX2_copy_141 (by decide) ?_
              refine mcopyi fx hl.1 q551 (cw.ar0 hw) (cw.ar0 hwm) hS (cw.inW hwm (by decide)) 0 0 4 (by omega) (by omega) (by omega) (by omega) rfl rfl rfl (Nat.le_of_ble_eq_true rfl) (Nat.le_of_ble_eq_true rfl) dX2_copy_142 (fun H locs hat hz hoq hS => ?_)
              replace hw : cw g (bA g) la (sc, sw, ar, fd, tr, ld, n) H := cw.kept hw (fun q h9 hf9 => hoq _ ((apF hwlt hwm.1.ft) q _ hf9 ⟨0, 4, (by show 4 < 7; decide), rfl⟩))
              replace hwm : cw g (fun q => sz ≤ q) lb2 (scI, 0, va_up (fun _ _ => 0) 0 (va_cpy (ar 0) ((fun _ _ => 0) 0) 0 0 4), cpF fd (n 0), cpT tr (n 1), cpL ld (n 2), (nA (n 0) (n 1) (n 2))) H := cw.setA 0 (by decide) hwm hat (fun q _ h9 => hoq q h9)
              refine lv_aload_n hx hb dX2_copy_145 rfl (lv_at hl 1 rfl) ?_
              refine lv_aload_n hx hb dX2_copy_146 rfl (lv_at hl 2 rfl) ?_
              refine mget fx tfX2 (cw.w hw) 6 (by decide) q132 (fun _ h => h) (v := .int (sc 0)) rfl dX2_copy_147 ?_
              refine mput fx tfX2 (cw.w hwm) hS (cw.inW hwm (by decide)) 6 (by decide) q132 (fun _ h => h) rfl rfl rfl (Nat.le_of_ble_eq_true rfl) dX2_copy_150 (fun H locs hat hz hoq hS => ?_)
              replace hw : cw g (bA g) la (sc, sw, ar, fd, tr, ld, n) H := cw.kept hw (fun q h9 hf9 => hoq _ ((apF hwlt hwm.1.ft) q _ hf9 ⟨0, 0, (by show 0 < 7; decide), rfl⟩))
              replace hwm : cw g (fun q => sz ≤ q) lb2 (va_up scI 0 (sc 0), 0, va_up (fun _ _ => 0) 0 (va_cpy (ar 0) ((fun _ _ => 0) 0) 0 0 4), cpF fd (n 0), cpT tr (n 1), cpL ld (n 2), (nA (n 0) (n 1) (n 2))) H := cw.setW hwm hat (fun q _ h9 => hoq q h9)
              refine lv_aload_n hx hb dX2_copy_153 rfl (lv_at hl 1 rfl) ?_
              refine lv_aload_n hx hb dX2_copy_154 rfl (lv_at hl 2 rfl) ?_
              refine mget fx tfX2 (cw.w hw) 7 (by decide) q134 (fun _ h => h) (v := .int (sc 1)) rfl dX2_copy_155 ?_
              refine mput fx tfX2 (cw.w hwm) hS (cw.inW hwm (by decide)) 7 (by decide) q134 (fun _ h => h) rfl rfl rfl (Nat.le_of_ble_eq_true rfl) dX2_copy_158 (fun H locs hat hz hoq hS => ?_)
              replace hw : cw g (bA g) la (sc, sw, ar, fd, tr, ld, n) H := cw.kept hw (fun q h9 hf9 => hoq _ ((apF hwlt hwm.1.ft) q _ hf9 ⟨0, 0, (by show 0 < 7; decide), rfl⟩))
              replace hwm : cw g (fun q => sz ≤ q) lb2 (va_up (va_up scI 0 (sc 0)) 1 (sc 1), 0, va_up (fun _ _ => 0) 0 (va_cpy (ar 0) ((fun _ _ => 0) 0) 0 0 4), cpF fd (n 0), cpT tr (n 1), cpL ld (n 2), (nA (n 0) (n 1) (n 2))) H := cw.setW hwm hat (fun q _ h9 => hoq q h9)
              refine lv_aload_n hx hb dX2_copy_161 rfl (lv_at hl 1 rfl) ?_
              refine lv_aload_n hx hb dX2_copy_162 rfl (lv_at hl 2 rfl) ?_
              refine mget fx tfX2 (cw.w hw) 8 (by decide) q135 (fun _ h => h) (v := .int (sc 2)) rfl dX2_copy_163 ?_
              refine mput fx tfX2 (cw.w hwm) hS (cw.inW hwm (by decide)) 8 (by decide) q135 (fun _ h => h) rfl rfl rfl (Nat.le_of_ble_eq_true rfl) dX2_copy_166 (fun H locs hat hz hoq hS => ?_)
              replace hw : cw g (bA g) la (sc, sw, ar, fd, tr, ld, n) H := cw.kept hw (fun q h9 hf9 => hoq _ ((apF hwlt hwm.1.ft) q _ hf9 ⟨0, 0, (by show 0 < 7; decide), rfl⟩))
              replace hwm : cw g (fun q => sz ≤ q) lb2 (va_up (va_up (va_up scI 0 (sc 0)) 1 (sc 1)) 2 (sc 2), 0, va_up (fun _ _ => 0) 0 (va_cpy (ar 0) ((fun _ _ => 0) 0) 0 0 4), cpF fd (n 0), cpT tr (n 1), cpL ld (n 2), (nA (n 0) (n 1) (n 2))) H := cw.setW hwm hat (fun q _ h9 => hoq q h9)
              refine lv_aload_n hx hb dX2_copy_169 rfl (lv_at hl 1 rfl) ?_
              refine lv_aload_n hx hb dX2_copy_170 rfl (lv_at hl 2 rfl) ?_
              refine mget fx tfX2 (cw.w hw) 9 (by decide) q137 (fun _ h => h) (v := .int (sc 3)) rfl dX2_copy_171 ?_
              refine mput fx tfX2 (cw.w hwm) hS (cw.inW hwm (by decide)) 9 (by decide) q137 (fun _ h => h) rfl rfl rfl (Nat.le_of_ble_eq_true rfl) dX2_copy_174 (fun H locs hat hz hoq hS => ?_)
              replace hw : cw g (bA g) la (sc, sw, ar, fd, tr, ld, n) H := cw.kept hw (fun q h9 hf9 => hoq _ ((apF hwlt hwm.1.ft) q _ hf9 ⟨0, 0, (by show 0 < 7; decide), rfl⟩))
              replace hwm : cw g (fun q => sz ≤ q) lb2 (va_up (va_up (va_up (va_up scI 0 (sc 0)) 1 (sc 1)) 2 (sc 2)) 3 (sc 3), 0, va_up (fun _ _ => 0) 0 (va_cpy (ar 0) ((fun _ _ => 0) 0) 0 0 4), cpF fd (n 0), cpT tr (n 1), cpL ld (n 2), (nA (n 0) (n 1) (n 2))) H := cw.setW hwm hat (fun q _ h9 => hoq q h9)
              refine lv_aload_n hx hb dX2_copy_177 rfl (lv_at hl 1 rfl) ?_
              refine lv_aload_n hx hb dX2_copy_178 rfl (lv_at hl 2 rfl) ?_
              refine mget fx tfX2 (cw.w hw) 10 (by decide) q139 (fun _ h => h) (v := .int (sc 4)) rfl dX2_copy_179 ?_
              refine mput fx tfX2 (cw.w hwm) hS (cw.inW hwm (by decide)) 10 (by decide) q139 (fun _ h => h) rfl rfl rfl (Nat.le_of_ble_eq_true rfl) dX2_copy_182 (fun H locs hat hz hoq hS => ?_)
              replace hw : cw g (bA g) la (sc, sw, ar, fd, tr, ld, n) H := cw.kept hw (fun q h9 hf9 => hoq _ ((apF hwlt hwm.1.ft) q _ hf9 ⟨0, 0, (by show 0 < 7; decide), rfl⟩))
              replace hwm : cw g (fun q => sz ≤ q) lb2 (va_up (va_up (va_up (va_up (va_up scI 0 (sc 0)) 1 (sc 1)) 2 (sc 2)) 3 (sc 3)) 4 (sc 4), 0, va_up (fun _ _ => 0) 0 (va_cpy (ar 0) ((fun _ _ => 0) 0) 0 0 4), cpF fd (n 0), cpT tr (n 1), cpL ld (n 2), (nA (n 0) (n 1) (n 2))) H := cw.setW hwm hat (fun q _ h9 => hoq q h9)
              refine lv_aload_n hx hb dX2_copy_185 rfl (lv_at hl 1 rfl) ?_
              refine lv_aload_n hx hb dX2_copy_186 rfl (lv_at hl 2 rfl) ?_
              refine mget fx tfX2 (cw.w hw) 13 (by decide) q145 (fun _ h => h) (v := .int (sc 7)) rfl dX2_copy_187 ?_
              refine mput fx tfX2 (cw.w hwm) hS (cw.inW hwm (by decide)) 13 (by decide) q145 (fun _ h => h) rfl rfl rfl (Nat.le_of_ble_eq_true rfl) dX2_copy_190 (fun H locs hat hz hoq hS => ?_)
              replace hw : cw g (bA g) la (sc, sw, ar, fd, tr, ld, n) H := cw.kept hw (fun q h9 hf9 => hoq _ ((apF hwlt hwm.1.ft) q _ hf9 ⟨0, 0, (by show 0 < 7; decide), rfl⟩))
              replace hwm : cw g (fun q => sz ≤ q) lb2 (va_up (va_up (va_up (va_up (va_up (va_up scI 0 (sc 0)) 1 (sc 1)) 2 (sc 2)) 3 (sc 3)) 4 (sc 4)) 7 (sc 7), 0, va_up (fun _ _ => 0) 0 (va_cpy (ar 0) ((fun _ _ => 0) 0) 0 0 4), cpF fd (n 0), cpT tr (n 1), cpL ld (n 2), (nA (n 0) (n 1) (n 2))) H := cw.setW hwm hat (fun q _ h9 => hoq q h9)
              refine lv_aload_n hx hb dX2_copy_193 rfl (lv_at hl 1 rfl) ?_
              refine lv_aload_n hx hb dX2_copy_194 rfl (lv_at hl 2 rfl) ?_
              refine mget fx tfX2 (cw.w hw) 14 (by decide) q147 (fun _ h => h) (v := .int (sc 8)) rfl dX2_copy_195 ?_
              refine mput fx tfX2 (cw.w hwm) hS (cw.inW hwm (by decide)) 14 (by decide) q147 (fun _ h => h) rfl rfl rfl (Nat.le_of_ble_eq_true rfl) dX2_copy_198 (fun H locs hat hz hoq hS => ?_)
              replace hw : cw g (bA g) la (sc, sw, ar, fd, tr, ld, n) H := cw.kept hw (fun q h9 hf9 => hoq _ ((apF hwlt hwm.1.ft) q _ hf9 ⟨0, 0, (by show 0 < 7; decide), rfl⟩))
              replace hwm : cw g (fun q => sz ≤ q) lb2 (va_up (va_up (va_up (va_up (va_up (va_up (va_up scI 0 (sc 0)) 1 (sc 1)) 2 (sc 2)) 3 (sc 3)) 4 (sc 4)) 7 (sc 7)) 8 (sc 8), 0, va_up (fun _ _ => 0) 0 (va_cpy (ar 0) ((fun _ _ => 0) 0) 0 0 4), cpF fd (n 0), cpT tr (n 1), cpL ld (n 2), (nA (n 0) (n 1) (n 2))) H := cw.setW hwm hat (fun q _ h9 => hoq q h9)
              refine lv_aload_n hx hb dX2_copy_201 rfl (lv_at hl 1 rfl) ?_
              refine lv_aload_n hx hb dX2_copy_202 rfl (lv_at hl 2 rfl) ?_
              refine mget fx tfX2 (cw.w hw) 15 (by decide) q149 (fun _ h => h) (v := .int (sc 9)) rfl dX2_copy_203 ?_
              refine mput fx tfX2 (cw.w hwm) hS (cw.inW hwm (by decide)) 15 (by decide) q149 (fun _ h => h) rfl rfl rfl (Nat.le_of_ble_eq_true rfl) dX2_copy_206 (fun H locs hat hz hoq hS => ?_)
              replace hw : cw g (bA g) la (sc, sw, ar, fd, tr, ld, n) H := cw.kept hw (fun q h9 hf9 => hoq _ ((apF hwlt hwm.1.ft) q _ hf9 ⟨0, 0, (by show 0 < 7; decide), rfl⟩))
              replace hwm : cw g (fun q => sz ≤ q) lb2 (va_up (va_up (va_up (va_up (va_up (va_up (va_up (va_up scI 0 (sc 0)) 1 (sc 1)) 2 (sc 2)) 3 (sc 3)) 4 (sc 4)) 7 (sc 7)) 8 (sc 8)) 9 (sc 9), 0, va_up (fun _ _ => 0) 0 (va_cpy (ar 0) ((fun _ _ => 0) 0) 0 0 4), cpF fd (n 0), cpT tr (n 1), cpL ld (n 2), (nA (n 0) (n 1) (n 2))) H := cw.setW hwm hat (fun q _ h9 => hoq q h9)
              refine lv_aload_n hx hb dX2_copy_209 rfl (lv_at hl 1 rfl) ?_
              refine lv_aload_n hx hb dX2_copy_210 rfl (lv_at hl 2 rfl) ?_
              refine mget fx tfX2 (cw.w hw) 16 (by decide) q151 (fun _ h => h) (v := .int (sc 10)) rfl dX2_copy_211 ?_
              refine mput fx tfX2 (cw.w hwm) hS (cw.inW hwm (by decide)) 16 (by decide) q151 (fun _ h => h) rfl rfl rfl (Nat.le_of_ble_eq_true rfl) dX2_copy_214 (fun H locs hat hz hoq hS => ?_)
              replace hw : cw g (bA g) la (sc, sw, ar, fd, tr, ld, n) H := cw.kept hw (fun q h9 hf9 => hoq _ ((apF hwlt hwm.1.ft) q _ hf9 ⟨0, 0, (by show 0 < 7; decide), rfl⟩))
              replace hwm : cw g (fun q => sz ≤ q) lb2 (va_up (va_up (va_up (va_up (va_up (va_up (va_up (va_up (va_up scI 0 (sc 0)) 1 (sc 1)) 2 (sc 2)) 3 (sc 3)) 4 (sc 4)) 7 (sc 7)) 8 (sc 8)) 9 (sc 9)) 10 (sc 10), 0, va_up (fun _ _ => 0) 0 (va_cpy (ar 0) ((fun _ _ => 0) 0) 0 0 4), cpF fd (n 0), cpT tr (n 1), cpL ld (n 2), (nA (n 0) (n 1) (n 2))) H := cw.setW hwm hat (fun q _ h9 => hoq q h9)
              refine lv_aload_n hx hb dX2_copy_217 rfl (lv_at hl 1 rfl) ?_
              refine lv_aload_n hx hb dX2_copy_218 rfl (lv_at hl 2 rfl) ?_
              refine mget fx tfX2 (cw.w hw) 18 (by decide) q155 (fun _ h => h) (v := .int (sc 12)) rfl dX2_copy_219 ?_
              refine mput fx tfX2 (cw.w hwm) hS (cw.inW hwm (by decide)) 18 (by decide) q155 (fun _ h => h) rfl rfl rfl (Nat.le_of_ble_eq_true rfl) dX2_copy_222 (fun H locs hat hz hoq hS => ?_)
              replace hw : cw g (bA g) la (sc, sw, ar, fd, tr, ld, n) H := cw.kept hw (fun q h9 hf9 => hoq _ ((apF hwlt hwm.1.ft) q _ hf9 ⟨0, 0, (by show 0 < 7; decide), rfl⟩))
              replace hwm : cw g (fun q => sz ≤ q) lb2 (va_up (va_up (va_up (va_up (va_up (va_up (va_up (va_up (va_up (va_up scI 0 (sc 0)) 1 (sc 1)) 2 (sc 2)) 3 (sc 3)) 4 (sc 4)) 7 (sc 7)) 8 (sc 8)) 9 (sc 9)) 10 (sc 10)) 12 (sc 12), 0, va_up (fun _ _ => 0) 0 (va_cpy (ar 0) ((fun _ _ => 0) 0) 0 0 4), cpF fd (n 0), cpT tr (n 1), cpL ld (n 2), (nA (n 0) (n 1) (n 2))) H := cw.setW hwm hat (fun q _ h9 => hoq q h9)
              refine lv_aload_n hx hb dX2_copy_225 rfl (lv_at hl 1 rfl) ?_
              exact ra hx hb hr (Or.inl ⟨_, rfl⟩) hlocks hS (⟨lb2, rfl, cw.congr hwm (fun _ _ => rfl) (fun _ _ => rfl) (fun k hk => by match k, hk with | 0, _ => rfl | 1, _ => rfl | 2, _ => rfl | k + 3, hk => omega) (fun i hi q hq => (cpF_at hi q hq).symm) (fun i hi q hq => (cpT_at hi q hq).symm) (fun i hi q hq => (cpL_at hi (fun i hi => hv.tra hi) q hq).symm)⟩) ⟨(by omega), (by omega)⟩ dX2_copy_226
            | succ d_9 ih =>
              intro i H locs ls lb2 hid hS hw hwm hl
              have hi_i : i < n 2 := by omega
              have hcb0 : 2 * lb2.2.1 0 ≤ 20 + 3 * n 0 := (hwm.2 0 (by decide)).2.2.2
              have hcb1 : 2 * lb2.2.1 1 ≤ 20 + 3 * n 1 := (hwm.2 1 (by decide)).2.2.2
              have hcb2 : 2 * lb2.2.1 2 ≤ 20 + 3 * i := (hwm.2 2 (by decide)).2.2.2
              have hvi := hv.2.1 i hi_i
              refine lv_iload_n hx hb dX2_copy_92 rfl (lv_at hl 0 rfl) ?_
              refine lv_aload_n hx hb dX2_copy_93 rfl (lv_at hl 2 rfl) ?_
              refine mget fx tfX2 (cw.w hw) 2 (by decide) q124 (fun _ h => h) (v := .ref (la.1 0 3)) rfl dX2_copy_94 ?_
              refine kV fx (m_AL_size l g (la.1 0 3) (la.1 1 2) (la.2.2 2) (nI (n 2))) (lw_V q261 q254 q255 q54 q256) hdJ2_size ⟨(Nat.le_of_ble_eq_true rfl), (Nat.le_of_ble_eq_true rfl)⟩ ⟨(by show 7 + (n 0 + lb2.2.1 0 + n 1 + lb2.2.1 1 + i + lb2.2.1 2) + 0 ≤ 400; omega), (by show 43 + (11 * n 0 + 4 * lb2.2.1 0 + 4 * n 1 + 4 * lb2.2.1 1 + 9 * i + 4 * lb2.2.1 2) + 0 ≤ 2000; omega)⟩ hl.1 hS tfJ2.2.1 (cw.al2 hw) rfl (Nat.le_of_ble_eq_true rfl) (cw.al2 hw) (fun _ h => h.elim) dX2_copy_97 (fun rv9 H locs hQ hz9 hk9 hS => ?_)
              obtain ⟨rfl, rfl⟩ := hQ
              refine W.eq (g2 := F0 m 100 ls [.int (nI (n 2)), .int (nI i)]) rfl ?_
              refine lv_icmp_ge (tgt := 131) hx hb dX2_copy_100 (by decide) (fun h9 => absurd h9 (nI_ge hi_i hn.h2)) (fun _ => ?_)
              refine lv_aload_n hx hb dX2_copy_103 rfl (lv_at hl 1 rfl) ?_
              refine mget fx tfX2 (cw.w hwm) 2 (by decide) q124 (fun _ h => h) (v := .ref (lb2.1 0 3)) rfl dX2_copy_104 ?_
              refine lv_aload_n hx hb dX2_copy_107 rfl (lv_at hl 2 rfl) ?_
              refine mget fx tfX2 (cw.w hw) 2 (by decide) q124 (fun _ h => h) (v := .ref (la.1 0 3)) rfl dX2_copy_108 ?_
              refine lv_iload_n hx hb dX2_copy_111 rfl (lv_at hl 0 rfl) ?_
              refine kV fx (m_AL_get l g (la.1 0 3) (la.1 1 2) i (n 2) (la.2.1 2) (la.1 4 i) (la.2.2 2) (elF la.1 n 2) hi_i (cw.get hw (k := 2) (by decide) hi_i).2.1 (cw.get hw (k := 2) (by decide) hi_i).2.2.1 (cw.get hw (k := 2) (by decide) hi_i).2.2.2) (lw_V q262 q263 q264 q54 q265) hdJ2_get ⟨(Nat.le_of_ble_eq_true rfl), (Nat.le_of_ble_eq_true rfl)⟩ ⟨(by show 7 + (n 0 + lb2.2.1 0 + n 1 + lb2.2.1 1 + i + lb2.2.1 2) + 0 ≤ 400; omega), (by show 43 + (11 * n 0 + 4 * lb2.2.1 0 + 4 * n 1 + 4 * lb2.2.1 1 + 9 * i + 4 * lb2.2.1 2) + 0 ≤ 2000; omega)⟩ hl.1 hS tfJ2.2.1 (cw.al2 hw) rfl (Nat.le_of_ble_eq_true rfl) (⟨(cw.al2 hw), (cw.get hw (k := 2) (by decide) hi_i).1⟩) (fun _ h => h.elim) dX2_copy_112 (fun rv9 H locs hQ hz9 hk9 hS => ?_)
              obtain ⟨rfl, rfl⟩ := hQ
              refine W.eq (g2 := F0 m 115 ls [.ref (la.1 4 i), .ref (lb2.1 0 3)]) rfl ?_
              refine mcast fx tfX9 (cw.l hw hi_i) q276 dX2_copy_115 ?_
              have hSb := hS
              refine kV fx (m_L_copy l g (la.1 4 i) _ (ld i 0) (ld i 1) (ld i 2) (ld i 3) (ld i 4) (ld i 5) (ld i 6) (ld i 7) (ld i 8) hvi.2.1) (lw_V q499 q500 q501 q75 q502) hdX9_copy ⟨(Nat.le_of_ble_eq_true rfl), (Nat.le_of_ble_eq_true rfl)⟩ ⟨(by show 7 + (n 0 + lb2.2.1 0 + n 1 + lb2.2.1 1 + i + lb2.2.1 2) + 1 ≤ 400; omega), (by show 43 + (11 * n 0 + 4 * lb2.2.1 0 + 4 * n 1 + 4 * lb2.2.1 1 + 9 * i + 4 * lb2.2.1 2) + 9 ≤ 2000; omega)⟩ hl.1 hS tfX9.2.1 (cw.l hw hi_i) rfl (Nat.le_of_ble_eq_true rfl) (⟨rfl, (cw.l hw hi_i)⟩) (fun q h => hAs q (Nat.le_trans hS.1 h)) dX2_copy_118 (fun rv9 H locs hQ hz9 hk9 hS => ?_)
              obtain ⟨an_10, rfl, hloan_10, hat⟩ := hQ
              have nin_12 : ∀ q, cF la n q → q ≠ an_10 := fun q h9 => Nat.ne_of_lt (Nat.lt_of_lt_of_le (hw.1.ftlt q h9) hloan_10)
              have nin_13 : ∀ q, cF lb2 (nA (n 0) (n 1) i) q → q ≠ an_10 := fun q h9 => Nat.ne_of_lt (Nat.lt_of_lt_of_le (hwm.1.ftlt q h9) hloan_10)
              replace hw : cw g (bA g) la (sc, sw, ar, fd, tr, ld, n) H := cw.kept hw (fun q h9 _ => hk9 q h9 (Nat.not_le.mpr h9))
              replace hwm : cw g (fun q => sz ≤ q) lb2 (scI, 0, (fun _ _ => 0), cpF fd (n 0), cpT tr (n 1), cpL ld i, (nA (n 0) (n 1) i)) H := cw.kept hwm (fun q h9 _ => hk9 q h9 (Nat.not_le.mpr h9))
              have inan_10 := hAs an_10 (Nat.le_trans hSb.1 hloan_10)
              have hn_11 : mAt g an_10 (.inr (9, [.int (ld i 0), .int (ld i 1), .int (f_L_init_2 (ld i 3)), .int (ld i 3), .int (ld i 4), .int (ld i 5), .int (ld i 6), .int (ld i 7), .int (ld i 8)])) H := hat
              refine W.eq (g2 := F0 m 121 ls [.ref an_10, .ref (lb2.1 0 3)]) rfl ?_
              obtain ⟨pa, pea, pe0, pnc, pc, pf, ped, pels, pfr, pcap⟩ := cw.addP2 hwm fx.2.2.2.2.2.1
              have hcp := newCap_le _ _ pnc pcap
              have hbk : ∀ q, fA (fun q => q = lb2.1 0 3 ∨ (lb2.2.1 2 ≠ 0 ∧ q = lb2.1 1 2)) H.size q → (fun q => sz ≤ q) q := fun q h9 => (pfr q h9).elim (hwm.1.ft q) (fun h8 => hAs q (Nat.le_trans hS.1 h8))
              have hSb := hS
              refine kV fx (m_AL_add l g (lb2.1 0 3) an_10 (lb2.1 1 2) ((nA (n 0) (n 1) i) 2) (lb2.2.1 2) _ (lb2.2.2 2) (elF lb2.1 (nA (n 0) (n 1) i) 2) pa pea pe0 (Ne.symm (nin_13 _ ⟨0, 3, (by show 3 < 7; decide), rfl⟩)) pnc pc pf) (lw_V q466 q356 q357 q54 q358) hdJ2_add ⟨(Nat.le_of_ble_eq_true rfl), (Nat.le_of_ble_eq_true rfl)⟩ ⟨(by have hnk : (nA (n 0) (n 1) i) 2 = i := rfl; have := hcp.2.2.1; have := hcp.2.1; show 7 + (n 0 + lb2.2.1 0 + n 1 + lb2.2.1 1 + i + lb2.2.1 2) + 1 + (if (nA (n 0) (n 1) i) 2 < lb2.2.1 2 then 0 else 1) ≤ 400; omega), (by have hnk : (nA (n 0) (n 1) i) 2 = i := rfl; have := hcp.2.2.2.1; have := hcp.2.1; show 43 + (11 * n 0 + 4 * lb2.2.1 0 + 4 * n 1 + 4 * lb2.2.1 1 + 9 * i + 4 * lb2.2.1 2) + 9 + (if (nA (n 0) (n 1) i) 2 < lb2.2.1 2 then 0 else newCap ((nA (n 0) (n 1) i) 2) (lb2.2.1 2)) ≤ 2000; omega)⟩ hl.1 hS tfJ2.2.1 (cw.al2 hwm) rfl (Nat.le_of_ble_eq_true rfl) (⟨rfl, (cw.al2 hwm), ped, pels, mEl_L hn_11⟩) (fun q h9 => hbk q h9) dX2_copy_121 (fun rv9 H locs hQ hz9 hk9 hS => ?_)
              obtain ⟨ea9, rfl, he9, hl9, hea9⟩ := hQ
              have hw9 := cw.addL hwm (by show i < 2 ^ 20; omega) hn_11 nin_13 he9 hl9 hea9 hk9
              replace hw : cw g (bA g) la (sc, sw, ar, fd, tr, ld, n) H := cw.kept hw (fun q h9 hf9 => hk9 _ h9 (fun h8 => (pfr _ h8).elim (fun h7 => (apF hwlt hwm.1.ft) q q hf9 h7 rfl) (Nat.not_le.mpr h9)))
              obtain ⟨lc_14, hla⟩ : ∃ z, z = adA lb2 (nA (n 0) (n 1) i) 2 ea9 an_10 := ⟨_, rfl⟩
              rw [← hla] at hw9
              have hft9 := hw9.1.ft
              have hbk2 : ∀ q, (fA (cF lb2 (nA (n 0) (n 1) i)) _ q ∨ q = an_10) → (fun q => sz ≤ q) q := fun q h9 => h9.elim (fun h8 => h8.elim (hwm.1.ft q) (fun h7 => hAs q (Nat.le_trans hSb.1 h7))) (fun h8 => by rw [h8]; exact inan_10)
              replace hw9 := cw.weaken hw9 hbk2
              rw [nA_2] at hw9
              replace hwm : cw g (fun q => sz ≤ q) lc_14 (scI, 0, (fun _ _ => 0), cpF fd (n 0), cpT tr (n 1), va_up (cpL ld i) ((nA (n 0) (n 1) i) 2) (ob9 (ld i 0) (ld i 1) (f_L_init_2 (ld i 3)) (ld i 3) (ld i 4) (ld i 5) (ld i 6) (ld i 7) (ld i 8)), (nA (n 0) (n 1) (i + 1))) H := hw9
              have hq0 : lc_14.2.1 0 = lb2.2.1 0 := by rw [hla]; rfl
              have hq1 : lc_14.2.1 1 = lb2.2.1 1 := by rw [hla]; rfl
              have hq2 : lc_14.2.1 2 = newCap ((nA (n 0) (n 1) i) 2) (lb2.2.1 2) := by rw [hla]; rfl
              have h00 : lc_14.1 0 0 = lb2.1 0 0 := by rw [hla]; exact adA_0
              rw [← h00] at hl
              refine W.eq (g2 := F0 m 124 ls [.int 1]) rfl ?_
              refine lv_pop hx hb dX2_copy_124 rfl ?_
              refine lv_iinc (v := nI (i + 1)) (lv' := [(2, .int (nI (i + 1))), (1, .ref (lc_14.1 0 0)), (0, .ref (la.1 0 0))]) hx hb dX2_copy_125 hl (k := 0) rfl (nI_1 _) (by decide) rfl (fun ls hl => ?_)
              refine lv_goto (tgt := 92) hx hb dX2_copy_128 (by decide) ?_
              refine W.widen (k := 7 + (n 0 + lc_14.2.1 0 + n 1 + lc_14.2.1 1 + (i + 1) + lc_14.2.1 2)) (n := 43 + (11 * n 0 + 4 * lc_14.2.1 0 + 4 * n 1 + 4 * lc_14.2.1 1 + 9 * (i + 1) + 4 * lc_14.2.1 2)) (by omega) (by omega) ?_
              exact ih (i + 1) H locs ls _ (by omega) hS hw hwm (lv_sub hl [0, 1, 2] rfl)
          refine W.widen (k := 7 + (n 0 + lb1.2.1 0 + n 1 + lb1.2.1 1 + 0 + lb1.2.1 2)) (n := 43 + (11 * n 0 + 4 * lb1.2.1 0 + 4 * n 1 + 4 * lb1.2.1 1 + 9 * 0 + 4 * lb1.2.1 2)) (by omega) (by omega) ?_
          exact lp_8 (n 2 - 0) 0 H locs ls _ (by omega) hS hw hwm (lv_sub hl [0, 1, 2] rfl)
        | succ d_7 ih =>
          intro i H locs ls lb1 hid hS hw hwm hl
          have hi_i : i < n 1 := by omega
          have hcb0 : 2 * lb1.2.1 0 ≤ 20 + 3 * n 0 := (hwm.2 0 (by decide)).2.2.2
          have hcb1 : 2 * lb1.2.1 1 ≤ 20 + 3 * i := (hwm.2 1 (by decide)).2.2.2
          refine lv_iload_n hx hb dX2_copy_51 rfl (lv_at hl 0 rfl) ?_
          refine lv_aload_n hx hb dX2_copy_52 rfl (lv_at hl 2 rfl) ?_
          refine mget fx tfX2 (cw.w hw) 1 (by decide) q122 (fun _ h => h) (v := .ref (la.1 0 2)) rfl dX2_copy_53 ?_
          refine kV fx (m_AL_size l g (la.1 0 2) (la.1 1 1) (la.2.2 1) (nI (n 1))) (lw_V q261 q254 q255 q54 q256) hdJ2_size ⟨(Nat.le_of_ble_eq_true rfl), (Nat.le_of_ble_eq_true rfl)⟩ ⟨(by show 7 + (n 0 + lb1.2.1 0 + i + lb1.2.1 1) + 0 ≤ 400; omega), (by show 43 + (11 * n 0 + 4 * lb1.2.1 0 + 4 * i + 4 * lb1.2.1 1) + 0 ≤ 2000; omega)⟩ hl.1 hS tfJ2.2.1 (cw.al1 hw) rfl (Nat.le_of_ble_eq_true rfl) (cw.al1 hw) (fun _ h => h.elim) dX2_copy_56 (fun rv9 H locs hQ hz9 hk9 hS => ?_)
          obtain ⟨rfl, rfl⟩ := hQ
          refine W.eq (g2 := F0 m 59 ls [.int (nI (n 1)), .int (nI i)]) rfl ?_
          refine lv_icmp_ge (tgt := 90) hx hb dX2_copy_59 (by decide) (fun h9 => absurd h9 (nI_ge hi_i hn.h1)) (fun _ => ?_)
          refine lv_aload_n hx hb dX2_copy_62 rfl (lv_at hl 1 rfl) ?_
          refine mget fx tfX2 (cw.w hwm) 1 (by decide) q122 (fun _ h => h) (v := .ref (lb1.1 0 2)) rfl dX2_copy_63 ?_
          refine lv_aload_n hx hb dX2_copy_66 rfl (lv_at hl 2 rfl) ?_
          refine mget fx tfX2 (cw.w hw) 1 (by decide) q122 (fun _ h => h) (v := .ref (la.1 0 2)) rfl dX2_copy_67 ?_
          refine lv_iload_n hx hb dX2_copy_70 rfl (lv_at hl 0 rfl) ?_
          refine kV fx (m_AL_get l g (la.1 0 2) (la.1 1 1) i (n 1) (la.2.1 1) (la.1 3 i) (la.2.2 1) (elF la.1 n 1) hi_i (cw.get hw (k := 1) (by decide) hi_i).2.1 (cw.get hw (k := 1) (by decide) hi_i).2.2.1 (cw.get hw (k := 1) (by decide) hi_i).2.2.2) (lw_V q262 q263 q264 q54 q265) hdJ2_get ⟨(Nat.le_of_ble_eq_true rfl), (Nat.le_of_ble_eq_true rfl)⟩ ⟨(by show 7 + (n 0 + lb1.2.1 0 + i + lb1.2.1 1) + 0 ≤ 400; omega), (by show 43 + (11 * n 0 + 4 * lb1.2.1 0 + 4 * i + 4 * lb1.2.1 1) + 0 ≤ 2000; omega)⟩ hl.1 hS tfJ2.2.1 (cw.al1 hw) rfl (Nat.le_of_ble_eq_true rfl) (⟨(cw.al1 hw), (cw.get hw (k := 1) (by decide) hi_i).1⟩) (fun _ h => h.elim) dX2_copy_71 (fun rv9 H locs hQ hz9 hk9 hS => ?_)
          obtain ⟨rfl, rfl⟩ := hQ
          refine W.eq (g2 := F0 m 74 ls [.ref (la.1 3 i), .ref (lb1.1 0 2)]) rfl ?_
          refine mcast fx tfX7 (cw.t hw hi_i) q467 dX2_copy_74 ?_
          have hSb := hS
          refine kV fx (m_T_copy l g (la.1 3 i) _ (tr i 0) (tr i 1) (tr i 2) (tr i 3) ) (lw_V q468 q469 q470 q71 q471) hdX7_copy ⟨(Nat.le_of_ble_eq_true rfl), (Nat.le_of_ble_eq_true rfl)⟩ ⟨(by show 7 + (n 0 + lb1.2.1 0 + i + lb1.2.1 1) + 1 ≤ 400; omega), (by show 43 + (11 * n 0 + 4 * lb1.2.1 0 + 4 * i + 4 * lb1.2.1 1) + 4 ≤ 2000; omega)⟩ hl.1 hS tfX7.2.1 (cw.t hw hi_i) rfl (Nat.le_of_ble_eq_true rfl) (⟨rfl, (cw.t hw hi_i)⟩) (fun q h => hAs q (Nat.le_trans hS.1 h)) dX2_copy_77 (fun rv9 H locs hQ hz9 hk9 hS => ?_)
          obtain ⟨an_15, rfl, hloan_15, hat⟩ := hQ
          have nin_17 : ∀ q, cF la n q → q ≠ an_15 := fun q h9 => Nat.ne_of_lt (Nat.lt_of_lt_of_le (hw.1.ftlt q h9) hloan_15)
          have nin_18 : ∀ q, cF lb1 (nA (n 0) i 0) q → q ≠ an_15 := fun q h9 => Nat.ne_of_lt (Nat.lt_of_lt_of_le (hwm.1.ftlt q h9) hloan_15)
          replace hw : cw g (bA g) la (sc, sw, ar, fd, tr, ld, n) H := cw.kept hw (fun q h9 _ => hk9 q h9 (Nat.not_le.mpr h9))
          replace hwm : cw g (fun q => sz ≤ q) lb1 (scI, 0, (fun _ _ => 0), cpF fd (n 0), cpT tr i, (fun _ _ => 0), (nA (n 0) i 0)) H := cw.kept hwm (fun q h9 _ => hk9 q h9 (Nat.not_le.mpr h9))
          have inan_15 := hAs an_15 (Nat.le_trans hSb.1 hloan_15)
          have hn_16 : mAt g an_15 (.inr (7, [.int (tr i 0), .int (tr i 1), .int (tr i 2), .int (tr i 3)])) H := hat
          refine W.eq (g2 := F0 m 80 ls [.ref an_15, .ref (lb1.1 0 2)]) rfl ?_
          obtain ⟨pa, pea, pe0, pnc, pc, pf, ped, pels, pfr, pcap⟩ := cw.addP1 hwm fx.2.2.2.2.2.1
          have hcp := newCap_le _ _ pnc pcap
          have hbk : ∀ q, fA (fun q => q = lb1.1 0 2 ∨ (lb1.2.1 1 ≠ 0 ∧ q = lb1.1 1 1)) H.size q → (fun q => sz ≤ q) q := fun q h9 => (pfr q h9).elim (hwm.1.ft q) (fun h8 => hAs q (Nat.le_trans hS.1 h8))
          have hSb := hS
          refine kV fx (m_AL_add l g (lb1.1 0 2) an_15 (lb1.1 1 1) ((nA (n 0) i 0) 1) (lb1.2.1 1) _ (lb1.2.2 1) (elF lb1.1 (nA (n 0) i 0) 1) pa pea pe0 (Ne.symm (nin_18 _ ⟨0, 2, (by show 2 < 7; decide), rfl⟩)) pnc pc pf) (lw_V q466 q356 q357 q54 q358) hdJ2_add ⟨(Nat.le_of_ble_eq_true rfl), (Nat.le_of_ble_eq_true rfl)⟩ ⟨(by have hnk : (nA (n 0) i 0) 1 = i := rfl; have := hcp.2.2.1; have := hcp.2.1; show 7 + (n 0 + lb1.2.1 0 + i + lb1.2.1 1) + 1 + (if (nA (n 0) i 0) 1 < lb1.2.1 1 then 0 else 1) ≤ 400; omega), (by have hnk : (nA (n 0) i 0) 1 = i := rfl; have := hcp.2.2.2.1; have := hcp.2.1; show 43 + (11 * n 0 + 4 * lb1.2.1 0 + 4 * i + 4 * lb1.2.1 1) + 4 + (if (nA (n 0) i 0) 1 < lb1.2.1 1 then 0 else newCap ((nA (n 0) i 0) 1) (lb1.2.1 1)) ≤ 2000; omega)⟩ hl.1 hS tfJ2.2.1 (cw.al1 hwm) rfl (Nat.le_of_ble_eq_true rfl) (⟨rfl, (cw.al1 hwm), ped, pels, mEl_T hn_16⟩) (fun q h9 => hbk q h9) dX2_copy_80 (fun rv9 H locs hQ hz9 hk9 hS => ?_)
          obtain ⟨ea9, rfl, he9, hl9, hea9⟩ := hQ
          have hw9 := cw.addT hwm (by show i < 2 ^ 20; omega) hn_16 nin_18 he9 hl9 hea9 hk9
          replace hw : cw g (bA g) la (sc, sw, ar, fd, tr, ld, n) H := cw.kept hw (fun q h9 hf9 => hk9 _ h9 (fun h8 => (pfr _ h8).elim (fun h7 => (apF hwlt hwm.1.ft) q q hf9 h7 rfl) (Nat.not_le.mpr h9)))
          obtain ⟨lc_19, hla⟩ : ∃ z, z = adA lb1 (nA (n 0) i 0) 1 ea9 an_15 := ⟨_, rfl⟩
          rw [← hla] at hw9
          have hft9 := hw9.1.ft
          have hbk2 : ∀ q, (fA (cF lb1 (nA (n 0) i 0)) _ q ∨ q = an_15) → (fun q => sz ≤ q) q := fun q h9 => h9.elim (fun h8 => h8.elim (hwm.1.ft q) (fun h7 => hAs q (Nat.le_trans hSb.1 h7))) (fun h8 => by rw [h8]; exact inan_15)
          replace hw9 := cw.weaken hw9 hbk2
          rw [nA_1] at hw9
          replace hwm : cw g (fun q => sz ≤ q) lc_19 (scI, 0, (fun _ _ => 0), cpF fd (n 0), va_up (cpT tr i) ((nA (n 0) i 0) 1) (ob4 (tr i 0) (tr i 1) (tr i 2) (tr i 3)), (fun _ _ => 0), (nA (n 0) (i + 1) 0)) H := hw9
          have hq0 : lc_19.2.1 0 = lb1.2.1 0 := by rw [hla]; rfl
          have hq1 : lc_19.2.1 1 = newCap ((nA (n 0) i 0) 1) (lb1.2.1 1) := by rw [hla]; rfl
          have hq2 : lc_19.2.1 2 = lb1.2.1 2 := by rw [hla]; rfl
          have h00 : lc_19.1 0 0 = lb1.1 0 0 := by rw [hla]; exact adA_0
          rw [← h00] at hl
          refine W.eq (g2 := F0 m 83 ls [.int 1]) rfl ?_
          refine lv_pop hx hb dX2_copy_83 rfl ?_
          refine lv_iinc (v := nI (i + 1)) (lv' := [(2, .int (nI (i + 1))), (1, .ref (lc_19.1 0 0)), (0, .ref (la.1 0 0))]) hx hb dX2_copy_84 hl (k := 0) rfl (nI_1 _) (by decide) rfl (fun ls hl => ?_)
          refine lv_goto (tgt := 51) hx hb dX2_copy_87 (by decide) ?_
          refine W.widen (k := 7 + (n 0 + lc_19.2.1 0 + (i + 1) + lc_19.2.1 1)) (n := 43 + (11 * n 0 + 4 * lc_19.2.1 0 + 4 * (i + 1) + 4 * lc_19.2.1 1)) (by omega) (by omega) ?_
          exact ih (i + 1) H locs ls _ (by omega) hS hw hwm (lv_sub hl [0, 1, 2] rfl)
      refine W.widen (k := 7 + (n 0 + lb0.2.1 0 + 0 + lb0.2.1 1)) (n := 43 + (11 * n 0 + 4 * lb0.2.1 0 + 4 * 0 + 4 * lb0.2.1 1)) (by omega) (by omega) ?_
      exact lp_6 (n 1 - 0) 0 H locs ls _ (by omega) hS hw hwm (lv_sub hl [0, 1, 2] rfl)
    | succ d_5 ih =>
      intro i H locs ls lb0 hid hS hw hwm hl
      have hi_i : i < n 0 := by omega
      have hcb0 : 2 * lb0.2.1 0 ≤ 20 + 3 * i := (hwm.2 0 (by decide)).2.2.2
      have hvi := hv.1 i hi_i
      refine lv_iload_n hx hb dX2_copy_10 rfl (lv_at hl 0 rfl) ?_
      refine lv_aload_n hx hb dX2_copy_11 rfl (lv_at hl 2 rfl) ?_
      refine mget fx tfX2 (cw.w hw) 0 (by decide) q120 (fun _ h => h) (v := .ref (la.1 0 1)) rfl dX2_copy_12 ?_
      refine kV fx (m_AL_size l g (la.1 0 1) (la.1 1 0) (la.2.2 0) (nI (n 0))) (lw_V q261 q254 q255 q54 q256) hdJ2_size ⟨(Nat.le_of_ble_eq_true rfl), (Nat.le_of_ble_eq_true rfl)⟩ ⟨(by show 7 + (i + lb0.2.1 0) + 0 ≤ 400; omega), (by show 43 + (11 * i + 4 * lb0.2.1 0) + 0 ≤ 2000; omega)⟩ hl.1 hS tfJ2.2.1 (cw.al0 hw) rfl (Nat.le_of_ble_eq_true rfl) (cw.al0 hw) (fun _ h => h.elim) dX2_copy_15 (fun rv9 H locs hQ hz9 hk9 hS => ?_)
      obtain ⟨rfl, rfl⟩ := hQ
      refine W.eq (g2 := F0 m 18 ls [.int (nI (n 0)), .int (nI i)]) rfl ?_
      refine lv_icmp_ge (tgt := 49) hx hb dX2_copy_18 (by decide) (fun h9 => absurd h9 (nI_ge hi_i hn.h0)) (fun _ => ?_)
      refine lv_aload_n hx hb dX2_copy_21 rfl (lv_at hl 1 rfl) ?_
      refine mget fx tfX2 (cw.w hwm) 0 (by decide) q120 (fun _ h => h) (v := .ref (lb0.1 0 1)) rfl dX2_copy_22 ?_
      refine lv_aload_n hx hb dX2_copy_25 rfl (lv_at hl 2 rfl) ?_
      refine mget fx tfX2 (cw.w hw) 0 (by decide) q120 (fun _ h => h) (v := .ref (la.1 0 1)) rfl dX2_copy_26 ?_
      refine lv_iload_n hx hb dX2_copy_29 rfl (lv_at hl 0 rfl) ?_
      refine kV fx (m_AL_get l g (la.1 0 1) (la.1 1 0) i (n 0) (la.2.1 0) (la.1 2 i) (la.2.2 0) (elF la.1 n 0) hi_i (cw.get hw (k := 0) (by decide) hi_i).2.1 (cw.get hw (k := 0) (by decide) hi_i).2.2.1 (cw.get hw (k := 0) (by decide) hi_i).2.2.2) (lw_V q262 q263 q264 q54 q265) hdJ2_get ⟨(Nat.le_of_ble_eq_true rfl), (Nat.le_of_ble_eq_true rfl)⟩ ⟨(by show 7 + (i + lb0.2.1 0) + 0 ≤ 400; omega), (by show 43 + (11 * i + 4 * lb0.2.1 0) + 0 ≤ 2000; omega)⟩ hl.1 hS tfJ2.2.1 (cw.al0 hw) rfl (Nat.le_of_ble_eq_true rfl) (⟨(cw.al0 hw), (cw.get hw (k := 0) (by decide) hi_i).1⟩) (fun _ h => h.elim) dX2_copy_30 (fun rv9 H locs hQ hz9 hk9 hS => ?_)
      obtain ⟨rfl, rfl⟩ := hQ
      refine W.eq (g2 := F0 m 33 ls [.ref (la.1 2 i), .ref (lb0.1 0 1)]) rfl ?_
      refine mcast fx tfX5 (cw.f hw hi_i) q422 dX2_copy_33 ?_
      have hSb := hS
      refine kV fx (m_F_copy l g (la.1 2 i) _ (fd i 0) (fd i 1) (fd i 2) (fd i 3) (fd i 4) (fd i 5) (fd i 6) (fd i 7) (fd i 8) (fd i 9) (fd i 10) hvi.2.1 hvi.2.2.1 hvi.2.2.2) (lw_V q465 q298 q299 q65 q300) hdX5_copy ⟨(Nat.le_of_ble_eq_true rfl), (Nat.le_of_ble_eq_true rfl)⟩ ⟨(by show 7 + (i + lb0.2.1 0) + 1 ≤ 400; omega), (by show 43 + (11 * i + 4 * lb0.2.1 0) + 11 ≤ 2000; omega)⟩ hl.1 hS tfX5.2.1 (cw.f hw hi_i) rfl (Nat.le_of_ble_eq_true rfl) (⟨rfl, (cw.f hw hi_i)⟩) (fun q h => hAs q (Nat.le_trans hS.1 h)) dX2_copy_36 (fun rv9 H locs hQ hz9 hk9 hS => ?_)
      obtain ⟨an_20, rfl, hloan_20, hat⟩ := hQ
      have nin_22 : ∀ q, cF la n q → q ≠ an_20 := fun q h9 => Nat.ne_of_lt (Nat.lt_of_lt_of_le (hw.1.ftlt q h9) hloan_20)
      have nin_23 : ∀ q, cF lb0 (nA i 0 0) q → q ≠ an_20 := fun q h9 => Nat.ne_of_lt (Nat.lt_of_lt_of_le (hwm.1.ftlt q h9) hloan_20)
      replace hw : cw g (bA g) la (sc, sw, ar, fd, tr, ld, n) H := cw.kept hw (fun q h9 _ => hk9 q h9 (Nat.not_le.mpr h9))
      replace hwm : cw g (fun q => sz ≤ q) lb0 (scI, 0, (fun _ _ => 0), cpF fd i, (fun _ _ => 0), (fun _ _ => 0), (nA i 0 0)) H := cw.kept hwm (fun q h9 _ => hk9 q h9 (Nat.not_le.mpr h9))
      have inan_20 := hAs an_20 (Nat.le_trans hSb.1 hloan_20)
      have hn_21 : mAt g an_20 (.inr (5, [.int (fd i 0), .int (fd i 1), .int (fd i 2), .int (fd i 3), .int (fd i 4), .int (fd i 5), .int (fd i 6), .int (fd i 7), .int (fd i 8), .int (fd i 9), .int (fd i 10)])) H := hat
      refine W.eq (g2 := F0 m 39 ls [.ref an_20, .ref (lb0.1 0 1)]) rfl ?_
      obtain ⟨pa, pea, pe0, pnc, pc, pf, ped, pels, pfr, pcap⟩ := cw.addP0 hwm fx.2.2.2.2.2.1
      have hcp := newCap_le _ _ pnc pcap
      have hbk : ∀ q, fA (fun q => q = lb0.1 0 1 ∨ (lb0.2.1 0 ≠ 0 ∧ q = lb0.1 1 0)) H.size q → (fun q => sz ≤ q) q := fun q h9 => (pfr q h9).elim (hwm.1.ft q) (fun h8 => hAs q (Nat.le_trans hS.1 h8))
      have hSb := hS
      refine kV fx (m_AL_add l g (lb0.1 0 1) an_20 (lb0.1 1 0) ((nA i 0 0) 0) (lb0.2.1 0) _ (lb0.2.2 0) (elF lb0.1 (nA i 0 0) 0) pa pea pe0 (Ne.symm (nin_23 _ ⟨0, 1, (by show 1 < 7; decide), rfl⟩)) pnc pc pf) (lw_V q466 q356 q357 q54 q358) hdJ2_add ⟨(Nat.le_of_ble_eq_true rfl), (Nat.le_of_ble_eq_true rfl)⟩ ⟨(by have hnk : (nA i 0 0) 0 = i := rfl; have := hcp.2.2.1; have := hcp.2.1; show 7 + (i + lb0.2.1 0) + 1 + (if (nA i 0 0) 0 < lb0.2.1 0 then 0 else 1) ≤ 400; omega), (by have hnk : (nA i 0 0) 0 = i := rfl; have := hcp.2.2.2.1; have := hcp.2.1; show 43 + (11 * i + 4 * lb0.2.1 0) + 11 + (if (nA i 0 0) 0 < lb0.2.1 0 then 0 else newCap ((nA i 0 0) 0) (lb0.2.1 0)) ≤ 2000; omega)⟩ hl.1 hS tfJ2.2.1 (cw.al0 hwm) rfl (Nat.le_of_ble_eq_true rfl) (⟨rfl, (cw.al0 hwm), ped, pels, mEl_F hn_21⟩) (fun q h9 => hbk q h9) dX2_copy_39 (fun rv9 H locs hQ hz9 hk9 hS => ?_)
      obtain ⟨ea9, rfl, he9, hl9, hea9⟩ := hQ
      have hw9 := cw.addF hwm (by show i < 2 ^ 20; omega) hn_21 nin_23 he9 hl9 hea9 hk9
      replace hw : cw g (bA g) la (sc, sw, ar, fd, tr, ld, n) H := cw.kept hw (fun q h9 hf9 => hk9 _ h9 (fun h8 => (pfr _ h8).elim (fun h7 => (apF hwlt hwm.1.ft) q q hf9 h7 rfl) (Nat.not_le.mpr h9)))
      obtain ⟨lc_24, hla⟩ : ∃ z, z = adA lb0 (nA i 0 0) 0 ea9 an_20 := ⟨_, rfl⟩
      rw [← hla] at hw9
      have hft9 := hw9.1.ft
      have hbk2 : ∀ q, (fA (cF lb0 (nA i 0 0)) _ q ∨ q = an_20) → (fun q => sz ≤ q) q := fun q h9 => h9.elim (fun h8 => h8.elim (hwm.1.ft q) (fun h7 => hAs q (Nat.le_trans hSb.1 h7))) (fun h8 => by rw [h8]; exact inan_20)
      replace hw9 := cw.weaken hw9 hbk2
      rw [nA_0] at hw9
      replace hwm : cw g (fun q => sz ≤ q) lc_24 (scI, 0, (fun _ _ => 0), va_up (cpF fd i) ((nA i 0 0) 0) (ob11 (fd i 0) (fd i 1) (fd i 2) (fd i 3) (fd i 4) (fd i 5) (fd i 6) (fd i 7) (fd i 8) (fd i 9) (fd i 10)), (fun _ _ => 0), (fun _ _ => 0), (nA (i + 1) 0 0)) H := hw9
      have hq0 : lc_24.2.1 0 = newCap ((nA i 0 0) 0) (lb0.2.1 0) := by rw [hla]; rfl
      have hq1 : lc_24.2.1 1 = lb0.2.1 1 := by rw [hla]; rfl
      have hq2 : lc_24.2.1 2 = lb0.2.1 2 := by rw [hla]; rfl
      have h00 : lc_24.1 0 0 = lb0.1 0 0 := by rw [hla]; exact adA_0
      rw [← h00] at hl
      refine W.eq (g2 := F0 m 42 ls [.int 1]) rfl ?_
      refine lv_pop hx hb dX2_copy_42 rfl ?_
      refine lv_iinc (v := nI (i + 1)) (lv' := [(2, .int (nI (i + 1))), (1, .ref (lc_24.1 0 0)), (0, .ref (la.1 0 0))]) hx hb dX2_copy_43 hl (k := 0) rfl (nI_1 _) (by decide) rfl (fun ls hl => ?_)
      refine lv_goto (tgt := 10) hx hb dX2_copy_46 (by decide) ?_
      refine W.widen (k := 7 + ((i + 1) + lc_24.2.1 0)) (n := 43 + (11 * (i + 1) + 4 * lc_24.2.1 0)) (by omega) (by omega) ?_
      exact ih (i + 1) H locs ls _ (by omega) hS hw hwm (lv_sub hl [0, 1, 2] rfl)
  refine W.widen (k := 7 + (0 + lb.2.1 0)) (n := 43 + (11 * 0 + 4 * lb.2.1 0)) (by omega) (by omega) ?_
  exact lp_4 (n 0 - 0) 0 H locs ls _ (by omega) hS hw hwm (lv_sub hl [0, 1, 2] rfl)

