/-! printed by tools/dec.py -/
set_option maxRecDepth 100000
theorem bX9_init_0 : ch_ck cX9_init 0 [42, 183, 0, 1, 42, 27, 181, 0, 7, 42, 28, 181, 0, 13, 177] := ch_ckof (by decide +kernel)
theorem dX9_init_0 : decode cX9_init 0 = .ok (.aload_n 0, 1) := dz_42 (bX9_init_0 0 _ rfl)
theorem dX9_init_1 : decode cX9_init 1 = .ok (.invokespecial 1, 3) := dz_183 (bX9_init_0 1 _ rfl) (bX9_init_0 2 _ rfl) (bX9_init_0 3 _ rfl)
theorem dX9_init_4 : decode cX9_init 4 = .ok (.aload_n 0, 1) := dz_42 (bX9_init_0 4 _ rfl)
theorem dX9_init_5 : decode cX9_init 5 = .ok (.iload_n 1, 1) := dz_27 (bX9_init_0 5 _ rfl)
theorem dX9_init_6 : decode cX9_init 6 = .ok (.putfield 7, 3) := dz_181 (bX9_init_0 6 _ rfl) (bX9_init_0 7 _ rfl) (bX9_init_0 8 _ rfl)
theorem dX9_init_9 : decode cX9_init 9 = .ok (.aload_n 0, 1) := dz_42 (bX9_init_0 9 _ rfl)
theorem dX9_init_10 : decode cX9_init 10 = .ok (.iload_n 2, 1) := dz_28 (bX9_init_0 10 _ rfl)
theorem dX9_init_11 : decode cX9_init 11 = .ok (.putfield 13, 3) := dz_181 (bX9_init_0 11 _ rfl) (bX9_init_0 12 _ rfl) (bX9_init_0 13 _ rfl)
theorem dX9_init_14 : decode cX9_init 14 = .ok (.return_, 1) := dz_177 (bX9_init_0 14 _ rfl)
def c_X9_init (t0 : Nat) (x1 : Int32) (x2 : Int32) (w : ch_W) : Option (ch_W) := (ch_pI w (some t0) 10 fX9_kind x1).bind fun w1 => (ch_pI w1 (some t0) 10 fX9_place x2).bind fun w2 => some (w2)
theorem s_X9_init {g : State} {t0 : Nat} {x1 : Int32} {x2 : Int32} {w : ch_W} {res : ch_W} {Q : Outcome → ch_W → Prop} (h : c_X9_init t0 x1 x2 w = some res) (hk : (ch_eV Q) res) : ch_CT g true yX9_init 2 [.ref t0, .int x1, .int x2] (w) Q := by
  unfold c_X9_init at h
  refine ch_ctL mX9_init (ls := [some (va_rf (some t0)), some (.int x1), some (.int x2)]) q871 rfl (ch_lyr (r := some t0) (ch_lyi (ch_lyi ch_ly0))) (Nat.le_of_ble_eq_true rfl) rfl ?_
  refine ch_aload_n 0 (some t0) dX9_init_0 rfl (ch_objInit (some t0) rfl dX9_init_1 q872 q234 q235 (Nat.le_of_ble_eq_true rfl) (Nat.le_of_ble_eq_true rfl) (ch_aload_n 0 (some t0) dX9_init_4 rfl (ch_iload_n 1 _ dX9_init_5 rfl (cp_pI (ci := 9) (k := 0) dX9_init_6 fl_X9_7 rfl rfl rfl h (fun w1 h => ?_)))))
  refine ch_aload_n 0 (some t0) dX9_init_9 rfl (ch_iload_n 2 _ dX9_init_10 rfl (cp_pI (ci := 9) (k := 1) dX9_init_11 fl_X9_13 rfl rfl rfl h (fun w2 h => ?_)))
  obtain rfl := Option.some.inj h
  exact ch_return dX9_init_14 rfl hk

theorem bX10_init_0 : ch_ck cX10_init 0 [42, 183, 0, 3, 42, 2, 181, 0, 9, 42, 27, 181, 0, 15, 42, 28] := ch_ckof (by decide +kernel)
theorem bX10_init_1 : ch_ck cX10_init 16 [181, 0, 18, 177] := ch_ckof (by decide +kernel)
theorem dX10_init_0 : decode cX10_init 0 = .ok (.aload_n 0, 1) := dz_42 (bX10_init_0 0 _ rfl)
theorem dX10_init_1 : decode cX10_init 1 = .ok (.invokespecial 3, 3) := dz_183 (bX10_init_0 1 _ rfl) (bX10_init_0 2 _ rfl) (bX10_init_0 3 _ rfl)
theorem dX10_init_4 : decode cX10_init 4 = .ok (.aload_n 0, 1) := dz_42 (bX10_init_0 4 _ rfl)
theorem dX10_init_5 : decode cX10_init 5 = .ok (.iconst (-1), 1) := dz_2 (bX10_init_0 5 _ rfl)
theorem dX10_init_6 : decode cX10_init 6 = .ok (.putfield 9, 3) := dz_181 (bX10_init_0 6 _ rfl) (bX10_init_0 7 _ rfl) (bX10_init_0 8 _ rfl)
theorem dX10_init_9 : decode cX10_init 9 = .ok (.aload_n 0, 1) := dz_42 (bX10_init_0 9 _ rfl)
theorem dX10_init_10 : decode cX10_init 10 = .ok (.iload_n 1, 1) := dz_27 (bX10_init_0 10 _ rfl)
theorem dX10_init_11 : decode cX10_init 11 = .ok (.putfield 15, 3) := dz_181 (bX10_init_0 11 _ rfl) (bX10_init_0 12 _ rfl) (bX10_init_0 13 _ rfl)
theorem dX10_init_14 : decode cX10_init 14 = .ok (.aload_n 0, 1) := dz_42 (bX10_init_0 14 _ rfl)
theorem dX10_init_15 : decode cX10_init 15 = .ok (.iload_n 2, 1) := dz_28 (bX10_init_0 15 _ rfl)
theorem dX10_init_16 : decode cX10_init 16 = .ok (.putfield 18, 3) := dz_181 (bX10_init_1 0 _ rfl) (bX10_init_1 1 _ rfl) (bX10_init_1 2 _ rfl)
theorem dX10_init_19 : decode cX10_init 19 = .ok (.return_, 1) := dz_177 (bX10_init_1 3 _ rfl)
def c_X10_init (t0 : Nat) (x1 : Int32) (x2 : Int32) (w : ch_W) : Option (ch_W) := (ch_pI w (some t0) 11 fX10_type (-1)).bind fun w1 => (ch_pI w1 (some t0) 11 fX10_kind x1).bind fun w2 => (ch_pI w2 (some t0) 11 fX10_what x2).bind fun w3 => some (w3)
theorem s_X10_init {g : State} {t0 : Nat} {x1 : Int32} {x2 : Int32} {w : ch_W} {res : ch_W} {Q : Outcome → ch_W → Prop} (h : c_X10_init t0 x1 x2 w = some res) (hk : (ch_eV Q) res) : ch_CT g true yX10_init 2 [.ref t0, .int x1, .int x2] (w) Q := by
  unfold c_X10_init at h
  refine ch_ctL mX10_init (ls := [some (va_rf (some t0)), some (.int x1), some (.int x2)]) q942 rfl (ch_lyr (r := some t0) (ch_lyi (ch_lyi ch_ly0))) (Nat.le_of_ble_eq_true rfl) rfl ?_
  refine ch_aload_n 0 (some t0) dX10_init_0 rfl (ch_objInit (some t0) rfl dX10_init_1 q943 q234 q235 (Nat.le_of_ble_eq_true rfl) (Nat.le_of_ble_eq_true rfl) (ch_aload_n 0 (some t0) dX10_init_4 rfl (ch_iconst _ (-1) dX10_init_5 rfl (cp_pI (ci := 10) (k := 5) dX10_init_6 fl_X10_9 rfl rfl rfl h (fun w1 h => ?_)))))
  refine ch_aload_n 0 (some t0) dX10_init_9 rfl (ch_iload_n 1 _ dX10_init_10 rfl (cp_pI (ci := 10) (k := 0) dX10_init_11 fl_X10_15 rfl rfl rfl h (fun w2 h => ?_)))
  refine ch_aload_n 0 (some t0) dX10_init_14 rfl (ch_iload_n 2 _ dX10_init_15 rfl (cp_pI (ci := 10) (k := 4) dX10_init_16 fl_X10_18 rfl rfl rfl h (fun w3 h => ?_)))
  obtain rfl := Option.some.inj h
  exact ch_return dX10_init_19 rfl hk

theorem bX4_joined_0 : ch_ck cX4_joined 0 [187, 0, 243, 89, 26, 27, 183, 1, 11, 58, 4, 25, 4, 44, 181, 1] := ch_ckof (by decide +kernel)
theorem bX4_joined_1 : ch_ck cX4_joined 16 [12, 25, 4, 45, 181, 1, 15, 25, 4, 176] := ch_ckof (by decide +kernel)
theorem dX4_joined_0 : decode cX4_joined 0 = .ok (.new 243, 3) := dz_187 (bX4_joined_0 0 _ rfl) (bX4_joined_0 1 _ rfl) (bX4_joined_0 2 _ rfl)
theorem dX4_joined_3 : decode cX4_joined 3 = .ok (.dup, 1) := dz_89 (bX4_joined_0 3 _ rfl)
theorem dX4_joined_4 : decode cX4_joined 4 = .ok (.iload_n 0, 1) := dz_26 (bX4_joined_0 4 _ rfl)
theorem dX4_joined_5 : decode cX4_joined 5 = .ok (.iload_n 1, 1) := dz_27 (bX4_joined_0 5 _ rfl)
theorem dX4_joined_6 : decode cX4_joined 6 = .ok (.invokespecial 267, 3) := dz_183 (bX4_joined_0 6 _ rfl) (bX4_joined_0 7 _ rfl) (bX4_joined_0 8 _ rfl)
theorem dX4_joined_9 : decode cX4_joined 9 = .ok (.astore 4, 2) := dz_58 (bX4_joined_0 9 _ rfl) (bX4_joined_0 10 _ rfl)
theorem dX4_joined_11 : decode cX4_joined 11 = .ok (.aload 4, 2) := dz_25 (bX4_joined_0 11 _ rfl) (bX4_joined_0 12 _ rfl)
theorem dX4_joined_13 : decode cX4_joined 13 = .ok (.aload_n 2, 1) := dz_44 (bX4_joined_0 13 _ rfl)
theorem dX4_joined_14 : decode cX4_joined 14 = .ok (.putfield 268, 3) := dz_181 (bX4_joined_0 14 _ rfl) (bX4_joined_0 15 _ rfl) (bX4_joined_1 0 _ rfl)
theorem dX4_joined_17 : decode cX4_joined 17 = .ok (.aload 4, 2) := dz_25 (bX4_joined_1 1 _ rfl) (bX4_joined_1 2 _ rfl)
theorem dX4_joined_19 : decode cX4_joined 19 = .ok (.aload_n 3, 1) := dz_45 (bX4_joined_1 3 _ rfl)
theorem dX4_joined_20 : decode cX4_joined 20 = .ok (.putfield 271, 3) := dz_181 (bX4_joined_1 4 _ rfl) (bX4_joined_1 5 _ rfl) (bX4_joined_1 6 _ rfl)
theorem dX4_joined_23 : decode cX4_joined 23 = .ok (.aload 4, 2) := dz_25 (bX4_joined_1 7 _ rfl) (bX4_joined_1 8 _ rfl)
theorem dX4_joined_25 : decode cX4_joined 25 = .ok (.areturn, 1) := dz_176 (bX4_joined_1 9 _ rfl)
def c_X4_joined (x0 : Int32) (x1 : Int32) (x2 : Option Nat) (x3 : Option Nat) (w : ch_W) : Option (Option Nat × ch_W) := (ch_nO w 11 6).bind fun w1 => (c_X10_init (ch_nx w) x0 x1 w1).bind fun p2 => (ch_pR p2 (some (ch_nx w)) 11 fX10_left x2).bind fun w4 => (ch_pR w4 (some (ch_nx w)) 11 fX10_right x3).bind fun w5 => some ((some (ch_nx w), w5))
theorem s_X4_joined {g : State} {x0 : Int32} {x1 : Int32} {x2 : Option Nat} {x3 : Option Nat} {w : ch_W} {res : Option Nat × ch_W} {Q : Outcome → ch_W → Prop} (h : c_X4_joined x0 x1 x2 x3 w = some res) (hk : (ch_eR Q) res) : ch_CT g true yX4_joined 3 [.int x0, .int x1, va_rf x2, va_rf x3] (w) Q := by
  unfold c_X4_joined at h
  refine ch_ctL mX4_joined (ls := [some (.int x0), some (.int x1), some (va_rf x2), some (va_rf x3), none]) q999 rfl (ch_lyi (ch_lyi (ch_lyr (r := x2) (ch_lyr (r := x3) ch_ly0)))) (Nat.le_of_ble_eq_true rfl) rfl ?_
  refine cp_new (ci := 10) (n := 6) (q := (RX10, TX10, 6)) dX4_joined_0 rfl q938 q939 q225 h (fun w1 h => ?_)
  obtain ⟨p2, hp3, h⟩ := ch_bd h
  refine ch_dup dX4_joined_3 (ch_cat _) (ch_iload_n 0 _ dX4_joined_4 rfl (ch_iload_n 1 _ dX4_joined_5 rfl (ch_ii yX10_init prog_12_method_1_code 3 (b := (ch_nx w)) (d' := 2) (av := [.int x0, .int x1]) (rest := [va_rf (some (ch_nx w))]) rfl dX4_joined_6 rfl q940 q941 q942 can_X10_init (Nat.le_of_ble_eq_true rfl) (ch_hw (Nat.le_of_ble_eq_true rfl)) (cp_kV (w1 := p2) (fun Q' hq => s_X10_init hp3 hq) ?_))))
  refine ch_astore 4 (some (ch_nx w)) (ls1 := [some (.int x0), some (.int x1), some (va_rf x2), some (va_rf x3), some (va_rf (some (ch_nx w)))]) dX4_joined_9 (Nat.le_of_ble_eq_true rfl) (ch_s1o rfl rfl) (ch_aload 4 (some (ch_nx w)) dX4_joined_11 rfl (ch_aload_n 2 x2 dX4_joined_13 rfl (cp_pR (ci := 10) (k := 1) dX4_joined_14 fl_X4_268 rfl rfl rfl h (fun w4 h => ?_))))
  refine ch_aload 4 (some (ch_nx w)) dX4_joined_17 rfl (ch_aload_n 3 x3 dX4_joined_19 rfl (cp_pR (ci := 10) (k := 2) dX4_joined_20 fl_X4_271 rfl rfl rfl h (fun w5 h => ?_)))
  obtain rfl := Option.some.inj h
  exact ch_aload 4 (some (ch_nx w)) dX4_joined_23 rfl (ch_areturn (some (ch_nx w)) dX4_joined_25 rfl (Or.inl ⟨_, rfl⟩) hk)

theorem bX4_simple_0 : ch_ck cX4_simple 0 [42, 42, 180, 0, 40, 5, 159, 0, 53, 42, 19, 1, 93, 182, 0, 76] := ch_ckof (by decide +kernel)
theorem bX4_simple_1 : ch_ck cX4_simple 16 [154, 0, 43, 42, 19, 1, 95, 182, 0, 76, 154, 0, 33, 42, 19, 1] := ch_ckof (by decide +kernel)
theorem bX4_simple_2 : ch_ck cX4_simple 32 [97, 182, 0, 76, 154, 0, 23, 42, 19, 1, 99, 182, 0, 76, 154, 0] := ch_ckof (by decide +kernel)
theorem bX4_simple_3 : ch_ck cX4_simple 48 [13, 42, 19, 1, 101, 182, 0, 76, 153, 0, 7, 4, 167, 0, 4, 3] := ch_ckof (by decide +kernel)
theorem bX4_simple_4 : ch_ck cX4_simple 64 [182, 0, 58, 42, 180, 0, 40, 5, 160, 0, 52, 3, 61, 42, 180, 0] := ch_ckof (by decide +kernel)
theorem bX4_simple_5 : ch_ck cX4_simple 80 [31, 62, 29, 42, 180, 0, 37, 162, 0, 24, 16, 10, 28, 104, 42, 180] := ch_ckof (by decide +kernel)
theorem bX4_simple_6 : ch_ck cX4_simple 96 [0, 21, 29, 51, 96, 16, 48, 100, 61, 132, 3, 1, 167, 255, 230, 187] := ch_ckof (by decide +kernel)
theorem bX4_simple_7 : ch_ck cX4_simple 112 [0, 243, 89, 3, 28, 183, 1, 11, 76, 167, 0, 94, 42, 19, 1, 93] := ch_ckof (by decide +kernel)
theorem bX4_simple_8 : ch_ck cX4_simple 128 [182, 0, 76, 154, 0, 13, 42, 19, 1, 95, 182, 0, 76, 153, 0, 36] := ch_ckof (by decide +kernel)
theorem bX4_simple_9 : ch_ck cX4_simple 144 [187, 0, 243, 89, 3, 42, 19, 1, 93, 182, 0, 76, 153, 0, 7, 4] := ch_ckof (by decide +kernel)
theorem bX4_simple_10 : ch_ck cX4_simple 160 [167, 0, 4, 3, 183, 1, 11, 76, 43, 16, 254, 181, 1, 103, 167, 0] := ch_ckof (by decide +kernel)
theorem bX4_simple_11 : ch_ck cX4_simple 176 [41, 187, 0, 243, 89, 42, 19, 1, 97, 182, 0, 76, 153, 0, 7, 4] := ch_ckof (by decide +kernel)
theorem bX4_simple_12 : ch_ck cX4_simple 192 [167, 0, 18, 42, 19, 1, 99, 182, 0, 76, 153, 0, 7, 5, 167, 0] := ch_ckof (by decide +kernel)
theorem bX4_simple_13 : ch_ck cX4_simple 208 [4, 6, 3, 183, 1, 11, 76, 42, 182, 0, 79, 43, 176] := ch_ckof (by decide +kernel)
theorem dX4_simple_0 : decode cX4_simple 0 = .ok (.aload_n 0, 1) := dz_42 (bX4_simple_0 0 _ rfl)
theorem dX4_simple_1 : decode cX4_simple 1 = .ok (.aload_n 0, 1) := dz_42 (bX4_simple_0 1 _ rfl)
theorem dX4_simple_2 : decode cX4_simple 2 = .ok (.getfield 40, 3) := dz_180 (bX4_simple_0 2 _ rfl) (bX4_simple_0 3 _ rfl) (bX4_simple_0 4 _ rfl)
theorem dX4_simple_5 : decode cX4_simple 5 = .ok (.iconst 2, 1) := dz_5 (bX4_simple_0 5 _ rfl)
theorem dX4_simple_6 : decode cX4_simple 6 = .ok (.if_icmp .eq 53, 3) := dz_159 (bX4_simple_0 6 _ rfl) (bX4_simple_0 7 _ rfl) (bX4_simple_0 8 _ rfl)
theorem dX4_simple_9 : decode cX4_simple 9 = .ok (.aload_n 0, 1) := dz_42 (bX4_simple_0 9 _ rfl)
theorem dX4_simple_10 : decode cX4_simple 10 = .ok (.ldc_w 349, 3) := dz_19 (bX4_simple_0 10 _ rfl) (bX4_simple_0 11 _ rfl) (bX4_simple_0 12 _ rfl)
theorem dX4_simple_13 : decode cX4_simple 13 = .ok (.invokevirtual 76, 3) := dz_182 (bX4_simple_0 13 _ rfl) (bX4_simple_0 14 _ rfl) (bX4_simple_0 15 _ rfl)
theorem dX4_simple_16 : decode cX4_simple 16 = .ok (.ifCond .ne 43, 3) := dz_154 (bX4_simple_1 0 _ rfl) (bX4_simple_1 1 _ rfl) (bX4_simple_1 2 _ rfl)
theorem dX4_simple_19 : decode cX4_simple 19 = .ok (.aload_n 0, 1) := dz_42 (bX4_simple_1 3 _ rfl)
theorem dX4_simple_20 : decode cX4_simple 20 = .ok (.ldc_w 351, 3) := dz_19 (bX4_simple_1 4 _ rfl) (bX4_simple_1 5 _ rfl) (bX4_simple_1 6 _ rfl)
theorem dX4_simple_23 : decode cX4_simple 23 = .ok (.invokevirtual 76, 3) := dz_182 (bX4_simple_1 7 _ rfl) (bX4_simple_1 8 _ rfl) (bX4_simple_1 9 _ rfl)
theorem dX4_simple_26 : decode cX4_simple 26 = .ok (.ifCond .ne 33, 3) := dz_154 (bX4_simple_1 10 _ rfl) (bX4_simple_1 11 _ rfl) (bX4_simple_1 12 _ rfl)
theorem dX4_simple_29 : decode cX4_simple 29 = .ok (.aload_n 0, 1) := dz_42 (bX4_simple_1 13 _ rfl)
theorem dX4_simple_30 : decode cX4_simple 30 = .ok (.ldc_w 353, 3) := dz_19 (bX4_simple_1 14 _ rfl) (bX4_simple_1 15 _ rfl) (bX4_simple_2 0 _ rfl)
theorem dX4_simple_33 : decode cX4_simple 33 = .ok (.invokevirtual 76, 3) := dz_182 (bX4_simple_2 1 _ rfl) (bX4_simple_2 2 _ rfl) (bX4_simple_2 3 _ rfl)
theorem dX4_simple_36 : decode cX4_simple 36 = .ok (.ifCond .ne 23, 3) := dz_154 (bX4_simple_2 4 _ rfl) (bX4_simple_2 5 _ rfl) (bX4_simple_2 6 _ rfl)
theorem dX4_simple_39 : decode cX4_simple 39 = .ok (.aload_n 0, 1) := dz_42 (bX4_simple_2 7 _ rfl)
theorem dX4_simple_40 : decode cX4_simple 40 = .ok (.ldc_w 355, 3) := dz_19 (bX4_simple_2 8 _ rfl) (bX4_simple_2 9 _ rfl) (bX4_simple_2 10 _ rfl)
theorem dX4_simple_43 : decode cX4_simple 43 = .ok (.invokevirtual 76, 3) := dz_182 (bX4_simple_2 11 _ rfl) (bX4_simple_2 12 _ rfl) (bX4_simple_2 13 _ rfl)
theorem dX4_simple_46 : decode cX4_simple 46 = .ok (.ifCond .ne 13, 3) := dz_154 (bX4_simple_2 14 _ rfl) (bX4_simple_2 15 _ rfl) (bX4_simple_3 0 _ rfl)
theorem dX4_simple_49 : decode cX4_simple 49 = .ok (.aload_n 0, 1) := dz_42 (bX4_simple_3 1 _ rfl)
theorem dX4_simple_50 : decode cX4_simple 50 = .ok (.ldc_w 357, 3) := dz_19 (bX4_simple_3 2 _ rfl) (bX4_simple_3 3 _ rfl) (bX4_simple_3 4 _ rfl)
theorem dX4_simple_53 : decode cX4_simple 53 = .ok (.invokevirtual 76, 3) := dz_182 (bX4_simple_3 5 _ rfl) (bX4_simple_3 6 _ rfl) (bX4_simple_3 7 _ rfl)
theorem dX4_simple_56 : decode cX4_simple 56 = .ok (.ifCond .eq 7, 3) := dz_153 (bX4_simple_3 8 _ rfl) (bX4_simple_3 9 _ rfl) (bX4_simple_3 10 _ rfl)
theorem dX4_simple_59 : decode cX4_simple 59 = .ok (.iconst 1, 1) := dz_4 (bX4_simple_3 11 _ rfl)
theorem dX4_simple_60 : decode cX4_simple 60 = .ok (.goto 4, 3) := dz_167 (bX4_simple_3 12 _ rfl) (bX4_simple_3 13 _ rfl) (bX4_simple_3 14 _ rfl)
theorem dX4_simple_63 : decode cX4_simple 63 = .ok (.iconst 0, 1) := dz_3 (bX4_simple_3 15 _ rfl)
theorem dX4_simple_64 : decode cX4_simple 64 = .ok (.invokevirtual 58, 3) := dz_182 (bX4_simple_4 0 _ rfl) (bX4_simple_4 1 _ rfl) (bX4_simple_4 2 _ rfl)
theorem dX4_simple_67 : decode cX4_simple 67 = .ok (.aload_n 0, 1) := dz_42 (bX4_simple_4 3 _ rfl)
theorem dX4_simple_68 : decode cX4_simple 68 = .ok (.getfield 40, 3) := dz_180 (bX4_simple_4 4 _ rfl) (bX4_simple_4 5 _ rfl) (bX4_simple_4 6 _ rfl)
theorem dX4_simple_71 : decode cX4_simple 71 = .ok (.iconst 2, 1) := dz_5 (bX4_simple_4 7 _ rfl)
theorem dX4_simple_72 : decode cX4_simple 72 = .ok (.if_icmp .ne 52, 3) := dz_160 (bX4_simple_4 8 _ rfl) (bX4_simple_4 9 _ rfl) (bX4_simple_4 10 _ rfl)
theorem dX4_simple_75 : decode cX4_simple 75 = .ok (.iconst 0, 1) := dz_3 (bX4_simple_4 11 _ rfl)
theorem dX4_simple_76 : decode cX4_simple 76 = .ok (.istore_n 2, 1) := dz_61 (bX4_simple_4 12 _ rfl)
theorem dX4_simple_77 : decode cX4_simple 77 = .ok (.aload_n 0, 1) := dz_42 (bX4_simple_4 13 _ rfl)
theorem dX4_simple_78 : decode cX4_simple 78 = .ok (.getfield 31, 3) := dz_180 (bX4_simple_4 14 _ rfl) (bX4_simple_4 15 _ rfl) (bX4_simple_5 0 _ rfl)
theorem dX4_simple_81 : decode cX4_simple 81 = .ok (.istore_n 3, 1) := dz_62 (bX4_simple_5 1 _ rfl)
theorem dX4_simple_82 : decode cX4_simple 82 = .ok (.iload_n 3, 1) := dz_29 (bX4_simple_5 2 _ rfl)
theorem dX4_simple_83 : decode cX4_simple 83 = .ok (.aload_n 0, 1) := dz_42 (bX4_simple_5 3 _ rfl)
theorem dX4_simple_84 : decode cX4_simple 84 = .ok (.getfield 37, 3) := dz_180 (bX4_simple_5 4 _ rfl) (bX4_simple_5 5 _ rfl) (bX4_simple_5 6 _ rfl)
theorem dX4_simple_87 : decode cX4_simple 87 = .ok (.if_icmp .ge 24, 3) := dz_162 (bX4_simple_5 7 _ rfl) (bX4_simple_5 8 _ rfl) (bX4_simple_5 9 _ rfl)
theorem dX4_simple_90 : decode cX4_simple 90 = .ok (.bipush 10, 2) := dz_16 (bX4_simple_5 10 _ rfl) (bX4_simple_5 11 _ rfl)
theorem dX4_simple_92 : decode cX4_simple 92 = .ok (.iload_n 2, 1) := dz_28 (bX4_simple_5 12 _ rfl)
theorem dX4_simple_93 : decode cX4_simple 93 = .ok (.imul, 1) := dz_104 (bX4_simple_5 13 _ rfl)
theorem dX4_simple_94 : decode cX4_simple 94 = .ok (.aload_n 0, 1) := dz_42 (bX4_simple_5 14 _ rfl)
theorem dX4_simple_95 : decode cX4_simple 95 = .ok (.getfield 21, 3) := dz_180 (bX4_simple_5 15 _ rfl) (bX4_simple_6 0 _ rfl) (bX4_simple_6 1 _ rfl)
theorem dX4_simple_98 : decode cX4_simple 98 = .ok (.iload_n 3, 1) := dz_29 (bX4_simple_6 2 _ rfl)
theorem dX4_simple_99 : decode cX4_simple 99 = .ok (.baload, 1) := dz_51 (bX4_simple_6 3 _ rfl)
theorem dX4_simple_100 : decode cX4_simple 100 = .ok (.iadd, 1) := dz_96 (bX4_simple_6 4 _ rfl)
theorem dX4_simple_101 : decode cX4_simple 101 = .ok (.bipush 48, 2) := dz_16 (bX4_simple_6 5 _ rfl) (bX4_simple_6 6 _ rfl)
theorem dX4_simple_103 : decode cX4_simple 103 = .ok (.isub, 1) := dz_100 (bX4_simple_6 7 _ rfl)
theorem dX4_simple_104 : decode cX4_simple 104 = .ok (.istore_n 2, 1) := dz_61 (bX4_simple_6 8 _ rfl)
theorem dX4_simple_105 : decode cX4_simple 105 = .ok (.iinc 3 1, 3) := dz_132 (bX4_simple_6 9 _ rfl) (bX4_simple_6 10 _ rfl) (bX4_simple_6 11 _ rfl)
theorem dX4_simple_108 : decode cX4_simple 108 = .ok (.goto (-26), 3) := dz_167 (bX4_simple_6 12 _ rfl) (bX4_simple_6 13 _ rfl) (bX4_simple_6 14 _ rfl)
theorem dX4_simple_111 : decode cX4_simple 111 = .ok (.new 243, 3) := dz_187 (bX4_simple_6 15 _ rfl) (bX4_simple_7 0 _ rfl) (bX4_simple_7 1 _ rfl)
theorem dX4_simple_114 : decode cX4_simple 114 = .ok (.dup, 1) := dz_89 (bX4_simple_7 2 _ rfl)
theorem dX4_simple_115 : decode cX4_simple 115 = .ok (.iconst 0, 1) := dz_3 (bX4_simple_7 3 _ rfl)
theorem dX4_simple_116 : decode cX4_simple 116 = .ok (.iload_n 2, 1) := dz_28 (bX4_simple_7 4 _ rfl)
theorem dX4_simple_117 : decode cX4_simple 117 = .ok (.invokespecial 267, 3) := dz_183 (bX4_simple_7 5 _ rfl) (bX4_simple_7 6 _ rfl) (bX4_simple_7 7 _ rfl)
theorem dX4_simple_120 : decode cX4_simple 120 = .ok (.astore_n 1, 1) := dz_76 (bX4_simple_7 8 _ rfl)
theorem dX4_simple_121 : decode cX4_simple 121 = .ok (.goto 94, 3) := dz_167 (bX4_simple_7 9 _ rfl) (bX4_simple_7 10 _ rfl) (bX4_simple_7 11 _ rfl)
theorem dX4_simple_124 : decode cX4_simple 124 = .ok (.aload_n 0, 1) := dz_42 (bX4_simple_7 12 _ rfl)
theorem dX4_simple_125 : decode cX4_simple 125 = .ok (.ldc_w 349, 3) := dz_19 (bX4_simple_7 13 _ rfl) (bX4_simple_7 14 _ rfl) (bX4_simple_7 15 _ rfl)
theorem dX4_simple_128 : decode cX4_simple 128 = .ok (.invokevirtual 76, 3) := dz_182 (bX4_simple_8 0 _ rfl) (bX4_simple_8 1 _ rfl) (bX4_simple_8 2 _ rfl)
theorem dX4_simple_131 : decode cX4_simple 131 = .ok (.ifCond .ne 13, 3) := dz_154 (bX4_simple_8 3 _ rfl) (bX4_simple_8 4 _ rfl) (bX4_simple_8 5 _ rfl)
theorem dX4_simple_134 : decode cX4_simple 134 = .ok (.aload_n 0, 1) := dz_42 (bX4_simple_8 6 _ rfl)
theorem dX4_simple_135 : decode cX4_simple 135 = .ok (.ldc_w 351, 3) := dz_19 (bX4_simple_8 7 _ rfl) (bX4_simple_8 8 _ rfl) (bX4_simple_8 9 _ rfl)
theorem dX4_simple_138 : decode cX4_simple 138 = .ok (.invokevirtual 76, 3) := dz_182 (bX4_simple_8 10 _ rfl) (bX4_simple_8 11 _ rfl) (bX4_simple_8 12 _ rfl)
theorem dX4_simple_141 : decode cX4_simple 141 = .ok (.ifCond .eq 36, 3) := dz_153 (bX4_simple_8 13 _ rfl) (bX4_simple_8 14 _ rfl) (bX4_simple_8 15 _ rfl)
theorem dX4_simple_144 : decode cX4_simple 144 = .ok (.new 243, 3) := dz_187 (bX4_simple_9 0 _ rfl) (bX4_simple_9 1 _ rfl) (bX4_simple_9 2 _ rfl)
theorem dX4_simple_147 : decode cX4_simple 147 = .ok (.dup, 1) := dz_89 (bX4_simple_9 3 _ rfl)
theorem dX4_simple_148 : decode cX4_simple 148 = .ok (.iconst 0, 1) := dz_3 (bX4_simple_9 4 _ rfl)
theorem dX4_simple_149 : decode cX4_simple 149 = .ok (.aload_n 0, 1) := dz_42 (bX4_simple_9 5 _ rfl)
theorem dX4_simple_150 : decode cX4_simple 150 = .ok (.ldc_w 349, 3) := dz_19 (bX4_simple_9 6 _ rfl) (bX4_simple_9 7 _ rfl) (bX4_simple_9 8 _ rfl)
theorem dX4_simple_153 : decode cX4_simple 153 = .ok (.invokevirtual 76, 3) := dz_182 (bX4_simple_9 9 _ rfl) (bX4_simple_9 10 _ rfl) (bX4_simple_9 11 _ rfl)
theorem dX4_simple_156 : decode cX4_simple 156 = .ok (.ifCond .eq 7, 3) := dz_153 (bX4_simple_9 12 _ rfl) (bX4_simple_9 13 _ rfl) (bX4_simple_9 14 _ rfl)
theorem dX4_simple_159 : decode cX4_simple 159 = .ok (.iconst 1, 1) := dz_4 (bX4_simple_9 15 _ rfl)
theorem dX4_simple_160 : decode cX4_simple 160 = .ok (.goto 4, 3) := dz_167 (bX4_simple_10 0 _ rfl) (bX4_simple_10 1 _ rfl) (bX4_simple_10 2 _ rfl)
theorem dX4_simple_163 : decode cX4_simple 163 = .ok (.iconst 0, 1) := dz_3 (bX4_simple_10 3 _ rfl)
theorem dX4_simple_164 : decode cX4_simple 164 = .ok (.invokespecial 267, 3) := dz_183 (bX4_simple_10 4 _ rfl) (bX4_simple_10 5 _ rfl) (bX4_simple_10 6 _ rfl)
theorem dX4_simple_167 : decode cX4_simple 167 = .ok (.astore_n 1, 1) := dz_76 (bX4_simple_10 7 _ rfl)
theorem dX4_simple_168 : decode cX4_simple 168 = .ok (.aload_n 1, 1) := dz_43 (bX4_simple_10 8 _ rfl)
theorem dX4_simple_169 : decode cX4_simple 169 = .ok (.bipush (-2), 2) := dz_16 (bX4_simple_10 9 _ rfl) (bX4_simple_10 10 _ rfl)
theorem dX4_simple_171 : decode cX4_simple 171 = .ok (.putfield 359, 3) := dz_181 (bX4_simple_10 11 _ rfl) (bX4_simple_10 12 _ rfl) (bX4_simple_10 13 _ rfl)
theorem dX4_simple_174 : decode cX4_simple 174 = .ok (.goto 41, 3) := dz_167 (bX4_simple_10 14 _ rfl) (bX4_simple_10 15 _ rfl) (bX4_simple_11 0 _ rfl)
theorem dX4_simple_177 : decode cX4_simple 177 = .ok (.new 243, 3) := dz_187 (bX4_simple_11 1 _ rfl) (bX4_simple_11 2 _ rfl) (bX4_simple_11 3 _ rfl)
theorem dX4_simple_180 : decode cX4_simple 180 = .ok (.dup, 1) := dz_89 (bX4_simple_11 4 _ rfl)
theorem dX4_simple_181 : decode cX4_simple 181 = .ok (.aload_n 0, 1) := dz_42 (bX4_simple_11 5 _ rfl)
theorem dX4_simple_182 : decode cX4_simple 182 = .ok (.ldc_w 353, 3) := dz_19 (bX4_simple_11 6 _ rfl) (bX4_simple_11 7 _ rfl) (bX4_simple_11 8 _ rfl)
theorem dX4_simple_185 : decode cX4_simple 185 = .ok (.invokevirtual 76, 3) := dz_182 (bX4_simple_11 9 _ rfl) (bX4_simple_11 10 _ rfl) (bX4_simple_11 11 _ rfl)
theorem dX4_simple_188 : decode cX4_simple 188 = .ok (.ifCond .eq 7, 3) := dz_153 (bX4_simple_11 12 _ rfl) (bX4_simple_11 13 _ rfl) (bX4_simple_11 14 _ rfl)
theorem dX4_simple_191 : decode cX4_simple 191 = .ok (.iconst 1, 1) := dz_4 (bX4_simple_11 15 _ rfl)
theorem dX4_simple_192 : decode cX4_simple 192 = .ok (.goto 18, 3) := dz_167 (bX4_simple_12 0 _ rfl) (bX4_simple_12 1 _ rfl) (bX4_simple_12 2 _ rfl)
theorem dX4_simple_195 : decode cX4_simple 195 = .ok (.aload_n 0, 1) := dz_42 (bX4_simple_12 3 _ rfl)
theorem dX4_simple_196 : decode cX4_simple 196 = .ok (.ldc_w 355, 3) := dz_19 (bX4_simple_12 4 _ rfl) (bX4_simple_12 5 _ rfl) (bX4_simple_12 6 _ rfl)
theorem dX4_simple_199 : decode cX4_simple 199 = .ok (.invokevirtual 76, 3) := dz_182 (bX4_simple_12 7 _ rfl) (bX4_simple_12 8 _ rfl) (bX4_simple_12 9 _ rfl)
theorem dX4_simple_202 : decode cX4_simple 202 = .ok (.ifCond .eq 7, 3) := dz_153 (bX4_simple_12 10 _ rfl) (bX4_simple_12 11 _ rfl) (bX4_simple_12 12 _ rfl)
theorem dX4_simple_205 : decode cX4_simple 205 = .ok (.iconst 2, 1) := dz_5 (bX4_simple_12 13 _ rfl)
theorem dX4_simple_206 : decode cX4_simple 206 = .ok (.goto 4, 3) := dz_167 (bX4_simple_12 14 _ rfl) (bX4_simple_12 15 _ rfl) (bX4_simple_13 0 _ rfl)
theorem dX4_simple_209 : decode cX4_simple 209 = .ok (.iconst 3, 1) := dz_6 (bX4_simple_13 1 _ rfl)
theorem dX4_simple_210 : decode cX4_simple 210 = .ok (.iconst 0, 1) := dz_3 (bX4_simple_13 2 _ rfl)
theorem dX4_simple_211 : decode cX4_simple 211 = .ok (.invokespecial 267, 3) := dz_183 (bX4_simple_13 3 _ rfl) (bX4_simple_13 4 _ rfl) (bX4_simple_13 5 _ rfl)
theorem dX4_simple_214 : decode cX4_simple 214 = .ok (.astore_n 1, 1) := dz_76 (bX4_simple_13 6 _ rfl)
theorem dX4_simple_215 : decode cX4_simple 215 = .ok (.aload_n 0, 1) := dz_42 (bX4_simple_13 7 _ rfl)
theorem dX4_simple_216 : decode cX4_simple 216 = .ok (.invokevirtual 79, 3) := dz_182 (bX4_simple_13 8 _ rfl) (bX4_simple_13 9 _ rfl) (bX4_simple_13 10 _ rfl)
theorem dX4_simple_219 : decode cX4_simple 219 = .ok (.aload_n 1, 1) := dz_43 (bX4_simple_13 11 _ rfl)
theorem dX4_simple_220 : decode cX4_simple 220 = .ok (.areturn, 1) := dz_176 (bX4_simple_13 12 _ rfl)
def c_X4_simple_215 (g : State) (t0 : Nat) (x1 : Option Nat)  (w : ch_W) : Option (Except Nat (Option Nat) × ch_W) := (ch_rc w (some t0) 5).bind fun _ => ch_tb (c_X4_next g t0 w) (fun a w => (.error a, w)) fun _ w3 => some ((.ok x1, w3))
theorem s_X4_simple_215 {g : State} {t0 : Nat} {x1 : Option Nat} {w : ch_W} {res : Except Nat (Option Nat) × ch_W} {Q : Outcome → ch_W → Prop} (h : c_X4_simple_215 g t0 x1 w = some res) (hk : (ch_xR Q) res) : ch_FT g true mX4_simple 10 215 [some (va_rf (some t0)), some (va_rf x1), none, none] [] (w) Q := by
  unfold c_X4_simple_215 at h
  obtain ⟨_, hb1, h⟩ := ch_bd h
  refine ch_aload_n 0 (some t0) dX4_simple_215 rfl (ch_iv yX4_next prog_7_method_5_code 3 none (ci := 4) (q := (RX4, TX4, 9)) (b := t0) (d' := 9) (av := []) (rest := []) rfl dX4_simple_216 q497 q499 rfl qs2 q500 can_X4_next (Nat.le_of_ble_eq_true rfl) (Nat.le_of_ble_eq_true rfl) (ch_rts hb1) (cp_tV h (fun p hp Q' hq => s_X4_next hp hq) (fun w3 h => ?_) (fun a w1 h => ?_)))
  · obtain rfl := Option.some.inj h
    exact ch_aload_n 1 x1 dX4_simple_219 rfl (ch_areturn x1 dX4_simple_220 rfl (Or.inl ⟨_, rfl⟩) hk)
  · subst h
    exact ch_th rfl hk

def c_X4_simple_164 (g : State) (t0 : Nat)  (y0 : Int32) (y1 : Int32) (y2 : Nat) (y3 : Nat) (w : ch_W) : Option (Except Nat (Option Nat) × ch_W) := (c_X10_init y2 y1 y0 w).bind fun p1 => (ch_pI p1 (some y3) 11 fX10_type (-2)).bind fun w3 => c_X4_simple_215 g t0 (some y3) w3
theorem s_X4_simple_164 {g : State} {t0 : Nat} {y0 : Int32} {y1 : Int32} {y2 : Nat} {y3 : Nat} {w : ch_W} {res : Except Nat (Option Nat) × ch_W} {Q : Outcome → ch_W → Prop} (h : c_X4_simple_164 g t0 y0 y1 y2 y3 w = some res) (hk : (ch_xR Q) res) : ch_FT g true mX4_simple 10 164 [some (va_rf (some t0)), none, none, none] [.int y0, .int y1, va_rf (some y2), va_rf (some y3)] (w) Q := by
  unfold c_X4_simple_164 at h
  obtain ⟨p1, hp2, h⟩ := ch_bd h
  refine ch_ii yX10_init prog_12_method_1_code 3 (b := y2) (d' := 2) (av := [.int y1, .int y0]) (rest := [va_rf (some y3)]) rfl dX4_simple_164 rfl q940 q941 q942 can_X10_init (Nat.le_of_ble_eq_true rfl) (ch_hw (Nat.le_of_ble_eq_true rfl)) (cp_kV (w1 := p1) (fun Q' hq => s_X10_init hp2 hq) ?_)
  refine ch_astore_n 1 (some y3) (ls1 := [some (va_rf (some t0)), some (va_rf (some y3)), none, none]) dX4_simple_167 (Nat.le_of_ble_eq_true rfl) rfl (ch_aload_n 1 (some y3) dX4_simple_168 rfl (ch_bipush _ (-2) dX4_simple_169 rfl (cp_pI (ci := 10) (k := 5) dX4_simple_171 fl_X4_359 rfl rfl rfl h (fun w3 h => ?_))))
  exact ch_goto 215 dX4_simple_174 rfl (ch_FT.wk (ch_wS (ch_wS (ch_wN (ch_wN ch_w0)))) (s_X4_simple_215  h hk))

def c_X4_simple_144 (g : State) (t0 : Nat)   (w : ch_W) : Option (Except Nat (Option Nat) × ch_W) := (ch_nO w 11 6).bind fun w1 => (ch_rc w1 (some t0) 5).bind fun _ => (c_X4_isThe g t0 (some (ch_sa g RX4 349)) w1).bind fun v3 => if v3 = 0 then (c_X4_simple_164 g t0 0 0 (ch_nx w) (ch_nx w) w1) else (c_X4_simple_164 g t0 1 0 (ch_nx w) (ch_nx w) w1)
theorem s_X4_simple_144 {g : State} {t0 : Nat} {w : ch_W} {res : Except Nat (Option Nat) × ch_W} {Q : Outcome → ch_W → Prop} (h : c_X4_simple_144 g t0 w = some res) (hk : (ch_xR Q) res) : ch_FT g true mX4_simple 10 144 [some (va_rf (some t0)), none, none, none] [] (w) Q := by
  unfold c_X4_simple_144 at h
  refine cp_new (ci := 10) (n := 6) (q := (RX10, TX10, 6)) dX4_simple_144 rfl q938 q939 q225 h (fun w1 h => ?_)
  obtain ⟨_, hb2, h⟩ := ch_bd h
  obtain ⟨v3, hp4, h⟩ := ch_bd h
  refine ch_dup dX4_simple_147 (ch_cat _) (ch_iconst _ 0 dX4_simple_148 rfl (ch_aload_n 0 (some t0) dX4_simple_149 rfl (ch_ldcSw q991 dX4_simple_150 (ch_iv yX4_isThe prog_7_method_8_code 2 (some .boolean) (ci := 4) (q := (RX4, TX4, 9)) (b := t0) (d' := 7) (av := [va_rf (some (ch_sa g RX4 349))]) (rest := [.int 0, va_rf (some (ch_nx w)), va_rf (some (ch_nx w))]) rfl dX4_simple_153 q593 q595 rfl qs7 q596 can_X4_isThe (Nat.le_of_ble_eq_true rfl) (ch_hw (Nat.le_of_ble_eq_true rfl)) (ch_rts hb2) (cp_kI (v := v3) (w1 := w1) (fun Q' hq => s_X4_isThe hp4 hq) ?_)))))
  refine cp_if_eq _ (tgt := 163) dX4_simple_156 rfl h (fun h => ?_) (fun h => ?_)
  · exact ch_iconst _ 0 dX4_simple_163 rfl (ch_FT.wk (ch_wS (ch_wN (ch_wN (ch_wN ch_w0)))) (s_X4_simple_164  h hk))
  · exact ch_iconst _ 1 dX4_simple_159 rfl (ch_goto 164 dX4_simple_160 rfl (ch_FT.wk (ch_wS (ch_wN (ch_wN (ch_wN ch_w0)))) (s_X4_simple_164  h hk)))

def c_X4_simple_210 (g : State) (t0 : Nat)  (y0 : Int32) (y1 : Nat) (y2 : Nat) (w : ch_W) : Option (Except Nat (Option Nat) × ch_W) := (c_X10_init y1 y0 0 w).bind fun p1 => c_X4_simple_215 g t0 (some y2) p1
theorem s_X4_simple_210 {g : State} {t0 : Nat} {y0 : Int32} {y1 : Nat} {y2 : Nat} {w : ch_W} {res : Except Nat (Option Nat) × ch_W} {Q : Outcome → ch_W → Prop} (h : c_X4_simple_210 g t0 y0 y1 y2 w = some res) (hk : (ch_xR Q) res) : ch_FT g true mX4_simple 10 210 [some (va_rf (some t0)), none, none, none] [.int y0, va_rf (some y1), va_rf (some y2)] (w) Q := by
  unfold c_X4_simple_210 at h
  obtain ⟨p1, hp2, h⟩ := ch_bd h
  refine ch_iconst _ 0 dX4_simple_210 rfl (ch_ii yX10_init prog_12_method_1_code 3 (b := y1) (d' := 2) (av := [.int y0, .int 0]) (rest := [va_rf (some y2)]) rfl dX4_simple_211 rfl q940 q941 q942 can_X10_init (Nat.le_of_ble_eq_true rfl) (ch_hw (Nat.le_of_ble_eq_true rfl)) (cp_kV (w1 := p1) (fun Q' hq => s_X10_init hp2 hq) ?_))
  exact ch_astore_n 1 (some y2) (ls1 := [some (va_rf (some t0)), some (va_rf (some y2)), none, none]) dX4_simple_214 (Nat.le_of_ble_eq_true rfl) rfl (ch_FT.wk (ch_wS (ch_wS (ch_wN (ch_wN ch_w0)))) (s_X4_simple_215  h hk))

def c_X4_simple_82 (g : State) (t0 : Nat) (x2 : Int32) (x3 : Int32)  (w : ch_W) : Option ((Int32 × Int32) ⊕ (Except Nat (Option Nat) × ch_W)) := (ch_gI w (some t0) 5 fX4_to).bind fun v1 => if x3 < v1 then ((ch_gR w (some t0) 5 fX4_s).bind fun v5 => (ch_lI w v5 22 x3).bind fun v6 => some (.inl (((10 * x2) + v6) - 48, x3 + 1))) else ((ch_nO w 11 6).bind fun w2 => (c_X10_init (ch_nx w) 0 x2 w2).bind fun p3 => (c_X4_simple_215 g t0 (some (ch_nx w)) p3).bind fun r => some (.inr (r)))
theorem s_X4_simple_82 {g : State} {t0 : Nat} {x2 : Int32} {x3 : Int32} {w : ch_W} {res : (Int32 × Int32) ⊕ (Except Nat (Option Nat) × ch_W)} {Q : Outcome → ch_W → Prop} (h : c_X4_simple_82 g t0 x2 x3 w = some res) (hk : (ch_sm (fun s => ch_FT g true mX4_simple 10 82 [some (va_rf (some t0)), none, some (.int s.1), some (.int s.2)] [] (w) Q) (ch_xR Q)) res) : ch_FT g true mX4_simple 10 82 [some (va_rf (some t0)), none, some (.int x2), some (.int x3)] [] (w) Q := by
  unfold c_X4_simple_82 at h
  refine ch_iload_n 3 _ dX4_simple_82 rfl (ch_aload_n 0 (some t0) dX4_simple_83 rfl (cp_gI (ci := 4) (k := 4) dX4_simple_84 fl_X4_37 rfl h (fun v1 h => ?_)))
  refine cp_icmp_ge _ _ (tgt := 111) dX4_simple_87 rfl h (fun h => ?_) (fun h => ?_)
  · refine cp_new (ci := 10) (n := 6) (q := (RX10, TX10, 6)) dX4_simple_111 rfl q938 q939 q225 h (fun w2 h => ?_)
    obtain ⟨p3, hp4, h⟩ := ch_bd h
    refine ch_dup dX4_simple_114 (ch_cat _) (ch_iconst _ 0 dX4_simple_115 rfl (ch_iload_n 2 _ dX4_simple_116 rfl (ch_ii yX10_init prog_12_method_1_code 3 (b := (ch_nx w)) (d' := 2) (av := [.int 0, .int x2]) (rest := [va_rf (some (ch_nx w))]) rfl dX4_simple_117 rfl q940 q941 q942 can_X10_init (Nat.le_of_ble_eq_true rfl) (ch_hw (Nat.le_of_ble_eq_true rfl)) (cp_kV (w1 := p3) (fun Q' hq => s_X10_init hp4 hq) ?_))))
    obtain ⟨r, hr, h⟩ := ch_bd h
    obtain rfl := Option.some.inj h
    exact ch_astore_n 1 (some (ch_nx w)) (ls1 := [some (va_rf (some t0)), some (va_rf (some (ch_nx w))), some (.int x2), some (.int x3)]) dX4_simple_120 (Nat.le_of_ble_eq_true rfl) rfl (ch_goto 215 dX4_simple_121 rfl (ch_FT.wk (ch_wS (ch_wS (ch_wN (ch_wN ch_w0)))) (s_X4_simple_215  hr hk)))
  · refine ch_bipush _ 10 dX4_simple_90 rfl (ch_iload_n 2 _ dX4_simple_92 rfl (ch_imul _ _ dX4_simple_93 (ch_aload_n 0 (some t0) dX4_simple_94 rfl (cp_gR (ci := 4) (k := 0) dX4_simple_95 fl_X4_21 rfl h (fun v5 h => ?_)))))
    refine ch_iload_n 3 _ dX4_simple_98 rfl (cp_bald (t := 22) dX4_simple_99 rfl rfl h (fun v6 h => ?_))
    refine ch_iadd _ _ dX4_simple_100 (ch_bipush _ 48 dX4_simple_101 rfl (ch_isub _ _ dX4_simple_103 (ch_istore_n 2 _ (ls1 := [some (va_rf (some t0)), none, some (.int (((10 * x2) + v6) - 48)), some (.int x3)]) dX4_simple_104 (Nat.le_of_ble_eq_true rfl) rfl (ch_iinc 3 _ _ (x3 + 1) (ls1 := [some (va_rf (some t0)), none, some (.int (((10 * x2) + v6) - 48)), some (.int (x3 + 1))]) dX4_simple_105 rfl rfl (Nat.le_of_ble_eq_true rfl) rfl (ch_goto 82 dX4_simple_108 rfl (ch_FT.wk (ch_wS (ch_wN (ch_wS (ch_wS ch_w0)))) ?_))))))
    obtain rfl := Option.some.inj h
    exact hk
theorem sl_X4_simple_82 {g : State} {t0 : Nat} {w : ch_W} {a : Int32 × Int32} {res : Except Nat (Option Nat) × ch_W} {Q : Outcome → ch_W → Prop} (h : ch_loop (fun (s : Int32 × Int32) => c_X4_simple_82 g t0 s.1 s.2 w) a = some res) (hk : (ch_xR Q) res) : ch_FT g true mX4_simple 10 82 [some (va_rf (some t0)), none, some (.int a.1), some (.int a.2)] [] (w) Q := by
  refine ch_loop_ind (fun (a : Int32 × Int32) (r : Except Nat (Option Nat) × ch_W) => (ch_xR Q) r → ch_FT g true mX4_simple 10 82 [some (va_rf (some t0)), none, some (.int a.1), some (.int a.2)] [] (w) Q) ?_ ?_ a res h hk
  · intro a a2 b h1 ih hk
    exact s_X4_simple_82  h1 (ih hk)
  · intro a b h1 hk
    exact s_X4_simple_82  h1 hk

def c_X4_simple_64 (g : State) (t0 : Nat)  (y0 : Int32) (y1 : Nat) (w : ch_W) : Option (Except Nat (Option Nat) × ch_W) := (ch_rc w (some y1) 5).bind fun _ => ch_tb (c_X4_must g y1 y0 w) (fun a w => (.error a, w)) fun _ w3 => (ch_gI w3 (some t0) 5 fX4_kind).bind fun v4 => if v4 = 2 then ((ch_gI w3 (some t0) 5 fX4_from).bind fun v18 => ch_loop (fun (s : Int32 × Int32) => c_X4_simple_82 g t0 s.1 s.2 w3) (0, v18)) else ((ch_rc w3 (some t0) 5).bind fun _ => (c_X4_isThe g t0 (some (ch_sa g RX4 349)) w3).bind fun v6 => if v6 = 0 then ((ch_rc w3 (some t0) 5).bind fun _ => (c_X4_isThe g t0 (some (ch_sa g RX4 351)) w3).bind fun v9 => if v9 = 0 then ((ch_nO w3 11 6).bind fun w11 => (ch_rc w11 (some t0) 5).bind fun _ => (c_X4_isThe g t0 (some (ch_sa g RX4 353)) w11).bind fun v13 => if v13 = 0 then ((ch_rc w11 (some t0) 5).bind fun _ => (c_X4_isThe g t0 (some (ch_sa g RX4 355)) w11).bind fun v16 => if v16 = 0 then (c_X4_simple_210 g t0 3 (ch_nx w3) (ch_nx w3) w11) else (c_X4_simple_210 g t0 2 (ch_nx w3) (ch_nx w3) w11)) else (c_X4_simple_210 g t0 1 (ch_nx w3) (ch_nx w3) w11)) else (c_X4_simple_144 g t0 w3)) else (c_X4_simple_144 g t0 w3))
theorem s_X4_simple_64 {g : State} {t0 : Nat} {y0 : Int32} {y1 : Nat} {w : ch_W} {res : Except Nat (Option Nat) × ch_W} {Q : Outcome → ch_W → Prop} (h : c_X4_simple_64 g t0 y0 y1 w = some res) (hk : (ch_xR Q) res) : ch_FT g true mX4_simple 10 64 [some (va_rf (some t0)), none, none, none] [.int y0, va_rf (some y1)] (w) Q := by
  unfold c_X4_simple_64 at h
  obtain ⟨_, hb1, h⟩ := ch_bd h
  refine ch_iv yX4_must prog_7_method_2_code 2 none (ci := 4) (q := (RX4, TX4, 9)) (b := y1) (d' := 7) (av := [.int y0]) (rest := []) rfl dX4_simple_64 q561 q563 rfl qs4 q564 can_X4_must (Nat.le_of_ble_eq_true rfl) (Nat.le_of_ble_eq_true rfl) (ch_rts hb1) (cp_tV h (fun p hp Q' hq => s_X4_must hp hq) (fun w3 h => ?_) (fun a w1 h => ?_))
  · refine ch_aload_n 0 (some t0) dX4_simple_67 rfl (cp_gI (ci := 4) (k := 2) dX4_simple_68 fl_X4_40 rfl h (fun v4 h => ?_))
    refine ch_iconst _ 2 dX4_simple_71 rfl (cp_icmp_ne _ _ (tgt := 124) dX4_simple_72 rfl h (fun h => ?_) (fun h => ?_))
    · obtain ⟨_, hb5, h⟩ := ch_bd h
      obtain ⟨v6, hp7, h⟩ := ch_bd h
      refine ch_aload_n 0 (some t0) dX4_simple_124 rfl (ch_ldcSw q991 dX4_simple_125 (ch_iv yX4_isThe prog_7_method_8_code 2 (some .boolean) (ci := 4) (q := (RX4, TX4, 9)) (b := t0) (d' := 7) (av := [va_rf (some (ch_sa g RX4 349))]) (rest := []) rfl dX4_simple_128 q593 q595 rfl qs7 q596 can_X4_isThe (Nat.le_of_ble_eq_true rfl) (Nat.le_of_ble_eq_true rfl) (ch_rts hb5) (cp_kI (v := v6) (w1 := w3) (fun Q' hq => s_X4_isThe hp7 hq) ?_)))
      refine cp_if_ne _ (tgt := 144) dX4_simple_131 rfl h (fun h => ?_) (fun h => ?_)
      · exact ch_FT.wk (ch_wS (ch_wN (ch_wN (ch_wN ch_w0)))) (s_X4_simple_144  h hk)
      · obtain ⟨_, hb8, h⟩ := ch_bd h
        obtain ⟨v9, hp10, h⟩ := ch_bd h
        refine ch_aload_n 0 (some t0) dX4_simple_134 rfl (ch_ldcSw q992 dX4_simple_135 (ch_iv yX4_isThe prog_7_method_8_code 2 (some .boolean) (ci := 4) (q := (RX4, TX4, 9)) (b := t0) (d' := 7) (av := [va_rf (some (ch_sa g RX4 351))]) (rest := []) rfl dX4_simple_138 q593 q595 rfl qs7 q596 can_X4_isThe (Nat.le_of_ble_eq_true rfl) (Nat.le_of_ble_eq_true rfl) (ch_rts hb8) (cp_kI (v := v9) (w1 := w3) (fun Q' hq => s_X4_isThe hp10 hq) ?_)))
        refine cp_if_eq _ (tgt := 177) dX4_simple_141 rfl h (fun h => ?_) (fun h => ?_)
        · refine cp_new (ci := 10) (n := 6) (q := (RX10, TX10, 6)) dX4_simple_177 rfl q938 q939 q225 h (fun w11 h => ?_)
          obtain ⟨_, hb12, h⟩ := ch_bd h
          obtain ⟨v13, hp14, h⟩ := ch_bd h
          refine ch_dup dX4_simple_180 (ch_cat _) (ch_aload_n 0 (some t0) dX4_simple_181 rfl (ch_ldcSw q993 dX4_simple_182 (ch_iv yX4_isThe prog_7_method_8_code 2 (some .boolean) (ci := 4) (q := (RX4, TX4, 9)) (b := t0) (d' := 7) (av := [va_rf (some (ch_sa g RX4 353))]) (rest := [va_rf (some (ch_nx w3)), va_rf (some (ch_nx w3))]) rfl dX4_simple_185 q593 q595 rfl qs7 q596 can_X4_isThe (Nat.le_of_ble_eq_true rfl) (ch_hw (Nat.le_of_ble_eq_true rfl)) (ch_rts hb12) (cp_kI (v := v13) (w1 := w11) (fun Q' hq => s_X4_isThe hp14 hq) ?_))))
          refine cp_if_eq _ (tgt := 195) dX4_simple_188 rfl h (fun h => ?_) (fun h => ?_)
          · obtain ⟨_, hb15, h⟩ := ch_bd h
            obtain ⟨v16, hp17, h⟩ := ch_bd h
            refine ch_aload_n 0 (some t0) dX4_simple_195 rfl (ch_ldcSw q994 dX4_simple_196 (ch_iv yX4_isThe prog_7_method_8_code 2 (some .boolean) (ci := 4) (q := (RX4, TX4, 9)) (b := t0) (d' := 7) (av := [va_rf (some (ch_sa g RX4 355))]) (rest := [va_rf (some (ch_nx w3)), va_rf (some (ch_nx w3))]) rfl dX4_simple_199 q593 q595 rfl qs7 q596 can_X4_isThe (Nat.le_of_ble_eq_true rfl) (ch_hw (Nat.le_of_ble_eq_true rfl)) (ch_rts hb15) (cp_kI (v := v16) (w1 := w11) (fun Q' hq => s_X4_isThe hp17 hq) ?_)))
            refine cp_if_eq _ (tgt := 209) dX4_simple_202 rfl h (fun h => ?_) (fun h => ?_)
            · exact ch_iconst _ 3 dX4_simple_209 rfl (ch_FT.wk (ch_wS (ch_wN (ch_wN (ch_wN ch_w0)))) (s_X4_simple_210  h hk))
            · exact ch_iconst _ 2 dX4_simple_205 rfl (ch_goto 210 dX4_simple_206 rfl (ch_FT.wk (ch_wS (ch_wN (ch_wN (ch_wN ch_w0)))) (s_X4_simple_210  h hk)))
          · exact ch_iconst _ 1 dX4_simple_191 rfl (ch_goto 210 dX4_simple_192 rfl (ch_FT.wk (ch_wS (ch_wN (ch_wN (ch_wN ch_w0)))) (s_X4_simple_210  h hk)))
        · exact ch_FT.wk (ch_wS (ch_wN (ch_wN (ch_wN ch_w0)))) (s_X4_simple_144  h hk)
    · refine ch_iconst _ 0 dX4_simple_75 rfl (ch_istore_n 2 _ (ls1 := [some (va_rf (some t0)), none, some (.int 0), none]) dX4_simple_76 (Nat.le_of_ble_eq_true rfl) rfl (ch_aload_n 0 (some t0) dX4_simple_77 rfl (cp_gI (ci := 4) (k := 3) dX4_simple_78 fl_X4_31 rfl h (fun v18 h => ?_))))
      exact ch_istore_n 3 _ (ls1 := [some (va_rf (some t0)), none, some (.int 0), some (.int v18)]) dX4_simple_81 (Nat.le_of_ble_eq_true rfl) rfl (ch_FT.wk (ch_wS (ch_wN (ch_wS (ch_wS ch_w0)))) (sl_X4_simple_82  h hk))
  · subst h
    exact ch_th rfl hk

def c_X4_simple_59 (g : State) (t0 : Nat)  (y0 : Nat) (w : ch_W) : Option (Except Nat (Option Nat) × ch_W) := c_X4_simple_64 g t0 1 y0 w
theorem s_X4_simple_59 {g : State} {t0 : Nat} {y0 : Nat} {w : ch_W} {res : Except Nat (Option Nat) × ch_W} {Q : Outcome → ch_W → Prop} (h : c_X4_simple_59 g t0 y0 w = some res) (hk : (ch_xR Q) res) : ch_FT g true mX4_simple 10 59 [some (va_rf (some t0)), none, none, none] [va_rf (some y0)] (w) Q := by
  unfold c_X4_simple_59 at h
  exact ch_iconst _ 1 dX4_simple_59 rfl (ch_goto 64 dX4_simple_60 rfl (ch_FT.wk (ch_wS (ch_wN (ch_wN (ch_wN ch_w0)))) (s_X4_simple_64  h hk)))

def c_X4_simple (g : State) (t0 : Nat)  (w : ch_W) : Option (Except Nat (Option Nat) × ch_W) := (ch_gI w (some t0) 5 fX4_kind).bind fun v1 => if v1 = 2 then (c_X4_simple_59 g t0 t0 w) else ((ch_rc w (some t0) 5).bind fun _ => (c_X4_isThe g t0 (some (ch_sa g RX4 349)) w).bind fun v3 => if v3 = 0 then ((ch_rc w (some t0) 5).bind fun _ => (c_X4_isThe g t0 (some (ch_sa g RX4 351)) w).bind fun v6 => if v6 = 0 then ((ch_rc w (some t0) 5).bind fun _ => (c_X4_isThe g t0 (some (ch_sa g RX4 353)) w).bind fun v9 => if v9 = 0 then ((ch_rc w (some t0) 5).bind fun _ => (c_X4_isThe g t0 (some (ch_sa g RX4 355)) w).bind fun v12 => if v12 = 0 then ((ch_rc w (some t0) 5).bind fun _ => (c_X4_isThe g t0 (some (ch_sa g RX4 357)) w).bind fun v15 => if v15 = 0 then (c_X4_simple_64 g t0 0 t0 w) else (c_X4_simple_59 g t0 t0 w)) else (c_X4_simple_59 g t0 t0 w)) else (c_X4_simple_59 g t0 t0 w)) else (c_X4_simple_59 g t0 t0 w)) else (c_X4_simple_59 g t0 t0 w))
theorem s_X4_simple {g : State} {t0 : Nat} {w : ch_W} {res : Except Nat (Option Nat) × ch_W} {Q : Outcome → ch_W → Prop} (h : c_X4_simple g t0 w = some res) (hk : (ch_xR Q) res) : ch_CT g true yX4_simple 10 [.ref t0] (w) Q := by
  unfold c_X4_simple at h
  refine ch_ctL mX4_simple (ls := [some (va_rf (some t0)), none, none, none]) q990 rfl (ch_lyr (r := some t0) ch_ly0) (Nat.le_of_ble_eq_true rfl) rfl ?_
  refine ch_aload_n 0 (some t0) dX4_simple_0 rfl (ch_aload_n 0 (some t0) dX4_simple_1 rfl (cp_gI (ci := 4) (k := 2) dX4_simple_2 fl_X4_40 rfl h (fun v1 h => ?_)))
  refine ch_iconst _ 2 dX4_simple_5 rfl (cp_icmp_eq _ _ (tgt := 59) dX4_simple_6 rfl h (fun h => ?_) (fun h => ?_))
  · exact ch_FT.wk (ch_wS (ch_wN (ch_wN (ch_wN ch_w0)))) (s_X4_simple_59  h hk)
  · obtain ⟨_, hb2, h⟩ := ch_bd h
    obtain ⟨v3, hp4, h⟩ := ch_bd h
    refine ch_aload_n 0 (some t0) dX4_simple_9 rfl (ch_ldcSw q991 dX4_simple_10 (ch_iv yX4_isThe prog_7_method_8_code 2 (some .boolean) (ci := 4) (q := (RX4, TX4, 9)) (b := t0) (d' := 7) (av := [va_rf (some (ch_sa g RX4 349))]) (rest := [va_rf (some t0)]) rfl dX4_simple_13 q593 q595 rfl qs7 q596 can_X4_isThe (Nat.le_of_ble_eq_true rfl) (ch_hw (Nat.le_of_ble_eq_true rfl)) (ch_rts hb2) (cp_kI (v := v3) (w1 := w) (fun Q' hq => s_X4_isThe hp4 hq) ?_)))
    refine cp_if_ne _ (tgt := 59) dX4_simple_16 rfl h (fun h => ?_) (fun h => ?_)
    · exact ch_FT.wk (ch_wS (ch_wN (ch_wN (ch_wN ch_w0)))) (s_X4_simple_59  h hk)
    · obtain ⟨_, hb5, h⟩ := ch_bd h
      obtain ⟨v6, hp7, h⟩ := ch_bd h
      refine ch_aload_n 0 (some t0) dX4_simple_19 rfl (ch_ldcSw q992 dX4_simple_20 (ch_iv yX4_isThe prog_7_method_8_code 2 (some .boolean) (ci := 4) (q := (RX4, TX4, 9)) (b := t0) (d' := 7) (av := [va_rf (some (ch_sa g RX4 351))]) (rest := [va_rf (some t0)]) rfl dX4_simple_23 q593 q595 rfl qs7 q596 can_X4_isThe (Nat.le_of_ble_eq_true rfl) (ch_hw (Nat.le_of_ble_eq_true rfl)) (ch_rts hb5) (cp_kI (v := v6) (w1 := w) (fun Q' hq => s_X4_isThe hp7 hq) ?_)))
      refine cp_if_ne _ (tgt := 59) dX4_simple_26 rfl h (fun h => ?_) (fun h => ?_)
      · exact ch_FT.wk (ch_wS (ch_wN (ch_wN (ch_wN ch_w0)))) (s_X4_simple_59  h hk)
      · obtain ⟨_, hb8, h⟩ := ch_bd h
        obtain ⟨v9, hp10, h⟩ := ch_bd h
        refine ch_aload_n 0 (some t0) dX4_simple_29 rfl (ch_ldcSw q993 dX4_simple_30 (ch_iv yX4_isThe prog_7_method_8_code 2 (some .boolean) (ci := 4) (q := (RX4, TX4, 9)) (b := t0) (d' := 7) (av := [va_rf (some (ch_sa g RX4 353))]) (rest := [va_rf (some t0)]) rfl dX4_simple_33 q593 q595 rfl qs7 q596 can_X4_isThe (Nat.le_of_ble_eq_true rfl) (ch_hw (Nat.le_of_ble_eq_true rfl)) (ch_rts hb8) (cp_kI (v := v9) (w1 := w) (fun Q' hq => s_X4_isThe hp10 hq) ?_)))
        refine cp_if_ne _ (tgt := 59) dX4_simple_36 rfl h (fun h => ?_) (fun h => ?_)
        · exact ch_FT.wk (ch_wS (ch_wN (ch_wN (ch_wN ch_w0)))) (s_X4_simple_59  h hk)
        · obtain ⟨_, hb11, h⟩ := ch_bd h
          obtain ⟨v12, hp13, h⟩ := ch_bd h
          refine ch_aload_n 0 (some t0) dX4_simple_39 rfl (ch_ldcSw q994 dX4_simple_40 (ch_iv yX4_isThe prog_7_method_8_code 2 (some .boolean) (ci := 4) (q := (RX4, TX4, 9)) (b := t0) (d' := 7) (av := [va_rf (some (ch_sa g RX4 355))]) (rest := [va_rf (some t0)]) rfl dX4_simple_43 q593 q595 rfl qs7 q596 can_X4_isThe (Nat.le_of_ble_eq_true rfl) (ch_hw (Nat.le_of_ble_eq_true rfl)) (ch_rts hb11) (cp_kI (v := v12) (w1 := w) (fun Q' hq => s_X4_isThe hp13 hq) ?_)))
          refine cp_if_ne _ (tgt := 59) dX4_simple_46 rfl h (fun h => ?_) (fun h => ?_)
          · exact ch_FT.wk (ch_wS (ch_wN (ch_wN (ch_wN ch_w0)))) (s_X4_simple_59  h hk)
          · obtain ⟨_, hb14, h⟩ := ch_bd h
            obtain ⟨v15, hp16, h⟩ := ch_bd h
            refine ch_aload_n 0 (some t0) dX4_simple_49 rfl (ch_ldcSw q995 dX4_simple_50 (ch_iv yX4_isThe prog_7_method_8_code 2 (some .boolean) (ci := 4) (q := (RX4, TX4, 9)) (b := t0) (d' := 7) (av := [va_rf (some (ch_sa g RX4 357))]) (rest := [va_rf (some t0)]) rfl dX4_simple_53 q593 q595 rfl qs7 q596 can_X4_isThe (Nat.le_of_ble_eq_true rfl) (ch_hw (Nat.le_of_ble_eq_true rfl)) (ch_rts hb14) (cp_kI (v := v15) (w1 := w) (fun Q' hq => s_X4_isThe hp16 hq) ?_)))
            refine cp_if_eq _ (tgt := 63) dX4_simple_56 rfl h (fun h => ?_) (fun h => ?_)
            · exact ch_iconst _ 0 dX4_simple_63 rfl (ch_FT.wk (ch_wS (ch_wN (ch_wN (ch_wN ch_w0)))) (s_X4_simple_64  h hk))
            · exact ch_FT.wk (ch_wS (ch_wN (ch_wN (ch_wN ch_w0)))) (s_X4_simple_59  h hk)

theorem bX4_value_0 : ch_ck cX4_value 0 [42, 182, 1, 18, 76, 42, 19, 1, 21, 182, 0, 76, 153, 0, 22, 42] := ch_ckof (by decide +kernel)
theorem bX4_value_1 : ch_ck cX4_value 16 [182, 0, 79, 16, 17, 3, 43, 42, 182, 1, 18, 184, 1, 23, 76, 167] := ch_ckof (by decide +kernel)
theorem bX4_value_2 : ch_ck cX4_value 32 [255, 230, 43, 176] := ch_ckof (by decide +kernel)
theorem dX4_value_0 : decode cX4_value 0 = .ok (.aload_n 0, 1) := dz_42 (bX4_value_0 0 _ rfl)
theorem dX4_value_1 : decode cX4_value 1 = .ok (.invokevirtual 274, 3) := dz_182 (bX4_value_0 1 _ rfl) (bX4_value_0 2 _ rfl) (bX4_value_0 3 _ rfl)
theorem dX4_value_4 : decode cX4_value 4 = .ok (.astore_n 1, 1) := dz_76 (bX4_value_0 4 _ rfl)
theorem dX4_value_5 : decode cX4_value 5 = .ok (.aload_n 0, 1) := dz_42 (bX4_value_0 5 _ rfl)
theorem dX4_value_6 : decode cX4_value 6 = .ok (.ldc_w 277, 3) := dz_19 (bX4_value_0 6 _ rfl) (bX4_value_0 7 _ rfl) (bX4_value_0 8 _ rfl)
theorem dX4_value_9 : decode cX4_value 9 = .ok (.invokevirtual 76, 3) := dz_182 (bX4_value_0 9 _ rfl) (bX4_value_0 10 _ rfl) (bX4_value_0 11 _ rfl)
theorem dX4_value_12 : decode cX4_value 12 = .ok (.ifCond .eq 22, 3) := dz_153 (bX4_value_0 12 _ rfl) (bX4_value_0 13 _ rfl) (bX4_value_0 14 _ rfl)
theorem dX4_value_15 : decode cX4_value 15 = .ok (.aload_n 0, 1) := dz_42 (bX4_value_0 15 _ rfl)
theorem dX4_value_16 : decode cX4_value 16 = .ok (.invokevirtual 79, 3) := dz_182 (bX4_value_1 0 _ rfl) (bX4_value_1 1 _ rfl) (bX4_value_1 2 _ rfl)
theorem dX4_value_19 : decode cX4_value 19 = .ok (.bipush 17, 2) := dz_16 (bX4_value_1 3 _ rfl) (bX4_value_1 4 _ rfl)
theorem dX4_value_21 : decode cX4_value 21 = .ok (.iconst 0, 1) := dz_3 (bX4_value_1 5 _ rfl)
theorem dX4_value_22 : decode cX4_value 22 = .ok (.aload_n 1, 1) := dz_43 (bX4_value_1 6 _ rfl)
theorem dX4_value_23 : decode cX4_value 23 = .ok (.aload_n 0, 1) := dz_42 (bX4_value_1 7 _ rfl)
theorem dX4_value_24 : decode cX4_value 24 = .ok (.invokevirtual 274, 3) := dz_182 (bX4_value_1 8 _ rfl) (bX4_value_1 9 _ rfl) (bX4_value_1 10 _ rfl)
theorem dX4_value_27 : decode cX4_value 27 = .ok (.invokestatic 279, 3) := dz_184 (bX4_value_1 11 _ rfl) (bX4_value_1 12 _ rfl) (bX4_value_1 13 _ rfl)
theorem dX4_value_30 : decode cX4_value 30 = .ok (.astore_n 1, 1) := dz_76 (bX4_value_1 14 _ rfl)
theorem dX4_value_31 : decode cX4_value 31 = .ok (.goto (-26), 3) := dz_167 (bX4_value_1 15 _ rfl) (bX4_value_2 0 _ rfl) (bX4_value_2 1 _ rfl)
theorem dX4_value_34 : decode cX4_value 34 = .ok (.aload_n 1, 1) := dz_43 (bX4_value_2 2 _ rfl)
theorem dX4_value_35 : decode cX4_value 35 = .ok (.areturn, 1) := dz_176 (bX4_value_2 3 _ rfl)
def c_X4_value_5 (rc : Nat → Nat → ch_W → Option (Except Nat (Option Nat) × ch_W)) (g : State) (t0 : Nat) (x1 : Option Nat)  (w : ch_W) : Option (((Option Nat) × ch_W) ⊕ (Except Nat (Option Nat) × ch_W)) := (ch_rc w (some t0) 5).bind fun _ => (c_X4_isThe g t0 (some (ch_sa g RX4 277)) w).bind fun v2 => if v2 = 0 then (some (.inr ((.ok x1, w)))) else ((ch_rc w (some t0) 5).bind fun _ => ch_tb (c_X4_next g t0 w) (fun a w => .inr ((.error a, w))) fun _ w6 => (ch_rc w6 (some t0) 5).bind fun _ => ch_tb (rc 1 t0 w6) (fun a w => .inr ((.error a, w))) fun v8 w9 => (c_X4_joined 17 0 x1 v8 w9).bind fun p10 => some (.inl (p10.1, p10.2)))
theorem s_X4_value_5 {g : State} {d : Nat} {rc : Nat → Nat → ch_W → Option (Except Nat (Option Nat) × ch_W)} (hr1 : ∀ {t0 : Nat} {w : ch_W} {p : Except Nat (Option Nat) × ch_W} {Q : Outcome → ch_W → Prop}, rc 1 t0 w = some p → ch_xR Q p → ch_CT g true yX4_anded (d + 12) [.ref t0] (w) Q)  {t0 : Nat} {x1 : Option Nat} {w : ch_W} {res : ((Option Nat) × ch_W) ⊕ (Except Nat (Option Nat) × ch_W)} {Q : Outcome → ch_W → Prop} (h : c_X4_value_5 rc g t0 x1 w = some res) (hk : (ch_sm (fun s => ch_FT g true mX4_value (d + 13) 5 [some (va_rf (some t0)), some (va_rf s.1)] [] (s.2) Q) (ch_xR Q)) res) : ch_FT g true mX4_value (d + 13) 5 [some (va_rf (some t0)), some (va_rf x1)] [] (w) Q := by
  unfold c_X4_value_5 at h
  obtain ⟨_, hb1, h⟩ := ch_bd h
  obtain ⟨v2, hp3, h⟩ := ch_bd h
  refine ch_aload_n 0 (some t0) dX4_value_5 rfl (ch_ldcSw q1011 dX4_value_6 (ch_iv yX4_isThe prog_7_method_8_code 2 (some .boolean) (ci := 4) (q := (RX4, TX4, 9)) (b := t0) (d' := 7) (av := [va_rf (some (ch_sa g RX4 277))]) (rest := []) rfl dX4_value_9 q593 q595 rfl qs7 q596 can_X4_isThe (Nat.le_trans (Nat.le_of_ble_eq_true rfl) (Nat.le_add_left 13 d)) (Nat.le_of_ble_eq_true rfl) (ch_rts hb1) (cp_kI (v := v2) (w1 := w) (fun Q' hq => s_X4_isThe hp3 hq) ?_)))
  refine cp_if_eq _ (tgt := 34) dX4_value_12 rfl h (fun h => ?_) (fun h => ?_)
  · obtain rfl := Option.some.inj h
    exact ch_aload_n 1 x1 dX4_value_34 rfl (ch_areturn x1 dX4_value_35 rfl (Or.inl ⟨_, rfl⟩) hk)
  · obtain ⟨_, hb4, h⟩ := ch_bd h
    refine ch_aload_n 0 (some t0) dX4_value_15 rfl (ch_iv yX4_next prog_7_method_5_code 3 none (ci := 4) (q := (RX4, TX4, 9)) (b := t0) (d' := 9) (av := []) (rest := []) rfl dX4_value_16 q497 q499 rfl qs2 q500 can_X4_next (Nat.le_trans (Nat.le_of_ble_eq_true rfl) (Nat.le_add_left 13 d)) (Nat.le_of_ble_eq_true rfl) (ch_rts hb4) (cp_tV h (fun p hp Q' hq => s_X4_next hp hq) (fun w6 h => ?_) (fun a w1 h => ?_)))
    · obtain ⟨_, hb7, h⟩ := ch_bd h
      refine ch_bipush _ 17 dX4_value_19 rfl (ch_iconst _ 0 dX4_value_21 rfl (ch_aload_n 1 x1 dX4_value_22 rfl (ch_aload_n 0 (some t0) dX4_value_23 rfl (ch_iv yX4_anded prog_7_method_29_code 2 (some (.object "ClassHouse$Value")) (ci := 4) (q := (RX4, TX4, 9)) (b := t0) (d' := (d + 12)) (av := []) (rest := [va_rf x1, .int 0, .int 17]) rfl dX4_value_24 q912 q914 rfl qs24 q915 can_X4_anded (Nat.le_refl _) (ch_hw (Nat.le_of_ble_eq_true rfl)) (ch_rts hb7) (cp_tR h (fun p hp Q' hq => hr1 hp hq) (fun v8 w9 h => ?_) (fun a w1 h => ?_))))))
      · obtain ⟨p10, hp11, h⟩ := ch_bd h
        refine ch_is yX4_joined prog_7_method_27_code 5 (some (.object "ClassHouse$Value")) (d' := 3) (av := [.int 17, .int 0, va_rf x1, va_rf v8]) (rest := []) rfl dX4_value_27 q997 q998 q207 q999 can_X4_joined (Nat.le_trans (Nat.le_of_ble_eq_true rfl) (Nat.le_add_left 13 d)) (Nat.le_of_ble_eq_true rfl) (cp_kR (v := p10.1) (w1 := p10.2) (fun Q' hq => s_X4_joined hp11 hq) ?_)
        refine ch_astore_n 1 p10.1 (ls1 := [some (va_rf (some t0)), some (va_rf p10.1)]) dX4_value_30 (Nat.le_of_ble_eq_true rfl) rfl (ch_goto 5 dX4_value_31 rfl (ch_FT.wk (ch_wS (ch_wS ch_w0)) ?_))
        obtain rfl := Option.some.inj h
        exact hk
      · subst h
        exact ch_th rfl hk
    · subst h
      exact ch_th rfl hk
theorem sl_X4_value_5 {g : State} {d : Nat} {rc : Nat → Nat → ch_W → Option (Except Nat (Option Nat) × ch_W)} (hr1 : ∀ {t0 : Nat} {w : ch_W} {p : Except Nat (Option Nat) × ch_W} {Q : Outcome → ch_W → Prop}, rc 1 t0 w = some p → ch_xR Q p → ch_CT g true yX4_anded (d + 12) [.ref t0] (w) Q)  {t0 : Nat} {a : (Option Nat) × ch_W} {res : Except Nat (Option Nat) × ch_W} {Q : Outcome → ch_W → Prop} (h : ch_loop (fun (s : (Option Nat) × ch_W) => c_X4_value_5 rc g t0 s.1 s.2) a = some res) (hk : (ch_xR Q) res) : ch_FT g true mX4_value (d + 13) 5 [some (va_rf (some t0)), some (va_rf a.1)] [] (a.2) Q := by
  refine ch_loop_ind (fun (a : (Option Nat) × ch_W) (r : Except Nat (Option Nat) × ch_W) => (ch_xR Q) r → ch_FT g true mX4_value (d + 13) 5 [some (va_rf (some t0)), some (va_rf a.1)] [] (a.2) Q) ?_ ?_ a res h hk
  · intro a a2 b h1 ih hk
    exact s_X4_value_5 hr1 h1 (ih hk)
  · intro a b h1 hk
    exact s_X4_value_5 hr1 h1 hk

def c_X4_value (rc : Nat → Nat → ch_W → Option (Except Nat (Option Nat) × ch_W)) (g : State) (t0 : Nat)  (w : ch_W) : Option (Except Nat (Option Nat) × ch_W) := (ch_rc w (some t0) 5).bind fun _ => ch_tb (rc 1 t0 w) (fun a w => (.error a, w)) fun v2 w3 => ch_loop (fun (s : (Option Nat) × ch_W) => c_X4_value_5 rc g t0 s.1 s.2) (v2, w3)
theorem s_X4_value {g : State} {d : Nat} {rc : Nat → Nat → ch_W → Option (Except Nat (Option Nat) × ch_W)} (hr1 : ∀ {t0 : Nat} {w : ch_W} {p : Except Nat (Option Nat) × ch_W} {Q : Outcome → ch_W → Prop}, rc 1 t0 w = some p → ch_xR Q p → ch_CT g true yX4_anded (d + 12) [.ref t0] (w) Q)  {t0 : Nat} {w : ch_W} {res : Except Nat (Option Nat) × ch_W} {Q : Outcome → ch_W → Prop} (h : c_X4_value rc g t0 w = some res) (hk : (ch_xR Q) res) : ch_CT g true yX4_value (d + 13) [.ref t0] (w) Q := by
  unfold c_X4_value at h
  refine ch_ctL mX4_value (ls := [some (va_rf (some t0)), none]) q911 rfl (ch_lyr (r := some t0) ch_ly0) (Nat.le_of_ble_eq_true rfl) rfl ?_
  obtain ⟨_, hb1, h⟩ := ch_bd h
  refine ch_aload_n 0 (some t0) dX4_value_0 rfl (ch_iv yX4_anded prog_7_method_29_code 2 (some (.object "ClassHouse$Value")) (ci := 4) (q := (RX4, TX4, 9)) (b := t0) (d' := (d + 12)) (av := []) (rest := []) rfl dX4_value_1 q912 q914 rfl qs24 q915 can_X4_anded (Nat.le_refl _) (Nat.le_of_ble_eq_true rfl) (ch_rts hb1) (cp_tR h (fun p hp Q' hq => hr1 hp hq) (fun v2 w3 h => ?_) (fun a w1 h => ?_)))
  · exact ch_astore_n 1 v2 (ls1 := [some (va_rf (some t0)), some (va_rf v2)]) dX4_value_4 (Nat.le_of_ble_eq_true rfl) rfl (ch_FT.wk (ch_wS (ch_wS ch_w0)) (sl_X4_value_5 hr1 h hk))
  · subst h
    exact ch_th rfl hk

theorem bX4_anded_0 : ch_ck cX4_anded 0 [42, 182, 1, 27, 76, 42, 19, 1, 30, 182, 0, 76, 153, 0, 22, 42] := ch_ckof (by decide +kernel)
theorem bX4_anded_1 : ch_ck cX4_anded 16 [182, 0, 79, 16, 16, 3, 43, 42, 182, 1, 27, 184, 1, 23, 76, 167] := ch_ckof (by decide +kernel)
theorem bX4_anded_2 : ch_ck cX4_anded 32 [255, 230, 43, 176] := ch_ckof (by decide +kernel)
theorem dX4_anded_0 : decode cX4_anded 0 = .ok (.aload_n 0, 1) := dz_42 (bX4_anded_0 0 _ rfl)
theorem dX4_anded_1 : decode cX4_anded 1 = .ok (.invokevirtual 283, 3) := dz_182 (bX4_anded_0 1 _ rfl) (bX4_anded_0 2 _ rfl) (bX4_anded_0 3 _ rfl)
theorem dX4_anded_4 : decode cX4_anded 4 = .ok (.astore_n 1, 1) := dz_76 (bX4_anded_0 4 _ rfl)
theorem dX4_anded_5 : decode cX4_anded 5 = .ok (.aload_n 0, 1) := dz_42 (bX4_anded_0 5 _ rfl)
theorem dX4_anded_6 : decode cX4_anded 6 = .ok (.ldc_w 286, 3) := dz_19 (bX4_anded_0 6 _ rfl) (bX4_anded_0 7 _ rfl) (bX4_anded_0 8 _ rfl)
theorem dX4_anded_9 : decode cX4_anded 9 = .ok (.invokevirtual 76, 3) := dz_182 (bX4_anded_0 9 _ rfl) (bX4_anded_0 10 _ rfl) (bX4_anded_0 11 _ rfl)
theorem dX4_anded_12 : decode cX4_anded 12 = .ok (.ifCond .eq 22, 3) := dz_153 (bX4_anded_0 12 _ rfl) (bX4_anded_0 13 _ rfl) (bX4_anded_0 14 _ rfl)
theorem dX4_anded_15 : decode cX4_anded 15 = .ok (.aload_n 0, 1) := dz_42 (bX4_anded_0 15 _ rfl)
theorem dX4_anded_16 : decode cX4_anded 16 = .ok (.invokevirtual 79, 3) := dz_182 (bX4_anded_1 0 _ rfl) (bX4_anded_1 1 _ rfl) (bX4_anded_1 2 _ rfl)
theorem dX4_anded_19 : decode cX4_anded 19 = .ok (.bipush 16, 2) := dz_16 (bX4_anded_1 3 _ rfl) (bX4_anded_1 4 _ rfl)
theorem dX4_anded_21 : decode cX4_anded 21 = .ok (.iconst 0, 1) := dz_3 (bX4_anded_1 5 _ rfl)
theorem dX4_anded_22 : decode cX4_anded 22 = .ok (.aload_n 1, 1) := dz_43 (bX4_anded_1 6 _ rfl)
theorem dX4_anded_23 : decode cX4_anded 23 = .ok (.aload_n 0, 1) := dz_42 (bX4_anded_1 7 _ rfl)
theorem dX4_anded_24 : decode cX4_anded 24 = .ok (.invokevirtual 283, 3) := dz_182 (bX4_anded_1 8 _ rfl) (bX4_anded_1 9 _ rfl) (bX4_anded_1 10 _ rfl)
theorem dX4_anded_27 : decode cX4_anded 27 = .ok (.invokestatic 279, 3) := dz_184 (bX4_anded_1 11 _ rfl) (bX4_anded_1 12 _ rfl) (bX4_anded_1 13 _ rfl)
theorem dX4_anded_30 : decode cX4_anded 30 = .ok (.astore_n 1, 1) := dz_76 (bX4_anded_1 14 _ rfl)
theorem dX4_anded_31 : decode cX4_anded 31 = .ok (.goto (-26), 3) := dz_167 (bX4_anded_1 15 _ rfl) (bX4_anded_2 0 _ rfl) (bX4_anded_2 1 _ rfl)
theorem dX4_anded_34 : decode cX4_anded 34 = .ok (.aload_n 1, 1) := dz_43 (bX4_anded_2 2 _ rfl)
theorem dX4_anded_35 : decode cX4_anded 35 = .ok (.areturn, 1) := dz_176 (bX4_anded_2 3 _ rfl)
def c_X4_anded_5 (rc : Nat → Nat → ch_W → Option (Except Nat (Option Nat) × ch_W)) (g : State) (t0 : Nat) (x1 : Option Nat)  (w : ch_W) : Option (((Option Nat) × ch_W) ⊕ (Except Nat (Option Nat) × ch_W)) := (ch_rc w (some t0) 5).bind fun _ => (c_X4_isThe g t0 (some (ch_sa g RX4 286)) w).bind fun v2 => if v2 = 0 then (some (.inr ((.ok x1, w)))) else ((ch_rc w (some t0) 5).bind fun _ => ch_tb (c_X4_next g t0 w) (fun a w => .inr ((.error a, w))) fun _ w6 => (ch_rc w6 (some t0) 5).bind fun _ => ch_tb (rc 2 t0 w6) (fun a w => .inr ((.error a, w))) fun v8 w9 => (c_X4_joined 16 0 x1 v8 w9).bind fun p10 => some (.inl (p10.1, p10.2)))
theorem s_X4_anded_5 {g : State} {d : Nat} {rc : Nat → Nat → ch_W → Option (Except Nat (Option Nat) × ch_W)} (hr2 : ∀ {t0 : Nat} {w : ch_W} {p : Except Nat (Option Nat) × ch_W} {Q : Outcome → ch_W → Prop}, rc 2 t0 w = some p → ch_xR Q p → ch_CT g true yX4_equaled (d + 12) [.ref t0] (w) Q)  {t0 : Nat} {x1 : Option Nat} {w : ch_W} {res : ((Option Nat) × ch_W) ⊕ (Except Nat (Option Nat) × ch_W)} {Q : Outcome → ch_W → Prop} (h : c_X4_anded_5 rc g t0 x1 w = some res) (hk : (ch_sm (fun s => ch_FT g true mX4_anded (d + 13) 5 [some (va_rf (some t0)), some (va_rf s.1)] [] (s.2) Q) (ch_xR Q)) res) : ch_FT g true mX4_anded (d + 13) 5 [some (va_rf (some t0)), some (va_rf x1)] [] (w) Q := by
  unfold c_X4_anded_5 at h
  obtain ⟨_, hb1, h⟩ := ch_bd h
  obtain ⟨v2, hp3, h⟩ := ch_bd h
  refine ch_aload_n 0 (some t0) dX4_anded_5 rfl (ch_ldcSw q1010 dX4_anded_6 (ch_iv yX4_isThe prog_7_method_8_code 2 (some .boolean) (ci := 4) (q := (RX4, TX4, 9)) (b := t0) (d' := 7) (av := [va_rf (some (ch_sa g RX4 286))]) (rest := []) rfl dX4_anded_9 q593 q595 rfl qs7 q596 can_X4_isThe (Nat.le_trans (Nat.le_of_ble_eq_true rfl) (Nat.le_add_left 13 d)) (Nat.le_of_ble_eq_true rfl) (ch_rts hb1) (cp_kI (v := v2) (w1 := w) (fun Q' hq => s_X4_isThe hp3 hq) ?_)))
  refine cp_if_eq _ (tgt := 34) dX4_anded_12 rfl h (fun h => ?_) (fun h => ?_)
  · obtain rfl := Option.some.inj h
    exact ch_aload_n 1 x1 dX4_anded_34 rfl (ch_areturn x1 dX4_anded_35 rfl (Or.inl ⟨_, rfl⟩) hk)
  · obtain ⟨_, hb4, h⟩ := ch_bd h
    refine ch_aload_n 0 (some t0) dX4_anded_15 rfl (ch_iv yX4_next prog_7_method_5_code 3 none (ci := 4) (q := (RX4, TX4, 9)) (b := t0) (d' := 9) (av := []) (rest := []) rfl dX4_anded_16 q497 q499 rfl qs2 q500 can_X4_next (Nat.le_trans (Nat.le_of_ble_eq_true rfl) (Nat.le_add_left 13 d)) (Nat.le_of_ble_eq_true rfl) (ch_rts hb4) (cp_tV h (fun p hp Q' hq => s_X4_next hp hq) (fun w6 h => ?_) (fun a w1 h => ?_)))
    · obtain ⟨_, hb7, h⟩ := ch_bd h
      refine ch_bipush _ 16 dX4_anded_19 rfl (ch_iconst _ 0 dX4_anded_21 rfl (ch_aload_n 1 x1 dX4_anded_22 rfl (ch_aload_n 0 (some t0) dX4_anded_23 rfl (ch_iv yX4_equaled prog_7_method_30_code 3 (some (.object "ClassHouse$Value")) (ci := 4) (q := (RX4, TX4, 9)) (b := t0) (d' := (d + 12)) (av := []) (rest := [va_rf x1, .int 0, .int 16]) rfl dX4_anded_24 q916 q918 rfl qs25 q919 can_X4_equaled (Nat.le_refl _) (ch_hw (Nat.le_of_ble_eq_true rfl)) (ch_rts hb7) (cp_tR h (fun p hp Q' hq => hr2 hp hq) (fun v8 w9 h => ?_) (fun a w1 h => ?_))))))
      · obtain ⟨p10, hp11, h⟩ := ch_bd h
        refine ch_is yX4_joined prog_7_method_27_code 5 (some (.object "ClassHouse$Value")) (d' := 3) (av := [.int 16, .int 0, va_rf x1, va_rf v8]) (rest := []) rfl dX4_anded_27 q997 q998 q207 q999 can_X4_joined (Nat.le_trans (Nat.le_of_ble_eq_true rfl) (Nat.le_add_left 13 d)) (Nat.le_of_ble_eq_true rfl) (cp_kR (v := p10.1) (w1 := p10.2) (fun Q' hq => s_X4_joined hp11 hq) ?_)
        refine ch_astore_n 1 p10.1 (ls1 := [some (va_rf (some t0)), some (va_rf p10.1)]) dX4_anded_30 (Nat.le_of_ble_eq_true rfl) rfl (ch_goto 5 dX4_anded_31 rfl (ch_FT.wk (ch_wS (ch_wS ch_w0)) ?_))
        obtain rfl := Option.some.inj h
        exact hk
      · subst h
        exact ch_th rfl hk
    · subst h
      exact ch_th rfl hk
theorem sl_X4_anded_5 {g : State} {d : Nat} {rc : Nat → Nat → ch_W → Option (Except Nat (Option Nat) × ch_W)} (hr2 : ∀ {t0 : Nat} {w : ch_W} {p : Except Nat (Option Nat) × ch_W} {Q : Outcome → ch_W → Prop}, rc 2 t0 w = some p → ch_xR Q p → ch_CT g true yX4_equaled (d + 12) [.ref t0] (w) Q)  {t0 : Nat} {a : (Option Nat) × ch_W} {res : Except Nat (Option Nat) × ch_W} {Q : Outcome → ch_W → Prop} (h : ch_loop (fun (s : (Option Nat) × ch_W) => c_X4_anded_5 rc g t0 s.1 s.2) a = some res) (hk : (ch_xR Q) res) : ch_FT g true mX4_anded (d + 13) 5 [some (va_rf (some t0)), some (va_rf a.1)] [] (a.2) Q := by
  refine ch_loop_ind (fun (a : (Option Nat) × ch_W) (r : Except Nat (Option Nat) × ch_W) => (ch_xR Q) r → ch_FT g true mX4_anded (d + 13) 5 [some (va_rf (some t0)), some (va_rf a.1)] [] (a.2) Q) ?_ ?_ a res h hk
  · intro a a2 b h1 ih hk
    exact s_X4_anded_5 hr2 h1 (ih hk)
  · intro a b h1 hk
    exact s_X4_anded_5 hr2 h1 hk

def c_X4_anded (rc : Nat → Nat → ch_W → Option (Except Nat (Option Nat) × ch_W)) (g : State) (t0 : Nat)  (w : ch_W) : Option (Except Nat (Option Nat) × ch_W) := (ch_rc w (some t0) 5).bind fun _ => ch_tb (rc 2 t0 w) (fun a w => (.error a, w)) fun v2 w3 => ch_loop (fun (s : (Option Nat) × ch_W) => c_X4_anded_5 rc g t0 s.1 s.2) (v2, w3)
theorem s_X4_anded {g : State} {d : Nat} {rc : Nat → Nat → ch_W → Option (Except Nat (Option Nat) × ch_W)} (hr2 : ∀ {t0 : Nat} {w : ch_W} {p : Except Nat (Option Nat) × ch_W} {Q : Outcome → ch_W → Prop}, rc 2 t0 w = some p → ch_xR Q p → ch_CT g true yX4_equaled (d + 12) [.ref t0] (w) Q)  {t0 : Nat} {w : ch_W} {res : Except Nat (Option Nat) × ch_W} {Q : Outcome → ch_W → Prop} (h : c_X4_anded rc g t0 w = some res) (hk : (ch_xR Q) res) : ch_CT g true yX4_anded (d + 13) [.ref t0] (w) Q := by
  unfold c_X4_anded at h
  refine ch_ctL mX4_anded (ls := [some (va_rf (some t0)), none]) q915 rfl (ch_lyr (r := some t0) ch_ly0) (Nat.le_of_ble_eq_true rfl) rfl ?_
  obtain ⟨_, hb1, h⟩ := ch_bd h
  refine ch_aload_n 0 (some t0) dX4_anded_0 rfl (ch_iv yX4_equaled prog_7_method_30_code 3 (some (.object "ClassHouse$Value")) (ci := 4) (q := (RX4, TX4, 9)) (b := t0) (d' := (d + 12)) (av := []) (rest := []) rfl dX4_anded_1 q916 q918 rfl qs25 q919 can_X4_equaled (Nat.le_refl _) (Nat.le_of_ble_eq_true rfl) (ch_rts hb1) (cp_tR h (fun p hp Q' hq => hr2 hp hq) (fun v2 w3 h => ?_) (fun a w1 h => ?_)))
  · exact ch_astore_n 1 v2 (ls1 := [some (va_rf (some t0)), some (va_rf v2)]) dX4_anded_4 (Nat.le_of_ble_eq_true rfl) rfl (ch_FT.wk (ch_wS (ch_wS ch_w0)) (sl_X4_anded_5 hr2 h hk))
  · subst h
    exact ch_th rfl hk

theorem bX4_equaled_0 : ch_ck cX4_equaled 0 [42, 182, 1, 32, 76, 42, 19, 1, 35, 182, 0, 76, 154, 0, 13, 42] := ch_ckof (by decide +kernel)
theorem bX4_equaled_1 : ch_ck cX4_equaled 16 [19, 1, 37, 182, 0, 76, 153, 0, 29, 42, 180, 0, 21, 42, 180, 0] := ch_ckof (by decide +kernel)
theorem bX4_equaled_2 : ch_ck cX4_equaled 32 [31, 51, 61, 42, 182, 0, 79, 16, 15, 28, 43, 42, 182, 1, 32, 184] := ch_ckof (by decide +kernel)
theorem bX4_equaled_3 : ch_ck cX4_equaled 48 [1, 23, 76, 43, 176] := ch_ckof (by decide +kernel)
theorem dX4_equaled_0 : decode cX4_equaled 0 = .ok (.aload_n 0, 1) := dz_42 (bX4_equaled_0 0 _ rfl)
theorem dX4_equaled_1 : decode cX4_equaled 1 = .ok (.invokevirtual 288, 3) := dz_182 (bX4_equaled_0 1 _ rfl) (bX4_equaled_0 2 _ rfl) (bX4_equaled_0 3 _ rfl)
theorem dX4_equaled_4 : decode cX4_equaled 4 = .ok (.astore_n 1, 1) := dz_76 (bX4_equaled_0 4 _ rfl)
theorem dX4_equaled_5 : decode cX4_equaled 5 = .ok (.aload_n 0, 1) := dz_42 (bX4_equaled_0 5 _ rfl)
theorem dX4_equaled_6 : decode cX4_equaled 6 = .ok (.ldc_w 291, 3) := dz_19 (bX4_equaled_0 6 _ rfl) (bX4_equaled_0 7 _ rfl) (bX4_equaled_0 8 _ rfl)
theorem dX4_equaled_9 : decode cX4_equaled 9 = .ok (.invokevirtual 76, 3) := dz_182 (bX4_equaled_0 9 _ rfl) (bX4_equaled_0 10 _ rfl) (bX4_equaled_0 11 _ rfl)
theorem dX4_equaled_12 : decode cX4_equaled 12 = .ok (.ifCond .ne 13, 3) := dz_154 (bX4_equaled_0 12 _ rfl) (bX4_equaled_0 13 _ rfl) (bX4_equaled_0 14 _ rfl)
theorem dX4_equaled_15 : decode cX4_equaled 15 = .ok (.aload_n 0, 1) := dz_42 (bX4_equaled_0 15 _ rfl)
theorem dX4_equaled_16 : decode cX4_equaled 16 = .ok (.ldc_w 293, 3) := dz_19 (bX4_equaled_1 0 _ rfl) (bX4_equaled_1 1 _ rfl) (bX4_equaled_1 2 _ rfl)
theorem dX4_equaled_19 : decode cX4_equaled 19 = .ok (.invokevirtual 76, 3) := dz_182 (bX4_equaled_1 3 _ rfl) (bX4_equaled_1 4 _ rfl) (bX4_equaled_1 5 _ rfl)
theorem dX4_equaled_22 : decode cX4_equaled 22 = .ok (.ifCond .eq 29, 3) := dz_153 (bX4_equaled_1 6 _ rfl) (bX4_equaled_1 7 _ rfl) (bX4_equaled_1 8 _ rfl)
theorem dX4_equaled_25 : decode cX4_equaled 25 = .ok (.aload_n 0, 1) := dz_42 (bX4_equaled_1 9 _ rfl)
theorem dX4_equaled_26 : decode cX4_equaled 26 = .ok (.getfield 21, 3) := dz_180 (bX4_equaled_1 10 _ rfl) (bX4_equaled_1 11 _ rfl) (bX4_equaled_1 12 _ rfl)
theorem dX4_equaled_29 : decode cX4_equaled 29 = .ok (.aload_n 0, 1) := dz_42 (bX4_equaled_1 13 _ rfl)
theorem dX4_equaled_30 : decode cX4_equaled 30 = .ok (.getfield 31, 3) := dz_180 (bX4_equaled_1 14 _ rfl) (bX4_equaled_1 15 _ rfl) (bX4_equaled_2 0 _ rfl)
theorem dX4_equaled_33 : decode cX4_equaled 33 = .ok (.baload, 1) := dz_51 (bX4_equaled_2 1 _ rfl)
theorem dX4_equaled_34 : decode cX4_equaled 34 = .ok (.istore_n 2, 1) := dz_61 (bX4_equaled_2 2 _ rfl)
theorem dX4_equaled_35 : decode cX4_equaled 35 = .ok (.aload_n 0, 1) := dz_42 (bX4_equaled_2 3 _ rfl)
theorem dX4_equaled_36 : decode cX4_equaled 36 = .ok (.invokevirtual 79, 3) := dz_182 (bX4_equaled_2 4 _ rfl) (bX4_equaled_2 5 _ rfl) (bX4_equaled_2 6 _ rfl)
theorem dX4_equaled_39 : decode cX4_equaled 39 = .ok (.bipush 15, 2) := dz_16 (bX4_equaled_2 7 _ rfl) (bX4_equaled_2 8 _ rfl)
theorem dX4_equaled_41 : decode cX4_equaled 41 = .ok (.iload_n 2, 1) := dz_28 (bX4_equaled_2 9 _ rfl)
theorem dX4_equaled_42 : decode cX4_equaled 42 = .ok (.aload_n 1, 1) := dz_43 (bX4_equaled_2 10 _ rfl)
theorem dX4_equaled_43 : decode cX4_equaled 43 = .ok (.aload_n 0, 1) := dz_42 (bX4_equaled_2 11 _ rfl)
theorem dX4_equaled_44 : decode cX4_equaled 44 = .ok (.invokevirtual 288, 3) := dz_182 (bX4_equaled_2 12 _ rfl) (bX4_equaled_2 13 _ rfl) (bX4_equaled_2 14 _ rfl)
theorem dX4_equaled_47 : decode cX4_equaled 47 = .ok (.invokestatic 279, 3) := dz_184 (bX4_equaled_2 15 _ rfl) (bX4_equaled_3 0 _ rfl) (bX4_equaled_3 1 _ rfl)
theorem dX4_equaled_50 : decode cX4_equaled 50 = .ok (.astore_n 1, 1) := dz_76 (bX4_equaled_3 2 _ rfl)
theorem dX4_equaled_51 : decode cX4_equaled 51 = .ok (.aload_n 1, 1) := dz_43 (bX4_equaled_3 3 _ rfl)
theorem dX4_equaled_52 : decode cX4_equaled 52 = .ok (.areturn, 1) := dz_176 (bX4_equaled_3 4 _ rfl)
def c_X4_equaled_25 (rc : Nat → Nat → ch_W → Option (Except Nat (Option Nat) × ch_W)) (g : State) (t0 : Nat) (x1 : Option Nat)  (w : ch_W) : Option (Except Nat (Option Nat) × ch_W) := (ch_gR w (some t0) 5 fX4_s).bind fun v1 => (ch_gI w (some t0) 5 fX4_from).bind fun v2 => (ch_lI w v1 22 v2).bind fun v3 => (ch_rc w (some t0) 5).bind fun _ => ch_tb (c_X4_next g t0 w) (fun a w => (.error a, w)) fun _ w6 => (ch_rc w6 (some t0) 5).bind fun _ => ch_tb (rc 3 t0 w6) (fun a w => (.error a, w)) fun v8 w9 => (c_X4_joined 15 v3 x1 v8 w9).bind fun p10 => some ((.ok p10.1, p10.2))
theorem s_X4_equaled_25 {g : State} {d : Nat} {rc : Nat → Nat → ch_W → Option (Except Nat (Option Nat) × ch_W)} (hr3 : ∀ {t0 : Nat} {w : ch_W} {p : Except Nat (Option Nat) × ch_W} {Q : Outcome → ch_W → Prop}, rc 3 t0 w = some p → ch_xR Q p → ch_CT g true yX4_related (d + 12) [.ref t0] (w) Q)  {t0 : Nat} {x1 : Option Nat} {w : ch_W} {res : Except Nat (Option Nat) × ch_W} {Q : Outcome → ch_W → Prop} (h : c_X4_equaled_25 rc g t0 x1 w = some res) (hk : (ch_xR Q) res) : ch_FT g true mX4_equaled (d + 13) 25 [some (va_rf (some t0)), some (va_rf x1), none] [] (w) Q := by
  unfold c_X4_equaled_25 at h
  refine ch_aload_n 0 (some t0) dX4_equaled_25 rfl (cp_gR (ci := 4) (k := 0) dX4_equaled_26 fl_X4_21 rfl h (fun v1 h => ?_))
  refine ch_aload_n 0 (some t0) dX4_equaled_29 rfl (cp_gI (ci := 4) (k := 3) dX4_equaled_30 fl_X4_31 rfl h (fun v2 h => ?_))
  refine cp_bald (t := 22) dX4_equaled_33 rfl rfl h (fun v3 h => ?_)
  obtain ⟨_, hb4, h⟩ := ch_bd h
  refine ch_istore_n 2 _ (ls1 := [some (va_rf (some t0)), some (va_rf x1), some (.int v3)]) dX4_equaled_34 (Nat.le_of_ble_eq_true rfl) (ch_s1o rfl rfl) (ch_aload_n 0 (some t0) dX4_equaled_35 rfl (ch_iv yX4_next prog_7_method_5_code 3 none (ci := 4) (q := (RX4, TX4, 9)) (b := t0) (d' := 9) (av := []) (rest := []) rfl dX4_equaled_36 q497 q499 rfl qs2 q500 can_X4_next (Nat.le_trans (Nat.le_of_ble_eq_true rfl) (Nat.le_add_left 13 d)) (Nat.le_of_ble_eq_true rfl) (ch_rts hb4) (cp_tV h (fun p hp Q' hq => s_X4_next hp hq) (fun w6 h => ?_) (fun a w1 h => ?_))))
  · obtain ⟨_, hb7, h⟩ := ch_bd h
    refine ch_bipush _ 15 dX4_equaled_39 rfl (ch_iload_n 2 _ dX4_equaled_41 rfl (ch_aload_n 1 x1 dX4_equaled_42 rfl (ch_aload_n 0 (some t0) dX4_equaled_43 rfl (ch_iv yX4_related prog_7_method_31_code 3 (some (.object "ClassHouse$Value")) (ci := 4) (q := (RX4, TX4, 9)) (b := t0) (d' := (d + 12)) (av := []) (rest := [va_rf x1, .int v3, .int 15]) rfl dX4_equaled_44 q920 q922 rfl qs26 q923 can_X4_related (Nat.le_refl _) (ch_hw (Nat.le_of_ble_eq_true rfl)) (ch_rts hb7) (cp_tR h (fun p hp Q' hq => hr3 hp hq) (fun v8 w9 h => ?_) (fun a w1 h => ?_))))))
    · obtain ⟨p10, hp11, h⟩ := ch_bd h
      refine ch_is yX4_joined prog_7_method_27_code 5 (some (.object "ClassHouse$Value")) (d' := 3) (av := [.int 15, .int v3, va_rf x1, va_rf v8]) (rest := []) rfl dX4_equaled_47 q997 q998 q207 q999 can_X4_joined (Nat.le_trans (Nat.le_of_ble_eq_true rfl) (Nat.le_add_left 13 d)) (Nat.le_of_ble_eq_true rfl) (cp_kR (v := p10.1) (w1 := p10.2) (fun Q' hq => s_X4_joined hp11 hq) ?_)
      obtain rfl := Option.some.inj h
      exact ch_astore_n 1 p10.1 (ls1 := [some (va_rf (some t0)), some (va_rf p10.1), some (.int v3)]) dX4_equaled_50 (Nat.le_of_ble_eq_true rfl) rfl (ch_aload_n 1 p10.1 dX4_equaled_51 rfl (ch_areturn p10.1 dX4_equaled_52 rfl (Or.inl ⟨_, rfl⟩) hk))
    · subst h
      exact ch_th rfl hk
  · subst h
    exact ch_th rfl hk

def c_X4_equaled (rc : Nat → Nat → ch_W → Option (Except Nat (Option Nat) × ch_W)) (g : State) (t0 : Nat)  (w : ch_W) : Option (Except Nat (Option Nat) × ch_W) := (ch_rc w (some t0) 5).bind fun _ => ch_tb (rc 3 t0 w) (fun a w => (.error a, w)) fun v2 w3 => (ch_rc w3 (some t0) 5).bind fun _ => (c_X4_isThe g t0 (some (ch_sa g RX4 291)) w3).bind fun v5 => if v5 = 0 then ((ch_rc w3 (some t0) 5).bind fun _ => (c_X4_isThe g t0 (some (ch_sa g RX4 293)) w3).bind fun v8 => if v8 = 0 then (some ((.ok v2, w3))) else (c_X4_equaled_25 rc g t0 v2 w3)) else (c_X4_equaled_25 rc g t0 v2 w3)
theorem s_X4_equaled {g : State} {d : Nat} {rc : Nat → Nat → ch_W → Option (Except Nat (Option Nat) × ch_W)} (hr3 : ∀ {t0 : Nat} {w : ch_W} {p : Except Nat (Option Nat) × ch_W} {Q : Outcome → ch_W → Prop}, rc 3 t0 w = some p → ch_xR Q p → ch_CT g true yX4_related (d + 12) [.ref t0] (w) Q)  {t0 : Nat} {w : ch_W} {res : Except Nat (Option Nat) × ch_W} {Q : Outcome → ch_W → Prop} (h : c_X4_equaled rc g t0 w = some res) (hk : (ch_xR Q) res) : ch_CT g true yX4_equaled (d + 13) [.ref t0] (w) Q := by
  unfold c_X4_equaled at h
  refine ch_ctL mX4_equaled (ls := [some (va_rf (some t0)), none, none]) q919 rfl (ch_lyr (r := some t0) ch_ly0) (Nat.le_of_ble_eq_true rfl) rfl ?_
  obtain ⟨_, hb1, h⟩ := ch_bd h
  refine ch_aload_n 0 (some t0) dX4_equaled_0 rfl (ch_iv yX4_related prog_7_method_31_code 3 (some (.object "ClassHouse$Value")) (ci := 4) (q := (RX4, TX4, 9)) (b := t0) (d' := (d + 12)) (av := []) (rest := []) rfl dX4_equaled_1 q920 q922 rfl qs26 q923 can_X4_related (Nat.le_refl _) (Nat.le_of_ble_eq_true rfl) (ch_rts hb1) (cp_tR h (fun p hp Q' hq => hr3 hp hq) (fun v2 w3 h => ?_) (fun a w1 h => ?_)))
  · obtain ⟨_, hb4, h⟩ := ch_bd h
    obtain ⟨v5, hp6, h⟩ := ch_bd h
    refine ch_astore_n 1 v2 (ls1 := [some (va_rf (some t0)), some (va_rf v2), none]) dX4_equaled_4 (Nat.le_of_ble_eq_true rfl) rfl (ch_aload_n 0 (some t0) dX4_equaled_5 rfl (ch_ldcSw q1008 dX4_equaled_6 (ch_iv yX4_isThe prog_7_method_8_code 2 (some .boolean) (ci := 4) (q := (RX4, TX4, 9)) (b := t0) (d' := 7) (av := [va_rf (some (ch_sa g RX4 291))]) (rest := []) rfl dX4_equaled_9 q593 q595 rfl qs7 q596 can_X4_isThe (Nat.le_trans (Nat.le_of_ble_eq_true rfl) (Nat.le_add_left 13 d)) (Nat.le_of_ble_eq_true rfl) (ch_rts hb4) (cp_kI (v := v5) (w1 := w3) (fun Q' hq => s_X4_isThe hp6 hq) ?_))))
    refine cp_if_ne _ (tgt := 25) dX4_equaled_12 rfl h (fun h => ?_) (fun h => ?_)
    · exact ch_FT.wk (ch_wS (ch_wS (ch_wN ch_w0))) (s_X4_equaled_25 hr3 h hk)
    · obtain ⟨_, hb7, h⟩ := ch_bd h
      obtain ⟨v8, hp9, h⟩ := ch_bd h
      refine ch_aload_n 0 (some t0) dX4_equaled_15 rfl (ch_ldcSw q1009 dX4_equaled_16 (ch_iv yX4_isThe prog_7_method_8_code 2 (some .boolean) (ci := 4) (q := (RX4, TX4, 9)) (b := t0) (d' := 7) (av := [va_rf (some (ch_sa g RX4 293))]) (rest := []) rfl dX4_equaled_19 q593 q595 rfl qs7 q596 can_X4_isThe (Nat.le_trans (Nat.le_of_ble_eq_true rfl) (Nat.le_add_left 13 d)) (Nat.le_of_ble_eq_true rfl) (ch_rts hb7) (cp_kI (v := v8) (w1 := w3) (fun Q' hq => s_X4_isThe hp9 hq) ?_)))
      refine cp_if_eq _ (tgt := 51) dX4_equaled_22 rfl h (fun h => ?_) (fun h => ?_)
      · obtain rfl := Option.some.inj h
        exact ch_aload_n 1 v2 dX4_equaled_51 rfl (ch_areturn v2 dX4_equaled_52 rfl (Or.inl ⟨_, rfl⟩) hk)
      · exact ch_FT.wk (ch_wS (ch_wS (ch_wN ch_w0))) (s_X4_equaled_25 hr3 h hk)
  · subst h
    exact ch_th rfl hk

theorem bX4_related_0 : ch_ck cX4_related 0 [42, 182, 1, 39, 76, 42, 19, 1, 42, 182, 0, 76, 154, 0, 13, 42] := ch_ckof (by decide +kernel)
theorem bX4_related_1 : ch_ck cX4_related 16 [19, 1, 44, 182, 0, 76, 153, 0, 37, 42, 19, 1, 42, 182, 0, 76] := ch_ckof (by decide +kernel)
theorem bX4_related_2 : ch_ck cX4_related 32 [153, 0, 8, 16, 60, 167, 0, 5, 16, 108, 61, 42, 182, 0, 79, 16] := ch_ckof (by decide +kernel)
theorem bX4_related_3 : ch_ck cX4_related 48 [15, 28, 43, 42, 182, 1, 39, 184, 1, 23, 176, 42, 19, 1, 46, 182] := ch_ckof (by decide +kernel)
theorem bX4_related_4 : ch_ck cX4_related 64 [0, 76, 153, 0, 19, 42, 182, 0, 79, 16, 14, 42, 182, 0, 126, 43] := ch_ckof (by decide +kernel)
theorem bX4_related_5 : ch_ck cX4_related 80 [1, 184, 1, 23, 176, 43, 176] := ch_ckof (by decide +kernel)
theorem dX4_related_0 : decode cX4_related 0 = .ok (.aload_n 0, 1) := dz_42 (bX4_related_0 0 _ rfl)
theorem dX4_related_1 : decode cX4_related 1 = .ok (.invokevirtual 295, 3) := dz_182 (bX4_related_0 1 _ rfl) (bX4_related_0 2 _ rfl) (bX4_related_0 3 _ rfl)
theorem dX4_related_4 : decode cX4_related 4 = .ok (.astore_n 1, 1) := dz_76 (bX4_related_0 4 _ rfl)
theorem dX4_related_5 : decode cX4_related 5 = .ok (.aload_n 0, 1) := dz_42 (bX4_related_0 5 _ rfl)
theorem dX4_related_6 : decode cX4_related 6 = .ok (.ldc_w 298, 3) := dz_19 (bX4_related_0 6 _ rfl) (bX4_related_0 7 _ rfl) (bX4_related_0 8 _ rfl)
theorem dX4_related_9 : decode cX4_related 9 = .ok (.invokevirtual 76, 3) := dz_182 (bX4_related_0 9 _ rfl) (bX4_related_0 10 _ rfl) (bX4_related_0 11 _ rfl)
theorem dX4_related_12 : decode cX4_related 12 = .ok (.ifCond .ne 13, 3) := dz_154 (bX4_related_0 12 _ rfl) (bX4_related_0 13 _ rfl) (bX4_related_0 14 _ rfl)
theorem dX4_related_15 : decode cX4_related 15 = .ok (.aload_n 0, 1) := dz_42 (bX4_related_0 15 _ rfl)
theorem dX4_related_16 : decode cX4_related 16 = .ok (.ldc_w 300, 3) := dz_19 (bX4_related_1 0 _ rfl) (bX4_related_1 1 _ rfl) (bX4_related_1 2 _ rfl)
theorem dX4_related_19 : decode cX4_related 19 = .ok (.invokevirtual 76, 3) := dz_182 (bX4_related_1 3 _ rfl) (bX4_related_1 4 _ rfl) (bX4_related_1 5 _ rfl)
theorem dX4_related_22 : decode cX4_related 22 = .ok (.ifCond .eq 37, 3) := dz_153 (bX4_related_1 6 _ rfl) (bX4_related_1 7 _ rfl) (bX4_related_1 8 _ rfl)
theorem dX4_related_25 : decode cX4_related 25 = .ok (.aload_n 0, 1) := dz_42 (bX4_related_1 9 _ rfl)
theorem dX4_related_26 : decode cX4_related 26 = .ok (.ldc_w 298, 3) := dz_19 (bX4_related_1 10 _ rfl) (bX4_related_1 11 _ rfl) (bX4_related_1 12 _ rfl)
theorem dX4_related_29 : decode cX4_related 29 = .ok (.invokevirtual 76, 3) := dz_182 (bX4_related_1 13 _ rfl) (bX4_related_1 14 _ rfl) (bX4_related_1 15 _ rfl)
theorem dX4_related_32 : decode cX4_related 32 = .ok (.ifCond .eq 8, 3) := dz_153 (bX4_related_2 0 _ rfl) (bX4_related_2 1 _ rfl) (bX4_related_2 2 _ rfl)
theorem dX4_related_35 : decode cX4_related 35 = .ok (.bipush 60, 2) := dz_16 (bX4_related_2 3 _ rfl) (bX4_related_2 4 _ rfl)
theorem dX4_related_37 : decode cX4_related 37 = .ok (.goto 5, 3) := dz_167 (bX4_related_2 5 _ rfl) (bX4_related_2 6 _ rfl) (bX4_related_2 7 _ rfl)
theorem dX4_related_40 : decode cX4_related 40 = .ok (.bipush 108, 2) := dz_16 (bX4_related_2 8 _ rfl) (bX4_related_2 9 _ rfl)
theorem dX4_related_42 : decode cX4_related 42 = .ok (.istore_n 2, 1) := dz_61 (bX4_related_2 10 _ rfl)
theorem dX4_related_43 : decode cX4_related 43 = .ok (.aload_n 0, 1) := dz_42 (bX4_related_2 11 _ rfl)
theorem dX4_related_44 : decode cX4_related 44 = .ok (.invokevirtual 79, 3) := dz_182 (bX4_related_2 12 _ rfl) (bX4_related_2 13 _ rfl) (bX4_related_2 14 _ rfl)
theorem dX4_related_47 : decode cX4_related 47 = .ok (.bipush 15, 2) := dz_16 (bX4_related_2 15 _ rfl) (bX4_related_3 0 _ rfl)
theorem dX4_related_49 : decode cX4_related 49 = .ok (.iload_n 2, 1) := dz_28 (bX4_related_3 1 _ rfl)
theorem dX4_related_50 : decode cX4_related 50 = .ok (.aload_n 1, 1) := dz_43 (bX4_related_3 2 _ rfl)
theorem dX4_related_51 : decode cX4_related 51 = .ok (.aload_n 0, 1) := dz_42 (bX4_related_3 3 _ rfl)
theorem dX4_related_52 : decode cX4_related 52 = .ok (.invokevirtual 295, 3) := dz_182 (bX4_related_3 4 _ rfl) (bX4_related_3 5 _ rfl) (bX4_related_3 6 _ rfl)
theorem dX4_related_55 : decode cX4_related 55 = .ok (.invokestatic 279, 3) := dz_184 (bX4_related_3 7 _ rfl) (bX4_related_3 8 _ rfl) (bX4_related_3 9 _ rfl)
theorem dX4_related_58 : decode cX4_related 58 = .ok (.areturn, 1) := dz_176 (bX4_related_3 10 _ rfl)
theorem dX4_related_59 : decode cX4_related 59 = .ok (.aload_n 0, 1) := dz_42 (bX4_related_3 11 _ rfl)
theorem dX4_related_60 : decode cX4_related 60 = .ok (.ldc_w 302, 3) := dz_19 (bX4_related_3 12 _ rfl) (bX4_related_3 13 _ rfl) (bX4_related_3 14 _ rfl)
theorem dX4_related_63 : decode cX4_related 63 = .ok (.invokevirtual 76, 3) := dz_182 (bX4_related_3 15 _ rfl) (bX4_related_4 0 _ rfl) (bX4_related_4 1 _ rfl)
theorem dX4_related_66 : decode cX4_related 66 = .ok (.ifCond .eq 19, 3) := dz_153 (bX4_related_4 2 _ rfl) (bX4_related_4 3 _ rfl) (bX4_related_4 4 _ rfl)
theorem dX4_related_69 : decode cX4_related 69 = .ok (.aload_n 0, 1) := dz_42 (bX4_related_4 5 _ rfl)
theorem dX4_related_70 : decode cX4_related 70 = .ok (.invokevirtual 79, 3) := dz_182 (bX4_related_4 6 _ rfl) (bX4_related_4 7 _ rfl) (bX4_related_4 8 _ rfl)
theorem dX4_related_73 : decode cX4_related 73 = .ok (.bipush 14, 2) := dz_16 (bX4_related_4 9 _ rfl) (bX4_related_4 10 _ rfl)
theorem dX4_related_75 : decode cX4_related 75 = .ok (.aload_n 0, 1) := dz_42 (bX4_related_4 11 _ rfl)
theorem dX4_related_76 : decode cX4_related 76 = .ok (.invokevirtual 126, 3) := dz_182 (bX4_related_4 12 _ rfl) (bX4_related_4 13 _ rfl) (bX4_related_4 14 _ rfl)
theorem dX4_related_79 : decode cX4_related 79 = .ok (.aload_n 1, 1) := dz_43 (bX4_related_4 15 _ rfl)
theorem dX4_related_80 : decode cX4_related 80 = .ok (.aconst_null, 1) := dz_1 (bX4_related_5 0 _ rfl)
theorem dX4_related_81 : decode cX4_related 81 = .ok (.invokestatic 279, 3) := dz_184 (bX4_related_5 1 _ rfl) (bX4_related_5 2 _ rfl) (bX4_related_5 3 _ rfl)
theorem dX4_related_84 : decode cX4_related 84 = .ok (.areturn, 1) := dz_176 (bX4_related_5 4 _ rfl)
theorem dX4_related_85 : decode cX4_related 85 = .ok (.aload_n 1, 1) := dz_43 (bX4_related_5 5 _ rfl)
theorem dX4_related_86 : decode cX4_related 86 = .ok (.areturn, 1) := dz_176 (bX4_related_5 6 _ rfl)
def c_X4_related_42 (rc : Nat → Nat → ch_W → Option (Except Nat (Option Nat) × ch_W)) (g : State) (t0 : Nat) (x1 : Option Nat) (y0 : Int32) (w : ch_W) : Option (Except Nat (Option Nat) × ch_W) := (ch_rc w (some t0) 5).bind fun _ => ch_tb (c_X4_next g t0 w) (fun a w => (.error a, w)) fun _ w3 => (ch_rc w3 (some t0) 5).bind fun _ => ch_tb (rc 4 t0 w3) (fun a w => (.error a, w)) fun v5 w6 => (c_X4_joined 15 y0 x1 v5 w6).bind fun p7 => some ((.ok p7.1, p7.2))
theorem s_X4_related_42 {g : State} {d : Nat} {rc : Nat → Nat → ch_W → Option (Except Nat (Option Nat) × ch_W)} (hr4 : ∀ {t0 : Nat} {w : ch_W} {p : Except Nat (Option Nat) × ch_W} {Q : Outcome → ch_W → Prop}, rc 4 t0 w = some p → ch_xR Q p → ch_CT g true yX4_sum (d + 12) [.ref t0] (w) Q)  {t0 : Nat} {x1 : Option Nat} {y0 : Int32} {w : ch_W} {res : Except Nat (Option Nat) × ch_W} {Q : Outcome → ch_W → Prop} (h : c_X4_related_42 rc g t0 x1 y0 w = some res) (hk : (ch_xR Q) res) : ch_FT g true mX4_related (d + 13) 42 [some (va_rf (some t0)), some (va_rf x1), none] [.int y0] (w) Q := by
  unfold c_X4_related_42 at h
  obtain ⟨_, hb1, h⟩ := ch_bd h
  refine ch_istore_n 2 _ (ls1 := [some (va_rf (some t0)), some (va_rf x1), some (.int y0)]) dX4_related_42 (Nat.le_of_ble_eq_true rfl) (ch_s1o rfl rfl) (ch_aload_n 0 (some t0) dX4_related_43 rfl (ch_iv yX4_next prog_7_method_5_code 3 none (ci := 4) (q := (RX4, TX4, 9)) (b := t0) (d' := 9) (av := []) (rest := []) rfl dX4_related_44 q497 q499 rfl qs2 q500 can_X4_next (Nat.le_trans (Nat.le_of_ble_eq_true rfl) (Nat.le_add_left 13 d)) (Nat.le_of_ble_eq_true rfl) (ch_rts hb1) (cp_tV h (fun p hp Q' hq => s_X4_next hp hq) (fun w3 h => ?_) (fun a w1 h => ?_))))
  · obtain ⟨_, hb4, h⟩ := ch_bd h
    refine ch_bipush _ 15 dX4_related_47 rfl (ch_iload_n 2 _ dX4_related_49 rfl (ch_aload_n 1 x1 dX4_related_50 rfl (ch_aload_n 0 (some t0) dX4_related_51 rfl (ch_iv yX4_sum prog_7_method_32_code 3 (some (.object "ClassHouse$Value")) (ci := 4) (q := (RX4, TX4, 9)) (b := t0) (d' := (d + 12)) (av := []) (rest := [va_rf x1, .int y0, .int 15]) rfl dX4_related_52 q924 q926 rfl qs27 q927 can_X4_sum (Nat.le_refl _) (ch_hw (Nat.le_of_ble_eq_true rfl)) (ch_rts hb4) (cp_tR h (fun p hp Q' hq => hr4 hp hq) (fun v5 w6 h => ?_) (fun a w1 h => ?_))))))
    · obtain ⟨p7, hp8, h⟩ := ch_bd h
      refine ch_is yX4_joined prog_7_method_27_code 5 (some (.object "ClassHouse$Value")) (d' := 3) (av := [.int 15, .int y0, va_rf x1, va_rf v5]) (rest := []) rfl dX4_related_55 q997 q998 q207 q999 can_X4_joined (Nat.le_trans (Nat.le_of_ble_eq_true rfl) (Nat.le_add_left 13 d)) (Nat.le_of_ble_eq_true rfl) (cp_kR (v := p7.1) (w1 := p7.2) (fun Q' hq => s_X4_joined hp8 hq) ?_)
      obtain rfl := Option.some.inj h
      exact ch_areturn p7.1 dX4_related_58 rfl (Or.inl ⟨_, rfl⟩) hk
    · subst h
      exact ch_th rfl hk
  · subst h
    exact ch_th rfl hk

def c_X4_related_25 (rc : Nat → Nat → ch_W → Option (Except Nat (Option Nat) × ch_W)) (g : State) (t0 : Nat) (x1 : Option Nat)  (w : ch_W) : Option (Except Nat (Option Nat) × ch_W) := (ch_rc w (some t0) 5).bind fun _ => (c_X4_isThe g t0 (some (ch_sa g RX4 298)) w).bind fun v2 => if v2 = 0 then (c_X4_related_42 rc g t0 x1 108 w) else (c_X4_related_42 rc g t0 x1 60 w)
theorem s_X4_related_25 {g : State} {d : Nat} {rc : Nat → Nat → ch_W → Option (Except Nat (Option Nat) × ch_W)} (hr4 : ∀ {t0 : Nat} {w : ch_W} {p : Except Nat (Option Nat) × ch_W} {Q : Outcome → ch_W → Prop}, rc 4 t0 w = some p → ch_xR Q p → ch_CT g true yX4_sum (d + 12) [.ref t0] (w) Q)  {t0 : Nat} {x1 : Option Nat} {w : ch_W} {res : Except Nat (Option Nat) × ch_W} {Q : Outcome → ch_W → Prop} (h : c_X4_related_25 rc g t0 x1 w = some res) (hk : (ch_xR Q) res) : ch_FT g true mX4_related (d + 13) 25 [some (va_rf (some t0)), some (va_rf x1), none] [] (w) Q := by
  unfold c_X4_related_25 at h
  obtain ⟨_, hb1, h⟩ := ch_bd h
  obtain ⟨v2, hp3, h⟩ := ch_bd h
  refine ch_aload_n 0 (some t0) dX4_related_25 rfl (ch_ldcSw q1005 dX4_related_26 (ch_iv yX4_isThe prog_7_method_8_code 2 (some .boolean) (ci := 4) (q := (RX4, TX4, 9)) (b := t0) (d' := 7) (av := [va_rf (some (ch_sa g RX4 298))]) (rest := []) rfl dX4_related_29 q593 q595 rfl qs7 q596 can_X4_isThe (Nat.le_trans (Nat.le_of_ble_eq_true rfl) (Nat.le_add_left 13 d)) (Nat.le_of_ble_eq_true rfl) (ch_rts hb1) (cp_kI (v := v2) (w1 := w) (fun Q' hq => s_X4_isThe hp3 hq) ?_)))
  refine cp_if_eq _ (tgt := 40) dX4_related_32 rfl h (fun h => ?_) (fun h => ?_)
  · exact ch_bipush _ 108 dX4_related_40 rfl (ch_FT.wk (ch_wS (ch_wS (ch_wN ch_w0))) (s_X4_related_42 hr4 h hk))
  · exact ch_bipush _ 60 dX4_related_35 rfl (ch_goto 42 dX4_related_37 rfl (ch_FT.wk (ch_wS (ch_wS (ch_wN ch_w0))) (s_X4_related_42 hr4 h hk)))

def c_X4_related (rc : Nat → Nat → ch_W → Option (Except Nat (Option Nat) × ch_W)) (g : State) (t0 : Nat)  (w : ch_W) : Option (Except Nat (Option Nat) × ch_W) := (ch_rc w (some t0) 5).bind fun _ => ch_tb (rc 4 t0 w) (fun a w => (.error a, w)) fun v2 w3 => (ch_rc w3 (some t0) 5).bind fun _ => (c_X4_isThe g t0 (some (ch_sa g RX4 298)) w3).bind fun v5 => if v5 = 0 then ((ch_rc w3 (some t0) 5).bind fun _ => (c_X4_isThe g t0 (some (ch_sa g RX4 300)) w3).bind fun v8 => if v8 = 0 then ((ch_rc w3 (some t0) 5).bind fun _ => (c_X4_isThe g t0 (some (ch_sa g RX4 302)) w3).bind fun v11 => if v11 = 0 then (some ((.ok v2, w3))) else ((ch_rc w3 (some t0) 5).bind fun _ => ch_tb (c_X4_next g t0 w3) (fun a w => (.error a, w)) fun _ w15 => (ch_rc w15 (some t0) 5).bind fun _ => ch_tb (c_X4_nextName g t0 w15) (fun a w => (.error a, w)) fun v17 w18 => (c_X4_joined 14 v17 v2 none w18).bind fun p19 => some ((.ok p19.1, p19.2)))) else (c_X4_related_25 rc g t0 v2 w3)) else (c_X4_related_25 rc g t0 v2 w3)
theorem s_X4_related {g : State} {d : Nat} {rc : Nat → Nat → ch_W → Option (Except Nat (Option Nat) × ch_W)} (hr4 : ∀ {t0 : Nat} {w : ch_W} {p : Except Nat (Option Nat) × ch_W} {Q : Outcome → ch_W → Prop}, rc 4 t0 w = some p → ch_xR Q p → ch_CT g true yX4_sum (d + 12) [.ref t0] (w) Q)  {t0 : Nat} {w : ch_W} {res : Except Nat (Option Nat) × ch_W} {Q : Outcome → ch_W → Prop} (h : c_X4_related rc g t0 w = some res) (hk : (ch_xR Q) res) : ch_CT g true yX4_related (d + 13) [.ref t0] (w) Q := by
  unfold c_X4_related at h
  refine ch_ctL mX4_related (ls := [some (va_rf (some t0)), none, none]) q923 rfl (ch_lyr (r := some t0) ch_ly0) (Nat.le_of_ble_eq_true rfl) rfl ?_
  obtain ⟨_, hb1, h⟩ := ch_bd h
  refine ch_aload_n 0 (some t0) dX4_related_0 rfl (ch_iv yX4_sum prog_7_method_32_code 3 (some (.object "ClassHouse$Value")) (ci := 4) (q := (RX4, TX4, 9)) (b := t0) (d' := (d + 12)) (av := []) (rest := []) rfl dX4_related_1 q924 q926 rfl qs27 q927 can_X4_sum (Nat.le_refl _) (Nat.le_of_ble_eq_true rfl) (ch_rts hb1) (cp_tR h (fun p hp Q' hq => hr4 hp hq) (fun v2 w3 h => ?_) (fun a w1 h => ?_)))
  · obtain ⟨_, hb4, h⟩ := ch_bd h
    obtain ⟨v5, hp6, h⟩ := ch_bd h
    refine ch_astore_n 1 v2 (ls1 := [some (va_rf (some t0)), some (va_rf v2), none]) dX4_related_4 (Nat.le_of_ble_eq_true rfl) rfl (ch_aload_n 0 (some t0) dX4_related_5 rfl (ch_ldcSw q1005 dX4_related_6 (ch_iv yX4_isThe prog_7_method_8_code 2 (some .boolean) (ci := 4) (q := (RX4, TX4, 9)) (b := t0) (d' := 7) (av := [va_rf (some (ch_sa g RX4 298))]) (rest := []) rfl dX4_related_9 q593 q595 rfl qs7 q596 can_X4_isThe (Nat.le_trans (Nat.le_of_ble_eq_true rfl) (Nat.le_add_left 13 d)) (Nat.le_of_ble_eq_true rfl) (ch_rts hb4) (cp_kI (v := v5) (w1 := w3) (fun Q' hq => s_X4_isThe hp6 hq) ?_))))
    refine cp_if_ne _ (tgt := 25) dX4_related_12 rfl h (fun h => ?_) (fun h => ?_)
    · exact ch_FT.wk (ch_wS (ch_wS (ch_wN ch_w0))) (s_X4_related_25 hr4 h hk)
    · obtain ⟨_, hb7, h⟩ := ch_bd h
      obtain ⟨v8, hp9, h⟩ := ch_bd h
      refine ch_aload_n 0 (some t0) dX4_related_15 rfl (ch_ldcSw q1006 dX4_related_16 (ch_iv yX4_isThe prog_7_method_8_code 2 (some .boolean) (ci := 4) (q := (RX4, TX4, 9)) (b := t0) (d' := 7) (av := [va_rf (some (ch_sa g RX4 300))]) (rest := []) rfl dX4_related_19 q593 q595 rfl qs7 q596 can_X4_isThe (Nat.le_trans (Nat.le_of_ble_eq_true rfl) (Nat.le_add_left 13 d)) (Nat.le_of_ble_eq_true rfl) (ch_rts hb7) (cp_kI (v := v8) (w1 := w3) (fun Q' hq => s_X4_isThe hp9 hq) ?_)))
      refine cp_if_eq _ (tgt := 59) dX4_related_22 rfl h (fun h => ?_) (fun h => ?_)
      · obtain ⟨_, hb10, h⟩ := ch_bd h
        obtain ⟨v11, hp12, h⟩ := ch_bd h
        refine ch_aload_n 0 (some t0) dX4_related_59 rfl (ch_ldcSw q1007 dX4_related_60 (ch_iv yX4_isThe prog_7_method_8_code 2 (some .boolean) (ci := 4) (q := (RX4, TX4, 9)) (b := t0) (d' := 7) (av := [va_rf (some (ch_sa g RX4 302))]) (rest := []) rfl dX4_related_63 q593 q595 rfl qs7 q596 can_X4_isThe (Nat.le_trans (Nat.le_of_ble_eq_true rfl) (Nat.le_add_left 13 d)) (Nat.le_of_ble_eq_true rfl) (ch_rts hb10) (cp_kI (v := v11) (w1 := w3) (fun Q' hq => s_X4_isThe hp12 hq) ?_)))
        refine cp_if_eq _ (tgt := 85) dX4_related_66 rfl h (fun h => ?_) (fun h => ?_)
        · obtain rfl := Option.some.inj h
          exact ch_aload_n 1 v2 dX4_related_85 rfl (ch_areturn v2 dX4_related_86 rfl (Or.inl ⟨_, rfl⟩) hk)
        · obtain ⟨_, hb13, h⟩ := ch_bd h
          refine ch_aload_n 0 (some t0) dX4_related_69 rfl (ch_iv yX4_next prog_7_method_5_code 3 none (ci := 4) (q := (RX4, TX4, 9)) (b := t0) (d' := 9) (av := []) (rest := []) rfl dX4_related_70 q497 q499 rfl qs2 q500 can_X4_next (Nat.le_trans (Nat.le_of_ble_eq_true rfl) (Nat.le_add_left 13 d)) (Nat.le_of_ble_eq_true rfl) (ch_rts hb13) (cp_tV h (fun p hp Q' hq => s_X4_next hp hq) (fun w15 h => ?_) (fun a w1 h => ?_)))
          · obtain ⟨_, hb16, h⟩ := ch_bd h
            refine ch_bipush _ 14 dX4_related_73 rfl (ch_aload_n 0 (some t0) dX4_related_75 rfl (ch_iv yX4_nextName prog_7_method_16_code 2 (some .int) (ci := 4) (q := (RX4, TX4, 9)) (b := t0) (d' := 11) (av := []) (rest := [.int 14]) rfl dX4_related_76 q734 q736 rfl qs13 q737 can_X4_nextName (Nat.le_trans (Nat.le_of_ble_eq_true rfl) (Nat.le_add_left 13 d)) (ch_hw (Nat.le_of_ble_eq_true rfl)) (ch_rts hb16) (cp_tI h (fun p hp Q' hq => s_X4_nextName hp hq) (fun v17 w18 h => ?_) (fun a w1 h => ?_))))
            · obtain ⟨p19, hp20, h⟩ := ch_bd h
              refine ch_aload_n 1 v2 dX4_related_79 rfl (ch_null dX4_related_80 (ch_is yX4_joined prog_7_method_27_code 5 (some (.object "ClassHouse$Value")) (d' := 3) (av := [.int 14, .int v17, va_rf v2, va_rf none]) (rest := []) rfl dX4_related_81 q997 q998 q207 q999 can_X4_joined (Nat.le_trans (Nat.le_of_ble_eq_true rfl) (Nat.le_add_left 13 d)) (Nat.le_of_ble_eq_true rfl) (cp_kR (v := p19.1) (w1 := p19.2) (fun Q' hq => s_X4_joined hp20 hq) ?_)))
              obtain rfl := Option.some.inj h
              exact ch_areturn p19.1 dX4_related_84 rfl (Or.inl ⟨_, rfl⟩) hk
            · subst h
              exact ch_th rfl hk
          · subst h
            exact ch_th rfl hk
      · exact ch_FT.wk (ch_wS (ch_wS (ch_wN ch_w0))) (s_X4_related_25 hr4 h hk)
  · subst h
    exact ch_th rfl hk

theorem bX4_sum_0 : ch_ck cX4_sum 0 [42, 182, 1, 47, 76, 42, 19, 1, 50, 182, 0, 76, 154, 0, 13, 42] := ch_ckof (by decide +kernel)
theorem bX4_sum_1 : ch_ck cX4_sum 16 [19, 1, 52, 182, 0, 76, 153, 0, 32, 42, 180, 0, 21, 42, 180, 0] := ch_ckof (by decide +kernel)
theorem bX4_sum_2 : ch_ck cX4_sum 32 [31, 51, 61, 42, 182, 0, 79, 16, 15, 28, 43, 42, 182, 1, 47, 184] := ch_ckof (by decide +kernel)
theorem bX4_sum_3 : ch_ck cX4_sum 48 [1, 23, 76, 167, 255, 210, 43, 176] := ch_ckof (by decide +kernel)
theorem dX4_sum_0 : decode cX4_sum 0 = .ok (.aload_n 0, 1) := dz_42 (bX4_sum_0 0 _ rfl)
theorem dX4_sum_1 : decode cX4_sum 1 = .ok (.invokevirtual 303, 3) := dz_182 (bX4_sum_0 1 _ rfl) (bX4_sum_0 2 _ rfl) (bX4_sum_0 3 _ rfl)
theorem dX4_sum_4 : decode cX4_sum 4 = .ok (.astore_n 1, 1) := dz_76 (bX4_sum_0 4 _ rfl)
theorem dX4_sum_5 : decode cX4_sum 5 = .ok (.aload_n 0, 1) := dz_42 (bX4_sum_0 5 _ rfl)
theorem dX4_sum_6 : decode cX4_sum 6 = .ok (.ldc_w 306, 3) := dz_19 (bX4_sum_0 6 _ rfl) (bX4_sum_0 7 _ rfl) (bX4_sum_0 8 _ rfl)
theorem dX4_sum_9 : decode cX4_sum 9 = .ok (.invokevirtual 76, 3) := dz_182 (bX4_sum_0 9 _ rfl) (bX4_sum_0 10 _ rfl) (bX4_sum_0 11 _ rfl)
theorem dX4_sum_12 : decode cX4_sum 12 = .ok (.ifCond .ne 13, 3) := dz_154 (bX4_sum_0 12 _ rfl) (bX4_sum_0 13 _ rfl) (bX4_sum_0 14 _ rfl)
theorem dX4_sum_15 : decode cX4_sum 15 = .ok (.aload_n 0, 1) := dz_42 (bX4_sum_0 15 _ rfl)
theorem dX4_sum_16 : decode cX4_sum 16 = .ok (.ldc_w 308, 3) := dz_19 (bX4_sum_1 0 _ rfl) (bX4_sum_1 1 _ rfl) (bX4_sum_1 2 _ rfl)
theorem dX4_sum_19 : decode cX4_sum 19 = .ok (.invokevirtual 76, 3) := dz_182 (bX4_sum_1 3 _ rfl) (bX4_sum_1 4 _ rfl) (bX4_sum_1 5 _ rfl)
theorem dX4_sum_22 : decode cX4_sum 22 = .ok (.ifCond .eq 32, 3) := dz_153 (bX4_sum_1 6 _ rfl) (bX4_sum_1 7 _ rfl) (bX4_sum_1 8 _ rfl)
theorem dX4_sum_25 : decode cX4_sum 25 = .ok (.aload_n 0, 1) := dz_42 (bX4_sum_1 9 _ rfl)
theorem dX4_sum_26 : decode cX4_sum 26 = .ok (.getfield 21, 3) := dz_180 (bX4_sum_1 10 _ rfl) (bX4_sum_1 11 _ rfl) (bX4_sum_1 12 _ rfl)
theorem dX4_sum_29 : decode cX4_sum 29 = .ok (.aload_n 0, 1) := dz_42 (bX4_sum_1 13 _ rfl)
theorem dX4_sum_30 : decode cX4_sum 30 = .ok (.getfield 31, 3) := dz_180 (bX4_sum_1 14 _ rfl) (bX4_sum_1 15 _ rfl) (bX4_sum_2 0 _ rfl)
theorem dX4_sum_33 : decode cX4_sum 33 = .ok (.baload, 1) := dz_51 (bX4_sum_2 1 _ rfl)
theorem dX4_sum_34 : decode cX4_sum 34 = .ok (.istore_n 2, 1) := dz_61 (bX4_sum_2 2 _ rfl)
theorem dX4_sum_35 : decode cX4_sum 35 = .ok (.aload_n 0, 1) := dz_42 (bX4_sum_2 3 _ rfl)
theorem dX4_sum_36 : decode cX4_sum 36 = .ok (.invokevirtual 79, 3) := dz_182 (bX4_sum_2 4 _ rfl) (bX4_sum_2 5 _ rfl) (bX4_sum_2 6 _ rfl)
theorem dX4_sum_39 : decode cX4_sum 39 = .ok (.bipush 15, 2) := dz_16 (bX4_sum_2 7 _ rfl) (bX4_sum_2 8 _ rfl)
theorem dX4_sum_41 : decode cX4_sum 41 = .ok (.iload_n 2, 1) := dz_28 (bX4_sum_2 9 _ rfl)
theorem dX4_sum_42 : decode cX4_sum 42 = .ok (.aload_n 1, 1) := dz_43 (bX4_sum_2 10 _ rfl)
theorem dX4_sum_43 : decode cX4_sum 43 = .ok (.aload_n 0, 1) := dz_42 (bX4_sum_2 11 _ rfl)
theorem dX4_sum_44 : decode cX4_sum 44 = .ok (.invokevirtual 303, 3) := dz_182 (bX4_sum_2 12 _ rfl) (bX4_sum_2 13 _ rfl) (bX4_sum_2 14 _ rfl)
theorem dX4_sum_47 : decode cX4_sum 47 = .ok (.invokestatic 279, 3) := dz_184 (bX4_sum_2 15 _ rfl) (bX4_sum_3 0 _ rfl) (bX4_sum_3 1 _ rfl)
theorem dX4_sum_50 : decode cX4_sum 50 = .ok (.astore_n 1, 1) := dz_76 (bX4_sum_3 2 _ rfl)
theorem dX4_sum_51 : decode cX4_sum 51 = .ok (.goto (-46), 3) := dz_167 (bX4_sum_3 3 _ rfl) (bX4_sum_3 4 _ rfl) (bX4_sum_3 5 _ rfl)
theorem dX4_sum_54 : decode cX4_sum 54 = .ok (.aload_n 1, 1) := dz_43 (bX4_sum_3 6 _ rfl)
theorem dX4_sum_55 : decode cX4_sum 55 = .ok (.areturn, 1) := dz_176 (bX4_sum_3 7 _ rfl)
def c_X4_sum_25 (rc : Nat → Nat → ch_W → Option (Except Nat (Option Nat) × ch_W)) (g : State) (t0 : Nat) (x1 : Option Nat)  (w : ch_W) : Option (((Option Nat) × ch_W) ⊕ (Except Nat (Option Nat) × ch_W)) := (ch_gR w (some t0) 5 fX4_s).bind fun v1 => (ch_gI w (some t0) 5 fX4_from).bind fun v2 => (ch_lI w v1 22 v2).bind fun v3 => (ch_rc w (some t0) 5).bind fun _ => ch_tb (c_X4_next g t0 w) (fun a w => .inr ((.error a, w))) fun _ w6 => (ch_rc w6 (some t0) 5).bind fun _ => ch_tb (rc 5 t0 w6) (fun a w => .inr ((.error a, w))) fun v8 w9 => (c_X4_joined 15 v3 x1 v8 w9).bind fun p10 => some (.inl (p10.1, p10.2))
theorem s_X4_sum_25 {g : State} {d : Nat} {rc : Nat → Nat → ch_W → Option (Except Nat (Option Nat) × ch_W)} (hr5 : ∀ {t0 : Nat} {w : ch_W} {p : Except Nat (Option Nat) × ch_W} {Q : Outcome → ch_W → Prop}, rc 5 t0 w = some p → ch_xR Q p → ch_CT g true yX4_product (d + 12) [.ref t0] (w) Q)  {t0 : Nat} {x1 : Option Nat} {w : ch_W} {res : ((Option Nat) × ch_W) ⊕ (Except Nat (Option Nat) × ch_W)} {Q : Outcome → ch_W → Prop} (h : c_X4_sum_25 rc g t0 x1 w = some res) (hk : (ch_sm (fun s => ch_FT g true mX4_sum (d + 13) 5 [some (va_rf (some t0)), some (va_rf s.1), none] [] (s.2) Q) (ch_xR Q)) res) : ch_FT g true mX4_sum (d + 13) 25 [some (va_rf (some t0)), some (va_rf x1), none] [] (w) Q := by
  unfold c_X4_sum_25 at h
  refine ch_aload_n 0 (some t0) dX4_sum_25 rfl (cp_gR (ci := 4) (k := 0) dX4_sum_26 fl_X4_21 rfl h (fun v1 h => ?_))
  refine ch_aload_n 0 (some t0) dX4_sum_29 rfl (cp_gI (ci := 4) (k := 3) dX4_sum_30 fl_X4_31 rfl h (fun v2 h => ?_))
  refine cp_bald (t := 22) dX4_sum_33 rfl rfl h (fun v3 h => ?_)
  obtain ⟨_, hb4, h⟩ := ch_bd h
  refine ch_istore_n 2 _ (ls1 := [some (va_rf (some t0)), some (va_rf x1), some (.int v3)]) dX4_sum_34 (Nat.le_of_ble_eq_true rfl) (ch_s1o rfl rfl) (ch_aload_n 0 (some t0) dX4_sum_35 rfl (ch_iv yX4_next prog_7_method_5_code 3 none (ci := 4) (q := (RX4, TX4, 9)) (b := t0) (d' := 9) (av := []) (rest := []) rfl dX4_sum_36 q497 q499 rfl qs2 q500 can_X4_next (Nat.le_trans (Nat.le_of_ble_eq_true rfl) (Nat.le_add_left 13 d)) (Nat.le_of_ble_eq_true rfl) (ch_rts hb4) (cp_tV h (fun p hp Q' hq => s_X4_next hp hq) (fun w6 h => ?_) (fun a w1 h => ?_))))
  · obtain ⟨_, hb7, h⟩ := ch_bd h
    refine ch_bipush _ 15 dX4_sum_39 rfl (ch_iload_n 2 _ dX4_sum_41 rfl (ch_aload_n 1 x1 dX4_sum_42 rfl (ch_aload_n 0 (some t0) dX4_sum_43 rfl (ch_iv yX4_product prog_7_method_33_code 3 (some (.object "ClassHouse$Value")) (ci := 4) (q := (RX4, TX4, 9)) (b := t0) (d' := (d + 12)) (av := []) (rest := [va_rf x1, .int v3, .int 15]) rfl dX4_sum_44 q928 q930 rfl qs28 q931 can_X4_product (Nat.le_refl _) (ch_hw (Nat.le_of_ble_eq_true rfl)) (ch_rts hb7) (cp_tR h (fun p hp Q' hq => hr5 hp hq) (fun v8 w9 h => ?_) (fun a w1 h => ?_))))))
    · obtain ⟨p10, hp11, h⟩ := ch_bd h
      refine ch_is yX4_joined prog_7_method_27_code 5 (some (.object "ClassHouse$Value")) (d' := 3) (av := [.int 15, .int v3, va_rf x1, va_rf v8]) (rest := []) rfl dX4_sum_47 q997 q998 q207 q999 can_X4_joined (Nat.le_trans (Nat.le_of_ble_eq_true rfl) (Nat.le_add_left 13 d)) (Nat.le_of_ble_eq_true rfl) (cp_kR (v := p10.1) (w1 := p10.2) (fun Q' hq => s_X4_joined hp11 hq) ?_)
      refine ch_astore_n 1 p10.1 (ls1 := [some (va_rf (some t0)), some (va_rf p10.1), some (.int v3)]) dX4_sum_50 (Nat.le_of_ble_eq_true rfl) rfl (ch_goto 5 dX4_sum_51 rfl (ch_FT.wk (ch_wS (ch_wS (ch_wN ch_w0))) ?_))
      obtain rfl := Option.some.inj h
      exact hk
    · subst h
      exact ch_th rfl hk
  · subst h
    exact ch_th rfl hk

def c_X4_sum_5 (rc : Nat → Nat → ch_W → Option (Except Nat (Option Nat) × ch_W)) (g : State) (t0 : Nat) (x1 : Option Nat)  (w : ch_W) : Option (((Option Nat) × ch_W) ⊕ (Except Nat (Option Nat) × ch_W)) := (ch_rc w (some t0) 5).bind fun _ => (c_X4_isThe g t0 (some (ch_sa g RX4 306)) w).bind fun v2 => if v2 = 0 then ((ch_rc w (some t0) 5).bind fun _ => (c_X4_isThe g t0 (some (ch_sa g RX4 308)) w).bind fun v5 => if v5 = 0 then (some (.inr ((.ok x1, w)))) else (c_X4_sum_25 rc g t0 x1 w)) else (c_X4_sum_25 rc g t0 x1 w)
theorem s_X4_sum_5 {g : State} {d : Nat} {rc : Nat → Nat → ch_W → Option (Except Nat (Option Nat) × ch_W)} (hr5 : ∀ {t0 : Nat} {w : ch_W} {p : Except Nat (Option Nat) × ch_W} {Q : Outcome → ch_W → Prop}, rc 5 t0 w = some p → ch_xR Q p → ch_CT g true yX4_product (d + 12) [.ref t0] (w) Q)  {t0 : Nat} {x1 : Option Nat} {w : ch_W} {res : ((Option Nat) × ch_W) ⊕ (Except Nat (Option Nat) × ch_W)} {Q : Outcome → ch_W → Prop} (h : c_X4_sum_5 rc g t0 x1 w = some res) (hk : (ch_sm (fun s => ch_FT g true mX4_sum (d + 13) 5 [some (va_rf (some t0)), some (va_rf s.1), none] [] (s.2) Q) (ch_xR Q)) res) : ch_FT g true mX4_sum (d + 13) 5 [some (va_rf (some t0)), some (va_rf x1), none] [] (w) Q := by
  unfold c_X4_sum_5 at h
  obtain ⟨_, hb1, h⟩ := ch_bd h
  obtain ⟨v2, hp3, h⟩ := ch_bd h
  refine ch_aload_n 0 (some t0) dX4_sum_5 rfl (ch_ldcSw q1004 dX4_sum_6 (ch_iv yX4_isThe prog_7_method_8_code 2 (some .boolean) (ci := 4) (q := (RX4, TX4, 9)) (b := t0) (d' := 7) (av := [va_rf (some (ch_sa g RX4 306))]) (rest := []) rfl dX4_sum_9 q593 q595 rfl qs7 q596 can_X4_isThe (Nat.le_trans (Nat.le_of_ble_eq_true rfl) (Nat.le_add_left 13 d)) (Nat.le_of_ble_eq_true rfl) (ch_rts hb1) (cp_kI (v := v2) (w1 := w) (fun Q' hq => s_X4_isThe hp3 hq) ?_)))
  refine cp_if_ne _ (tgt := 25) dX4_sum_12 rfl h (fun h => ?_) (fun h => ?_)
  · exact ch_FT.wk (ch_wS (ch_wS (ch_wN ch_w0))) (s_X4_sum_25 hr5 h hk)
  · obtain ⟨_, hb4, h⟩ := ch_bd h
    obtain ⟨v5, hp6, h⟩ := ch_bd h
    refine ch_aload_n 0 (some t0) dX4_sum_15 rfl (ch_ldcSw q936 dX4_sum_16 (ch_iv yX4_isThe prog_7_method_8_code 2 (some .boolean) (ci := 4) (q := (RX4, TX4, 9)) (b := t0) (d' := 7) (av := [va_rf (some (ch_sa g RX4 308))]) (rest := []) rfl dX4_sum_19 q593 q595 rfl qs7 q596 can_X4_isThe (Nat.le_trans (Nat.le_of_ble_eq_true rfl) (Nat.le_add_left 13 d)) (Nat.le_of_ble_eq_true rfl) (ch_rts hb4) (cp_kI (v := v5) (w1 := w) (fun Q' hq => s_X4_isThe hp6 hq) ?_)))
    refine cp_if_eq _ (tgt := 54) dX4_sum_22 rfl h (fun h => ?_) (fun h => ?_)
    · obtain rfl := Option.some.inj h
      exact ch_aload_n 1 x1 dX4_sum_54 rfl (ch_areturn x1 dX4_sum_55 rfl (Or.inl ⟨_, rfl⟩) hk)
    · exact ch_FT.wk (ch_wS (ch_wS (ch_wN ch_w0))) (s_X4_sum_25 hr5 h hk)
theorem sl_X4_sum_5 {g : State} {d : Nat} {rc : Nat → Nat → ch_W → Option (Except Nat (Option Nat) × ch_W)} (hr5 : ∀ {t0 : Nat} {w : ch_W} {p : Except Nat (Option Nat) × ch_W} {Q : Outcome → ch_W → Prop}, rc 5 t0 w = some p → ch_xR Q p → ch_CT g true yX4_product (d + 12) [.ref t0] (w) Q)  {t0 : Nat} {a : (Option Nat) × ch_W} {res : Except Nat (Option Nat) × ch_W} {Q : Outcome → ch_W → Prop} (h : ch_loop (fun (s : (Option Nat) × ch_W) => c_X4_sum_5 rc g t0 s.1 s.2) a = some res) (hk : (ch_xR Q) res) : ch_FT g true mX4_sum (d + 13) 5 [some (va_rf (some t0)), some (va_rf a.1), none] [] (a.2) Q := by
  refine ch_loop_ind (fun (a : (Option Nat) × ch_W) (r : Except Nat (Option Nat) × ch_W) => (ch_xR Q) r → ch_FT g true mX4_sum (d + 13) 5 [some (va_rf (some t0)), some (va_rf a.1), none] [] (a.2) Q) ?_ ?_ a res h hk
  · intro a a2 b h1 ih hk
    exact s_X4_sum_5 hr5 h1 (ih hk)
  · intro a b h1 hk
    exact s_X4_sum_5 hr5 h1 hk

def c_X4_sum (rc : Nat → Nat → ch_W → Option (Except Nat (Option Nat) × ch_W)) (g : State) (t0 : Nat)  (w : ch_W) : Option (Except Nat (Option Nat) × ch_W) := (ch_rc w (some t0) 5).bind fun _ => ch_tb (rc 5 t0 w) (fun a w => (.error a, w)) fun v2 w3 => ch_loop (fun (s : (Option Nat) × ch_W) => c_X4_sum_5 rc g t0 s.1 s.2) (v2, w3)
theorem s_X4_sum {g : State} {d : Nat} {rc : Nat → Nat → ch_W → Option (Except Nat (Option Nat) × ch_W)} (hr5 : ∀ {t0 : Nat} {w : ch_W} {p : Except Nat (Option Nat) × ch_W} {Q : Outcome → ch_W → Prop}, rc 5 t0 w = some p → ch_xR Q p → ch_CT g true yX4_product (d + 12) [.ref t0] (w) Q)  {t0 : Nat} {w : ch_W} {res : Except Nat (Option Nat) × ch_W} {Q : Outcome → ch_W → Prop} (h : c_X4_sum rc g t0 w = some res) (hk : (ch_xR Q) res) : ch_CT g true yX4_sum (d + 13) [.ref t0] (w) Q := by
  unfold c_X4_sum at h
  refine ch_ctL mX4_sum (ls := [some (va_rf (some t0)), none, none]) q927 rfl (ch_lyr (r := some t0) ch_ly0) (Nat.le_of_ble_eq_true rfl) rfl ?_
  obtain ⟨_, hb1, h⟩ := ch_bd h
  refine ch_aload_n 0 (some t0) dX4_sum_0 rfl (ch_iv yX4_product prog_7_method_33_code 3 (some (.object "ClassHouse$Value")) (ci := 4) (q := (RX4, TX4, 9)) (b := t0) (d' := (d + 12)) (av := []) (rest := []) rfl dX4_sum_1 q928 q930 rfl qs28 q931 can_X4_product (Nat.le_refl _) (Nat.le_of_ble_eq_true rfl) (ch_rts hb1) (cp_tR h (fun p hp Q' hq => hr5 hp hq) (fun v2 w3 h => ?_) (fun a w1 h => ?_)))
  · exact ch_astore_n 1 v2 (ls1 := [some (va_rf (some t0)), some (va_rf v2), none]) dX4_sum_4 (Nat.le_of_ble_eq_true rfl) rfl (ch_FT.wk (ch_wS (ch_wS (ch_wN ch_w0))) (sl_X4_sum_5 hr5 h hk))
  · subst h
    exact ch_th rfl hk

theorem bX4_product_0 : ch_ck cX4_product 0 [42, 182, 1, 54, 76, 42, 19, 1, 57, 182, 0, 76, 154, 0, 23, 42] := ch_ckof (by decide +kernel)
theorem bX4_product_1 : ch_ck cX4_product 16 [19, 1, 59, 182, 0, 76, 154, 0, 13, 42, 19, 1, 61, 182, 0, 76] := ch_ckof (by decide +kernel)
theorem bX4_product_2 : ch_ck cX4_product 32 [153, 0, 32, 42, 180, 0, 21, 42, 180, 0, 31, 51, 61, 42, 182, 0] := ch_ckof (by decide +kernel)
theorem bX4_product_3 : ch_ck cX4_product 48 [79, 16, 15, 28, 43, 42, 182, 1, 54, 184, 1, 23, 76, 167, 255, 200] := ch_ckof (by decide +kernel)
theorem bX4_product_4 : ch_ck cX4_product 64 [43, 176] := ch_ckof (by decide +kernel)
theorem dX4_product_0 : decode cX4_product 0 = .ok (.aload_n 0, 1) := dz_42 (bX4_product_0 0 _ rfl)
theorem dX4_product_1 : decode cX4_product 1 = .ok (.invokevirtual 310, 3) := dz_182 (bX4_product_0 1 _ rfl) (bX4_product_0 2 _ rfl) (bX4_product_0 3 _ rfl)
theorem dX4_product_4 : decode cX4_product 4 = .ok (.astore_n 1, 1) := dz_76 (bX4_product_0 4 _ rfl)
theorem dX4_product_5 : decode cX4_product 5 = .ok (.aload_n 0, 1) := dz_42 (bX4_product_0 5 _ rfl)
theorem dX4_product_6 : decode cX4_product 6 = .ok (.ldc_w 313, 3) := dz_19 (bX4_product_0 6 _ rfl) (bX4_product_0 7 _ rfl) (bX4_product_0 8 _ rfl)
theorem dX4_product_9 : decode cX4_product 9 = .ok (.invokevirtual 76, 3) := dz_182 (bX4_product_0 9 _ rfl) (bX4_product_0 10 _ rfl) (bX4_product_0 11 _ rfl)
theorem dX4_product_12 : decode cX4_product 12 = .ok (.ifCond .ne 23, 3) := dz_154 (bX4_product_0 12 _ rfl) (bX4_product_0 13 _ rfl) (bX4_product_0 14 _ rfl)
theorem dX4_product_15 : decode cX4_product 15 = .ok (.aload_n 0, 1) := dz_42 (bX4_product_0 15 _ rfl)
theorem dX4_product_16 : decode cX4_product 16 = .ok (.ldc_w 315, 3) := dz_19 (bX4_product_1 0 _ rfl) (bX4_product_1 1 _ rfl) (bX4_product_1 2 _ rfl)
theorem dX4_product_19 : decode cX4_product 19 = .ok (.invokevirtual 76, 3) := dz_182 (bX4_product_1 3 _ rfl) (bX4_product_1 4 _ rfl) (bX4_product_1 5 _ rfl)
theorem dX4_product_22 : decode cX4_product 22 = .ok (.ifCond .ne 13, 3) := dz_154 (bX4_product_1 6 _ rfl) (bX4_product_1 7 _ rfl) (bX4_product_1 8 _ rfl)
theorem dX4_product_25 : decode cX4_product 25 = .ok (.aload_n 0, 1) := dz_42 (bX4_product_1 9 _ rfl)
theorem dX4_product_26 : decode cX4_product 26 = .ok (.ldc_w 317, 3) := dz_19 (bX4_product_1 10 _ rfl) (bX4_product_1 11 _ rfl) (bX4_product_1 12 _ rfl)
theorem dX4_product_29 : decode cX4_product 29 = .ok (.invokevirtual 76, 3) := dz_182 (bX4_product_1 13 _ rfl) (bX4_product_1 14 _ rfl) (bX4_product_1 15 _ rfl)
theorem dX4_product_32 : decode cX4_product 32 = .ok (.ifCond .eq 32, 3) := dz_153 (bX4_product_2 0 _ rfl) (bX4_product_2 1 _ rfl) (bX4_product_2 2 _ rfl)
theorem dX4_product_35 : decode cX4_product 35 = .ok (.aload_n 0, 1) := dz_42 (bX4_product_2 3 _ rfl)
theorem dX4_product_36 : decode cX4_product 36 = .ok (.getfield 21, 3) := dz_180 (bX4_product_2 4 _ rfl) (bX4_product_2 5 _ rfl) (bX4_product_2 6 _ rfl)
theorem dX4_product_39 : decode cX4_product 39 = .ok (.aload_n 0, 1) := dz_42 (bX4_product_2 7 _ rfl)
theorem dX4_product_40 : decode cX4_product 40 = .ok (.getfield 31, 3) := dz_180 (bX4_product_2 8 _ rfl) (bX4_product_2 9 _ rfl) (bX4_product_2 10 _ rfl)
theorem dX4_product_43 : decode cX4_product 43 = .ok (.baload, 1) := dz_51 (bX4_product_2 11 _ rfl)
theorem dX4_product_44 : decode cX4_product 44 = .ok (.istore_n 2, 1) := dz_61 (bX4_product_2 12 _ rfl)
theorem dX4_product_45 : decode cX4_product 45 = .ok (.aload_n 0, 1) := dz_42 (bX4_product_2 13 _ rfl)
theorem dX4_product_46 : decode cX4_product 46 = .ok (.invokevirtual 79, 3) := dz_182 (bX4_product_2 14 _ rfl) (bX4_product_2 15 _ rfl) (bX4_product_3 0 _ rfl)
theorem dX4_product_49 : decode cX4_product 49 = .ok (.bipush 15, 2) := dz_16 (bX4_product_3 1 _ rfl) (bX4_product_3 2 _ rfl)
theorem dX4_product_51 : decode cX4_product 51 = .ok (.iload_n 2, 1) := dz_28 (bX4_product_3 3 _ rfl)
theorem dX4_product_52 : decode cX4_product 52 = .ok (.aload_n 1, 1) := dz_43 (bX4_product_3 4 _ rfl)
theorem dX4_product_53 : decode cX4_product 53 = .ok (.aload_n 0, 1) := dz_42 (bX4_product_3 5 _ rfl)
theorem dX4_product_54 : decode cX4_product 54 = .ok (.invokevirtual 310, 3) := dz_182 (bX4_product_3 6 _ rfl) (bX4_product_3 7 _ rfl) (bX4_product_3 8 _ rfl)
theorem dX4_product_57 : decode cX4_product 57 = .ok (.invokestatic 279, 3) := dz_184 (bX4_product_3 9 _ rfl) (bX4_product_3 10 _ rfl) (bX4_product_3 11 _ rfl)
theorem dX4_product_60 : decode cX4_product 60 = .ok (.astore_n 1, 1) := dz_76 (bX4_product_3 12 _ rfl)
theorem dX4_product_61 : decode cX4_product 61 = .ok (.goto (-56), 3) := dz_167 (bX4_product_3 13 _ rfl) (bX4_product_3 14 _ rfl) (bX4_product_3 15 _ rfl)
theorem dX4_product_64 : decode cX4_product 64 = .ok (.aload_n 1, 1) := dz_43 (bX4_product_4 0 _ rfl)
theorem dX4_product_65 : decode cX4_product 65 = .ok (.areturn, 1) := dz_176 (bX4_product_4 1 _ rfl)
def c_X4_product_35 (rc : Nat → Nat → ch_W → Option (Except Nat (Option Nat) × ch_W)) (g : State) (t0 : Nat) (x1 : Option Nat)  (w : ch_W) : Option (((Option Nat) × ch_W) ⊕ (Except Nat (Option Nat) × ch_W)) := (ch_gR w (some t0) 5 fX4_s).bind fun v1 => (ch_gI w (some t0) 5 fX4_from).bind fun v2 => (ch_lI w v1 22 v2).bind fun v3 => (ch_rc w (some t0) 5).bind fun _ => ch_tb (c_X4_next g t0 w) (fun a w => .inr ((.error a, w))) fun _ w6 => (ch_rc w6 (some t0) 5).bind fun _ => ch_tb (rc 6 t0 w6) (fun a w => .inr ((.error a, w))) fun v8 w9 => (c_X4_joined 15 v3 x1 v8 w9).bind fun p10 => some (.inl (p10.1, p10.2))
theorem s_X4_product_35 {g : State} {d : Nat} {rc : Nat → Nat → ch_W → Option (Except Nat (Option Nat) × ch_W)} (hr6 : ∀ {t0 : Nat} {w : ch_W} {p : Except Nat (Option Nat) × ch_W} {Q : Outcome → ch_W → Prop}, rc 6 t0 w = some p → ch_xR Q p → ch_CT g true yX4_one (d + 12) [.ref t0] (w) Q)  {t0 : Nat} {x1 : Option Nat} {w : ch_W} {res : ((Option Nat) × ch_W) ⊕ (Except Nat (Option Nat) × ch_W)} {Q : Outcome → ch_W → Prop} (h : c_X4_product_35 rc g t0 x1 w = some res) (hk : (ch_sm (fun s => ch_FT g true mX4_product (d + 13) 5 [some (va_rf (some t0)), some (va_rf s.1), none] [] (s.2) Q) (ch_xR Q)) res) : ch_FT g true mX4_product (d + 13) 35 [some (va_rf (some t0)), some (va_rf x1), none] [] (w) Q := by
  unfold c_X4_product_35 at h
  refine ch_aload_n 0 (some t0) dX4_product_35 rfl (cp_gR (ci := 4) (k := 0) dX4_product_36 fl_X4_21 rfl h (fun v1 h => ?_))
  refine ch_aload_n 0 (some t0) dX4_product_39 rfl (cp_gI (ci := 4) (k := 3) dX4_product_40 fl_X4_31 rfl h (fun v2 h => ?_))
  refine cp_bald (t := 22) dX4_product_43 rfl rfl h (fun v3 h => ?_)
  obtain ⟨_, hb4, h⟩ := ch_bd h
  refine ch_istore_n 2 _ (ls1 := [some (va_rf (some t0)), some (va_rf x1), some (.int v3)]) dX4_product_44 (Nat.le_of_ble_eq_true rfl) (ch_s1o rfl rfl) (ch_aload_n 0 (some t0) dX4_product_45 rfl (ch_iv yX4_next prog_7_method_5_code 3 none (ci := 4) (q := (RX4, TX4, 9)) (b := t0) (d' := 9) (av := []) (rest := []) rfl dX4_product_46 q497 q499 rfl qs2 q500 can_X4_next (Nat.le_trans (Nat.le_of_ble_eq_true rfl) (Nat.le_add_left 13 d)) (Nat.le_of_ble_eq_true rfl) (ch_rts hb4) (cp_tV h (fun p hp Q' hq => s_X4_next hp hq) (fun w6 h => ?_) (fun a w1 h => ?_))))
  · obtain ⟨_, hb7, h⟩ := ch_bd h
    refine ch_bipush _ 15 dX4_product_49 rfl (ch_iload_n 2 _ dX4_product_51 rfl (ch_aload_n 1 x1 dX4_product_52 rfl (ch_aload_n 0 (some t0) dX4_product_53 rfl (ch_iv yX4_one prog_7_method_34_code 4 (some (.object "ClassHouse$Value")) (ci := 4) (q := (RX4, TX4, 9)) (b := t0) (d' := (d + 12)) (av := []) (rest := [va_rf x1, .int v3, .int 15]) rfl dX4_product_54 q932 q934 rfl qs29 q935 can_X4_one (Nat.le_refl _) (ch_hw (Nat.le_of_ble_eq_true rfl)) (ch_rts hb7) (cp_tR h (fun p hp Q' hq => hr6 hp hq) (fun v8 w9 h => ?_) (fun a w1 h => ?_))))))
    · obtain ⟨p10, hp11, h⟩ := ch_bd h
      refine ch_is yX4_joined prog_7_method_27_code 5 (some (.object "ClassHouse$Value")) (d' := 3) (av := [.int 15, .int v3, va_rf x1, va_rf v8]) (rest := []) rfl dX4_product_57 q997 q998 q207 q999 can_X4_joined (Nat.le_trans (Nat.le_of_ble_eq_true rfl) (Nat.le_add_left 13 d)) (Nat.le_of_ble_eq_true rfl) (cp_kR (v := p10.1) (w1 := p10.2) (fun Q' hq => s_X4_joined hp11 hq) ?_)
      refine ch_astore_n 1 p10.1 (ls1 := [some (va_rf (some t0)), some (va_rf p10.1), some (.int v3)]) dX4_product_60 (Nat.le_of_ble_eq_true rfl) rfl (ch_goto 5 dX4_product_61 rfl (ch_FT.wk (ch_wS (ch_wS (ch_wN ch_w0))) ?_))
      obtain rfl := Option.some.inj h
      exact hk
    · subst h
      exact ch_th rfl hk
  · subst h
    exact ch_th rfl hk

def c_X4_product_5 (rc : Nat → Nat → ch_W → Option (Except Nat (Option Nat) × ch_W)) (g : State) (t0 : Nat) (x1 : Option Nat)  (w : ch_W) : Option (((Option Nat) × ch_W) ⊕ (Except Nat (Option Nat) × ch_W)) := (ch_rc w (some t0) 5).bind fun _ => (c_X4_isThe g t0 (some (ch_sa g RX4 313)) w).bind fun v2 => if v2 = 0 then ((ch_rc w (some t0) 5).bind fun _ => (c_X4_isThe g t0 (some (ch_sa g RX4 315)) w).bind fun v5 => if v5 = 0 then ((ch_rc w (some t0) 5).bind fun _ => (c_X4_isThe g t0 (some (ch_sa g RX4 317)) w).bind fun v8 => if v8 = 0 then (some (.inr ((.ok x1, w)))) else (c_X4_product_35 rc g t0 x1 w)) else (c_X4_product_35 rc g t0 x1 w)) else (c_X4_product_35 rc g t0 x1 w)
theorem s_X4_product_5 {g : State} {d : Nat} {rc : Nat → Nat → ch_W → Option (Except Nat (Option Nat) × ch_W)} (hr6 : ∀ {t0 : Nat} {w : ch_W} {p : Except Nat (Option Nat) × ch_W} {Q : Outcome → ch_W → Prop}, rc 6 t0 w = some p → ch_xR Q p → ch_CT g true yX4_one (d + 12) [.ref t0] (w) Q)  {t0 : Nat} {x1 : Option Nat} {w : ch_W} {res : ((Option Nat) × ch_W) ⊕ (Except Nat (Option Nat) × ch_W)} {Q : Outcome → ch_W → Prop} (h : c_X4_product_5 rc g t0 x1 w = some res) (hk : (ch_sm (fun s => ch_FT g true mX4_product (d + 13) 5 [some (va_rf (some t0)), some (va_rf s.1), none] [] (s.2) Q) (ch_xR Q)) res) : ch_FT g true mX4_product (d + 13) 5 [some (va_rf (some t0)), some (va_rf x1), none] [] (w) Q := by
  unfold c_X4_product_5 at h
  obtain ⟨_, hb1, h⟩ := ch_bd h
  obtain ⟨v2, hp3, h⟩ := ch_bd h
  refine ch_aload_n 0 (some t0) dX4_product_5 rfl (ch_ldcSw q1001 dX4_product_6 (ch_iv yX4_isThe prog_7_method_8_code 2 (some .boolean) (ci := 4) (q := (RX4, TX4, 9)) (b := t0) (d' := 7) (av := [va_rf (some (ch_sa g RX4 313))]) (rest := []) rfl dX4_product_9 q593 q595 rfl qs7 q596 can_X4_isThe (Nat.le_trans (Nat.le_of_ble_eq_true rfl) (Nat.le_add_left 13 d)) (Nat.le_of_ble_eq_true rfl) (ch_rts hb1) (cp_kI (v := v2) (w1 := w) (fun Q' hq => s_X4_isThe hp3 hq) ?_)))
  refine cp_if_ne _ (tgt := 35) dX4_product_12 rfl h (fun h => ?_) (fun h => ?_)
  · exact ch_FT.wk (ch_wS (ch_wS (ch_wN ch_w0))) (s_X4_product_35 hr6 h hk)
  · obtain ⟨_, hb4, h⟩ := ch_bd h
    obtain ⟨v5, hp6, h⟩ := ch_bd h
    refine ch_aload_n 0 (some t0) dX4_product_15 rfl (ch_ldcSw q1002 dX4_product_16 (ch_iv yX4_isThe prog_7_method_8_code 2 (some .boolean) (ci := 4) (q := (RX4, TX4, 9)) (b := t0) (d' := 7) (av := [va_rf (some (ch_sa g RX4 315))]) (rest := []) rfl dX4_product_19 q593 q595 rfl qs7 q596 can_X4_isThe (Nat.le_trans (Nat.le_of_ble_eq_true rfl) (Nat.le_add_left 13 d)) (Nat.le_of_ble_eq_true rfl) (ch_rts hb4) (cp_kI (v := v5) (w1 := w) (fun Q' hq => s_X4_isThe hp6 hq) ?_)))
    refine cp_if_ne _ (tgt := 35) dX4_product_22 rfl h (fun h => ?_) (fun h => ?_)
    · exact ch_FT.wk (ch_wS (ch_wS (ch_wN ch_w0))) (s_X4_product_35 hr6 h hk)
    · obtain ⟨_, hb7, h⟩ := ch_bd h
      obtain ⟨v8, hp9, h⟩ := ch_bd h
      refine ch_aload_n 0 (some t0) dX4_product_25 rfl (ch_ldcSw q1003 dX4_product_26 (ch_iv yX4_isThe prog_7_method_8_code 2 (some .boolean) (ci := 4) (q := (RX4, TX4, 9)) (b := t0) (d' := 7) (av := [va_rf (some (ch_sa g RX4 317))]) (rest := []) rfl dX4_product_29 q593 q595 rfl qs7 q596 can_X4_isThe (Nat.le_trans (Nat.le_of_ble_eq_true rfl) (Nat.le_add_left 13 d)) (Nat.le_of_ble_eq_true rfl) (ch_rts hb7) (cp_kI (v := v8) (w1 := w) (fun Q' hq => s_X4_isThe hp9 hq) ?_)))
      refine cp_if_eq _ (tgt := 64) dX4_product_32 rfl h (fun h => ?_) (fun h => ?_)
      · obtain rfl := Option.some.inj h
        exact ch_aload_n 1 x1 dX4_product_64 rfl (ch_areturn x1 dX4_product_65 rfl (Or.inl ⟨_, rfl⟩) hk)
      · exact ch_FT.wk (ch_wS (ch_wS (ch_wN ch_w0))) (s_X4_product_35 hr6 h hk)
theorem sl_X4_product_5 {g : State} {d : Nat} {rc : Nat → Nat → ch_W → Option (Except Nat (Option Nat) × ch_W)} (hr6 : ∀ {t0 : Nat} {w : ch_W} {p : Except Nat (Option Nat) × ch_W} {Q : Outcome → ch_W → Prop}, rc 6 t0 w = some p → ch_xR Q p → ch_CT g true yX4_one (d + 12) [.ref t0] (w) Q)  {t0 : Nat} {a : (Option Nat) × ch_W} {res : Except Nat (Option Nat) × ch_W} {Q : Outcome → ch_W → Prop} (h : ch_loop (fun (s : (Option Nat) × ch_W) => c_X4_product_5 rc g t0 s.1 s.2) a = some res) (hk : (ch_xR Q) res) : ch_FT g true mX4_product (d + 13) 5 [some (va_rf (some t0)), some (va_rf a.1), none] [] (a.2) Q := by
  refine ch_loop_ind (fun (a : (Option Nat) × ch_W) (r : Except Nat (Option Nat) × ch_W) => (ch_xR Q) r → ch_FT g true mX4_product (d + 13) 5 [some (va_rf (some t0)), some (va_rf a.1), none] [] (a.2) Q) ?_ ?_ a res h hk
  · intro a a2 b h1 ih hk
    exact s_X4_product_5 hr6 h1 (ih hk)
  · intro a b h1 hk
    exact s_X4_product_5 hr6 h1 hk

def c_X4_product (rc : Nat → Nat → ch_W → Option (Except Nat (Option Nat) × ch_W)) (g : State) (t0 : Nat)  (w : ch_W) : Option (Except Nat (Option Nat) × ch_W) := (ch_rc w (some t0) 5).bind fun _ => ch_tb (rc 6 t0 w) (fun a w => (.error a, w)) fun v2 w3 => ch_loop (fun (s : (Option Nat) × ch_W) => c_X4_product_5 rc g t0 s.1 s.2) (v2, w3)
theorem s_X4_product {g : State} {d : Nat} {rc : Nat → Nat → ch_W → Option (Except Nat (Option Nat) × ch_W)} (hr6 : ∀ {t0 : Nat} {w : ch_W} {p : Except Nat (Option Nat) × ch_W} {Q : Outcome → ch_W → Prop}, rc 6 t0 w = some p → ch_xR Q p → ch_CT g true yX4_one (d + 12) [.ref t0] (w) Q)  {t0 : Nat} {w : ch_W} {res : Except Nat (Option Nat) × ch_W} {Q : Outcome → ch_W → Prop} (h : c_X4_product rc g t0 w = some res) (hk : (ch_xR Q) res) : ch_CT g true yX4_product (d + 13) [.ref t0] (w) Q := by
  unfold c_X4_product at h
  refine ch_ctL mX4_product (ls := [some (va_rf (some t0)), none, none]) q931 rfl (ch_lyr (r := some t0) ch_ly0) (Nat.le_of_ble_eq_true rfl) rfl ?_
  obtain ⟨_, hb1, h⟩ := ch_bd h
  refine ch_aload_n 0 (some t0) dX4_product_0 rfl (ch_iv yX4_one prog_7_method_34_code 4 (some (.object "ClassHouse$Value")) (ci := 4) (q := (RX4, TX4, 9)) (b := t0) (d' := (d + 12)) (av := []) (rest := []) rfl dX4_product_1 q932 q934 rfl qs29 q935 can_X4_one (Nat.le_refl _) (Nat.le_of_ble_eq_true rfl) (ch_rts hb1) (cp_tR h (fun p hp Q' hq => hr6 hp hq) (fun v2 w3 h => ?_) (fun a w1 h => ?_)))
  · exact ch_astore_n 1 v2 (ls1 := [some (va_rf (some t0)), some (va_rf v2), none]) dX4_product_4 (Nat.le_of_ble_eq_true rfl) rfl (ch_FT.wk (ch_wS (ch_wS (ch_wN ch_w0))) (sl_X4_product_5 hr6 h hk))
  · subst h
    exact ch_th rfl hk

theorem bX4_one_0 : ch_ck cX4_one 0 [42, 19, 1, 52, 182, 0, 76, 154, 0, 13, 42, 19, 1, 63, 182, 0] := ch_ckof (by decide +kernel)
theorem bX4_one_1 : ch_ck cX4_one 16 [76, 153, 0, 72, 187, 0, 243, 89, 42, 19, 1, 52, 182, 0, 76, 153] := ch_ckof (by decide +kernel)
theorem bX4_one_2 : ch_ck cX4_one 32 [0, 8, 16, 8, 167, 0, 5, 16, 9, 3, 183, 1, 11, 76, 42, 42] := ch_ckof (by decide +kernel)
theorem bX4_one_3 : ch_ck cX4_one 48 [19, 1, 52, 182, 0, 76, 153, 0, 9, 19, 1, 52, 167, 0, 6, 19] := ch_ckof (by decide +kernel)
theorem bX4_one_4 : ch_ck cX4_one 64 [1, 63, 182, 0, 134, 43, 42, 182, 1, 54, 181, 1, 15, 42, 89, 180] := ch_ckof (by decide +kernel)
theorem bX4_one_5 : ch_ck cX4_one 80 [0, 82, 4, 100, 181, 0, 82, 43, 176, 42, 182, 1, 65, 76, 4, 61] := ch_ckof (by decide +kernel)
theorem bX4_one_6 : ch_ck cX4_one 96 [28, 153, 0, 139, 42, 19, 1, 67, 182, 0, 76, 153, 0, 56, 42, 182] := ch_ckof (by decide +kernel)
theorem bX4_one_7 : ch_ck cX4_one 112 [0, 79, 16, 10, 42, 182, 0, 126, 43, 1, 184, 1, 23, 76, 42, 18] := ch_ckof (by decide +kernel)
theorem bX4_one_8 : ch_ck cX4_one 128 [171, 182, 0, 76, 153, 255, 220, 16, 11, 43, 180, 1, 69, 43, 180, 1] := ch_ckof (by decide +kernel)
theorem bX4_one_9 : ch_ck cX4_one 144 [12, 1, 184, 1, 23, 78, 45, 42, 182, 1, 72, 181, 1, 76, 45, 76] := ch_ckof (by decide +kernel)
theorem bX4_one_10 : ch_ck cX4_one 160 [167, 255, 192, 42, 19, 1, 79, 182, 0, 76, 153, 0, 32, 42, 19, 1] := ch_ckof (by decide +kernel)
theorem bX4_one_11 : ch_ck cX4_one 176 [79, 182, 0, 134, 16, 12, 3, 43, 42, 182, 0, 233, 184, 1, 23, 76] := ch_ckof (by decide +kernel)
theorem bX4_one_12 : ch_ck cX4_one 192 [42, 19, 1, 81, 182, 0, 146, 167, 255, 153, 42, 19, 1, 83, 182, 0] := ch_ckof (by decide +kernel)
theorem bX4_one_13 : ch_ck cX4_one 208 [76, 153, 0, 22, 42, 182, 0, 79, 16, 13, 42, 182, 0, 126, 43, 1] := ch_ckof (by decide +kernel)
theorem bX4_one_14 : ch_ck cX4_one 224 [184, 1, 23, 76, 167, 255, 124, 3, 61, 167, 255, 119, 43, 176] := ch_ckof (by decide +kernel)
theorem dX4_one_0 : decode cX4_one 0 = .ok (.aload_n 0, 1) := dz_42 (bX4_one_0 0 _ rfl)
theorem dX4_one_1 : decode cX4_one 1 = .ok (.ldc_w 308, 3) := dz_19 (bX4_one_0 1 _ rfl) (bX4_one_0 2 _ rfl) (bX4_one_0 3 _ rfl)
theorem dX4_one_4 : decode cX4_one 4 = .ok (.invokevirtual 76, 3) := dz_182 (bX4_one_0 4 _ rfl) (bX4_one_0 5 _ rfl) (bX4_one_0 6 _ rfl)
theorem dX4_one_7 : decode cX4_one 7 = .ok (.ifCond .ne 13, 3) := dz_154 (bX4_one_0 7 _ rfl) (bX4_one_0 8 _ rfl) (bX4_one_0 9 _ rfl)
theorem dX4_one_10 : decode cX4_one 10 = .ok (.aload_n 0, 1) := dz_42 (bX4_one_0 10 _ rfl)
theorem dX4_one_11 : decode cX4_one 11 = .ok (.ldc_w 319, 3) := dz_19 (bX4_one_0 11 _ rfl) (bX4_one_0 12 _ rfl) (bX4_one_0 13 _ rfl)
theorem dX4_one_14 : decode cX4_one 14 = .ok (.invokevirtual 76, 3) := dz_182 (bX4_one_0 14 _ rfl) (bX4_one_0 15 _ rfl) (bX4_one_1 0 _ rfl)
theorem dX4_one_17 : decode cX4_one 17 = .ok (.ifCond .eq 72, 3) := dz_153 (bX4_one_1 1 _ rfl) (bX4_one_1 2 _ rfl) (bX4_one_1 3 _ rfl)
theorem dX4_one_20 : decode cX4_one 20 = .ok (.new 243, 3) := dz_187 (bX4_one_1 4 _ rfl) (bX4_one_1 5 _ rfl) (bX4_one_1 6 _ rfl)
theorem dX4_one_23 : decode cX4_one 23 = .ok (.dup, 1) := dz_89 (bX4_one_1 7 _ rfl)
theorem dX4_one_24 : decode cX4_one 24 = .ok (.aload_n 0, 1) := dz_42 (bX4_one_1 8 _ rfl)
theorem dX4_one_25 : decode cX4_one 25 = .ok (.ldc_w 308, 3) := dz_19 (bX4_one_1 9 _ rfl) (bX4_one_1 10 _ rfl) (bX4_one_1 11 _ rfl)
theorem dX4_one_28 : decode cX4_one 28 = .ok (.invokevirtual 76, 3) := dz_182 (bX4_one_1 12 _ rfl) (bX4_one_1 13 _ rfl) (bX4_one_1 14 _ rfl)
theorem dX4_one_31 : decode cX4_one 31 = .ok (.ifCond .eq 8, 3) := dz_153 (bX4_one_1 15 _ rfl) (bX4_one_2 0 _ rfl) (bX4_one_2 1 _ rfl)
theorem dX4_one_34 : decode cX4_one 34 = .ok (.bipush 8, 2) := dz_16 (bX4_one_2 2 _ rfl) (bX4_one_2 3 _ rfl)
theorem dX4_one_36 : decode cX4_one 36 = .ok (.goto 5, 3) := dz_167 (bX4_one_2 4 _ rfl) (bX4_one_2 5 _ rfl) (bX4_one_2 6 _ rfl)
theorem dX4_one_39 : decode cX4_one 39 = .ok (.bipush 9, 2) := dz_16 (bX4_one_2 7 _ rfl) (bX4_one_2 8 _ rfl)
theorem dX4_one_41 : decode cX4_one 41 = .ok (.iconst 0, 1) := dz_3 (bX4_one_2 9 _ rfl)
theorem dX4_one_42 : decode cX4_one 42 = .ok (.invokespecial 267, 3) := dz_183 (bX4_one_2 10 _ rfl) (bX4_one_2 11 _ rfl) (bX4_one_2 12 _ rfl)
theorem dX4_one_45 : decode cX4_one 45 = .ok (.astore_n 1, 1) := dz_76 (bX4_one_2 13 _ rfl)
theorem dX4_one_46 : decode cX4_one 46 = .ok (.aload_n 0, 1) := dz_42 (bX4_one_2 14 _ rfl)
theorem dX4_one_47 : decode cX4_one 47 = .ok (.aload_n 0, 1) := dz_42 (bX4_one_2 15 _ rfl)
theorem dX4_one_48 : decode cX4_one 48 = .ok (.ldc_w 308, 3) := dz_19 (bX4_one_3 0 _ rfl) (bX4_one_3 1 _ rfl) (bX4_one_3 2 _ rfl)
theorem dX4_one_51 : decode cX4_one 51 = .ok (.invokevirtual 76, 3) := dz_182 (bX4_one_3 3 _ rfl) (bX4_one_3 4 _ rfl) (bX4_one_3 5 _ rfl)
theorem dX4_one_54 : decode cX4_one 54 = .ok (.ifCond .eq 9, 3) := dz_153 (bX4_one_3 6 _ rfl) (bX4_one_3 7 _ rfl) (bX4_one_3 8 _ rfl)
theorem dX4_one_57 : decode cX4_one 57 = .ok (.ldc_w 308, 3) := dz_19 (bX4_one_3 9 _ rfl) (bX4_one_3 10 _ rfl) (bX4_one_3 11 _ rfl)
theorem dX4_one_60 : decode cX4_one 60 = .ok (.goto 6, 3) := dz_167 (bX4_one_3 12 _ rfl) (bX4_one_3 13 _ rfl) (bX4_one_3 14 _ rfl)
theorem dX4_one_63 : decode cX4_one 63 = .ok (.ldc_w 319, 3) := dz_19 (bX4_one_3 15 _ rfl) (bX4_one_4 0 _ rfl) (bX4_one_4 1 _ rfl)
theorem dX4_one_66 : decode cX4_one 66 = .ok (.invokevirtual 134, 3) := dz_182 (bX4_one_4 2 _ rfl) (bX4_one_4 3 _ rfl) (bX4_one_4 4 _ rfl)
theorem dX4_one_69 : decode cX4_one 69 = .ok (.aload_n 1, 1) := dz_43 (bX4_one_4 5 _ rfl)
theorem dX4_one_70 : decode cX4_one 70 = .ok (.aload_n 0, 1) := dz_42 (bX4_one_4 6 _ rfl)
theorem dX4_one_71 : decode cX4_one 71 = .ok (.invokevirtual 310, 3) := dz_182 (bX4_one_4 7 _ rfl) (bX4_one_4 8 _ rfl) (bX4_one_4 9 _ rfl)
theorem dX4_one_74 : decode cX4_one 74 = .ok (.putfield 271, 3) := dz_181 (bX4_one_4 10 _ rfl) (bX4_one_4 11 _ rfl) (bX4_one_4 12 _ rfl)
theorem dX4_one_77 : decode cX4_one 77 = .ok (.aload_n 0, 1) := dz_42 (bX4_one_4 13 _ rfl)
theorem dX4_one_78 : decode cX4_one 78 = .ok (.dup, 1) := dz_89 (bX4_one_4 14 _ rfl)
theorem dX4_one_79 : decode cX4_one 79 = .ok (.getfield 82, 3) := dz_180 (bX4_one_4 15 _ rfl) (bX4_one_5 0 _ rfl) (bX4_one_5 1 _ rfl)
theorem dX4_one_82 : decode cX4_one 82 = .ok (.iconst 1, 1) := dz_4 (bX4_one_5 2 _ rfl)
theorem dX4_one_83 : decode cX4_one 83 = .ok (.isub, 1) := dz_100 (bX4_one_5 3 _ rfl)
theorem dX4_one_84 : decode cX4_one 84 = .ok (.putfield 82, 3) := dz_181 (bX4_one_5 4 _ rfl) (bX4_one_5 5 _ rfl) (bX4_one_5 6 _ rfl)
theorem dX4_one_87 : decode cX4_one 87 = .ok (.aload_n 1, 1) := dz_43 (bX4_one_5 7 _ rfl)
theorem dX4_one_88 : decode cX4_one 88 = .ok (.areturn, 1) := dz_176 (bX4_one_5 8 _ rfl)
theorem dX4_one_89 : decode cX4_one 89 = .ok (.aload_n 0, 1) := dz_42 (bX4_one_5 9 _ rfl)
theorem dX4_one_90 : decode cX4_one 90 = .ok (.invokevirtual 321, 3) := dz_182 (bX4_one_5 10 _ rfl) (bX4_one_5 11 _ rfl) (bX4_one_5 12 _ rfl)
theorem dX4_one_93 : decode cX4_one 93 = .ok (.astore_n 1, 1) := dz_76 (bX4_one_5 13 _ rfl)
theorem dX4_one_94 : decode cX4_one 94 = .ok (.iconst 1, 1) := dz_4 (bX4_one_5 14 _ rfl)
theorem dX4_one_95 : decode cX4_one 95 = .ok (.istore_n 2, 1) := dz_61 (bX4_one_5 15 _ rfl)
theorem dX4_one_96 : decode cX4_one 96 = .ok (.iload_n 2, 1) := dz_28 (bX4_one_6 0 _ rfl)
theorem dX4_one_97 : decode cX4_one 97 = .ok (.ifCond .eq 139, 3) := dz_153 (bX4_one_6 1 _ rfl) (bX4_one_6 2 _ rfl) (bX4_one_6 3 _ rfl)
theorem dX4_one_100 : decode cX4_one 100 = .ok (.aload_n 0, 1) := dz_42 (bX4_one_6 4 _ rfl)
theorem dX4_one_101 : decode cX4_one 101 = .ok (.ldc_w 323, 3) := dz_19 (bX4_one_6 5 _ rfl) (bX4_one_6 6 _ rfl) (bX4_one_6 7 _ rfl)
theorem dX4_one_104 : decode cX4_one 104 = .ok (.invokevirtual 76, 3) := dz_182 (bX4_one_6 8 _ rfl) (bX4_one_6 9 _ rfl) (bX4_one_6 10 _ rfl)
theorem dX4_one_107 : decode cX4_one 107 = .ok (.ifCond .eq 56, 3) := dz_153 (bX4_one_6 11 _ rfl) (bX4_one_6 12 _ rfl) (bX4_one_6 13 _ rfl)
theorem dX4_one_110 : decode cX4_one 110 = .ok (.aload_n 0, 1) := dz_42 (bX4_one_6 14 _ rfl)
theorem dX4_one_111 : decode cX4_one 111 = .ok (.invokevirtual 79, 3) := dz_182 (bX4_one_6 15 _ rfl) (bX4_one_7 0 _ rfl) (bX4_one_7 1 _ rfl)
theorem dX4_one_114 : decode cX4_one 114 = .ok (.bipush 10, 2) := dz_16 (bX4_one_7 2 _ rfl) (bX4_one_7 3 _ rfl)
theorem dX4_one_116 : decode cX4_one 116 = .ok (.aload_n 0, 1) := dz_42 (bX4_one_7 4 _ rfl)
theorem dX4_one_117 : decode cX4_one 117 = .ok (.invokevirtual 126, 3) := dz_182 (bX4_one_7 5 _ rfl) (bX4_one_7 6 _ rfl) (bX4_one_7 7 _ rfl)
theorem dX4_one_120 : decode cX4_one 120 = .ok (.aload_n 1, 1) := dz_43 (bX4_one_7 8 _ rfl)
theorem dX4_one_121 : decode cX4_one 121 = .ok (.aconst_null, 1) := dz_1 (bX4_one_7 9 _ rfl)
theorem dX4_one_122 : decode cX4_one 122 = .ok (.invokestatic 279, 3) := dz_184 (bX4_one_7 10 _ rfl) (bX4_one_7 11 _ rfl) (bX4_one_7 12 _ rfl)
theorem dX4_one_125 : decode cX4_one 125 = .ok (.astore_n 1, 1) := dz_76 (bX4_one_7 13 _ rfl)
theorem dX4_one_126 : decode cX4_one 126 = .ok (.aload_n 0, 1) := dz_42 (bX4_one_7 14 _ rfl)
theorem dX4_one_127 : decode cX4_one 127 = .ok (.ldc 171, 2) := dz_18 (bX4_one_7 15 _ rfl) (bX4_one_8 0 _ rfl)
theorem dX4_one_129 : decode cX4_one 129 = .ok (.invokevirtual 76, 3) := dz_182 (bX4_one_8 1 _ rfl) (bX4_one_8 2 _ rfl) (bX4_one_8 3 _ rfl)
theorem dX4_one_132 : decode cX4_one 132 = .ok (.ifCond .eq (-36), 3) := dz_153 (bX4_one_8 4 _ rfl) (bX4_one_8 5 _ rfl) (bX4_one_8 6 _ rfl)
theorem dX4_one_135 : decode cX4_one 135 = .ok (.bipush 11, 2) := dz_16 (bX4_one_8 7 _ rfl) (bX4_one_8 8 _ rfl)
theorem dX4_one_137 : decode cX4_one 137 = .ok (.aload_n 1, 1) := dz_43 (bX4_one_8 9 _ rfl)
theorem dX4_one_138 : decode cX4_one 138 = .ok (.getfield 325, 3) := dz_180 (bX4_one_8 10 _ rfl) (bX4_one_8 11 _ rfl) (bX4_one_8 12 _ rfl)
theorem dX4_one_141 : decode cX4_one 141 = .ok (.aload_n 1, 1) := dz_43 (bX4_one_8 13 _ rfl)
theorem dX4_one_142 : decode cX4_one 142 = .ok (.getfield 268, 3) := dz_180 (bX4_one_8 14 _ rfl) (bX4_one_8 15 _ rfl) (bX4_one_9 0 _ rfl)
theorem dX4_one_145 : decode cX4_one 145 = .ok (.aconst_null, 1) := dz_1 (bX4_one_9 1 _ rfl)
theorem dX4_one_146 : decode cX4_one 146 = .ok (.invokestatic 279, 3) := dz_184 (bX4_one_9 2 _ rfl) (bX4_one_9 3 _ rfl) (bX4_one_9 4 _ rfl)
theorem dX4_one_149 : decode cX4_one 149 = .ok (.astore_n 3, 1) := dz_78 (bX4_one_9 5 _ rfl)
theorem dX4_one_150 : decode cX4_one 150 = .ok (.aload_n 3, 1) := dz_45 (bX4_one_9 6 _ rfl)
theorem dX4_one_151 : decode cX4_one 151 = .ok (.aload_n 0, 1) := dz_42 (bX4_one_9 7 _ rfl)
theorem dX4_one_152 : decode cX4_one 152 = .ok (.invokevirtual 328, 3) := dz_182 (bX4_one_9 8 _ rfl) (bX4_one_9 9 _ rfl) (bX4_one_9 10 _ rfl)
theorem dX4_one_155 : decode cX4_one 155 = .ok (.putfield 332, 3) := dz_181 (bX4_one_9 11 _ rfl) (bX4_one_9 12 _ rfl) (bX4_one_9 13 _ rfl)
theorem dX4_one_158 : decode cX4_one 158 = .ok (.aload_n 3, 1) := dz_45 (bX4_one_9 14 _ rfl)
theorem dX4_one_159 : decode cX4_one 159 = .ok (.astore_n 1, 1) := dz_76 (bX4_one_9 15 _ rfl)
theorem dX4_one_160 : decode cX4_one 160 = .ok (.goto (-64), 3) := dz_167 (bX4_one_10 0 _ rfl) (bX4_one_10 1 _ rfl) (bX4_one_10 2 _ rfl)
theorem dX4_one_163 : decode cX4_one 163 = .ok (.aload_n 0, 1) := dz_42 (bX4_one_10 3 _ rfl)
theorem dX4_one_164 : decode cX4_one 164 = .ok (.ldc_w 335, 3) := dz_19 (bX4_one_10 4 _ rfl) (bX4_one_10 5 _ rfl) (bX4_one_10 6 _ rfl)
theorem dX4_one_167 : decode cX4_one 167 = .ok (.invokevirtual 76, 3) := dz_182 (bX4_one_10 7 _ rfl) (bX4_one_10 8 _ rfl) (bX4_one_10 9 _ rfl)
theorem dX4_one_170 : decode cX4_one 170 = .ok (.ifCond .eq 32, 3) := dz_153 (bX4_one_10 10 _ rfl) (bX4_one_10 11 _ rfl) (bX4_one_10 12 _ rfl)
theorem dX4_one_173 : decode cX4_one 173 = .ok (.aload_n 0, 1) := dz_42 (bX4_one_10 13 _ rfl)
theorem dX4_one_174 : decode cX4_one 174 = .ok (.ldc_w 335, 3) := dz_19 (bX4_one_10 14 _ rfl) (bX4_one_10 15 _ rfl) (bX4_one_11 0 _ rfl)
theorem dX4_one_177 : decode cX4_one 177 = .ok (.invokevirtual 134, 3) := dz_182 (bX4_one_11 1 _ rfl) (bX4_one_11 2 _ rfl) (bX4_one_11 3 _ rfl)
theorem dX4_one_180 : decode cX4_one 180 = .ok (.bipush 12, 2) := dz_16 (bX4_one_11 4 _ rfl) (bX4_one_11 5 _ rfl)
theorem dX4_one_182 : decode cX4_one 182 = .ok (.iconst 0, 1) := dz_3 (bX4_one_11 6 _ rfl)
theorem dX4_one_183 : decode cX4_one 183 = .ok (.aload_n 1, 1) := dz_43 (bX4_one_11 7 _ rfl)
theorem dX4_one_184 : decode cX4_one 184 = .ok (.aload_n 0, 1) := dz_42 (bX4_one_11 8 _ rfl)
theorem dX4_one_185 : decode cX4_one 185 = .ok (.invokevirtual 233, 3) := dz_182 (bX4_one_11 9 _ rfl) (bX4_one_11 10 _ rfl) (bX4_one_11 11 _ rfl)
theorem dX4_one_188 : decode cX4_one 188 = .ok (.invokestatic 279, 3) := dz_184 (bX4_one_11 12 _ rfl) (bX4_one_11 13 _ rfl) (bX4_one_11 14 _ rfl)
theorem dX4_one_191 : decode cX4_one 191 = .ok (.astore_n 1, 1) := dz_76 (bX4_one_11 15 _ rfl)
theorem dX4_one_192 : decode cX4_one 192 = .ok (.aload_n 0, 1) := dz_42 (bX4_one_12 0 _ rfl)
theorem dX4_one_193 : decode cX4_one 193 = .ok (.ldc_w 337, 3) := dz_19 (bX4_one_12 1 _ rfl) (bX4_one_12 2 _ rfl) (bX4_one_12 3 _ rfl)
theorem dX4_one_196 : decode cX4_one 196 = .ok (.invokevirtual 146, 3) := dz_182 (bX4_one_12 4 _ rfl) (bX4_one_12 5 _ rfl) (bX4_one_12 6 _ rfl)
theorem dX4_one_199 : decode cX4_one 199 = .ok (.goto (-103), 3) := dz_167 (bX4_one_12 7 _ rfl) (bX4_one_12 8 _ rfl) (bX4_one_12 9 _ rfl)
theorem dX4_one_202 : decode cX4_one 202 = .ok (.aload_n 0, 1) := dz_42 (bX4_one_12 10 _ rfl)
theorem dX4_one_203 : decode cX4_one 203 = .ok (.ldc_w 339, 3) := dz_19 (bX4_one_12 11 _ rfl) (bX4_one_12 12 _ rfl) (bX4_one_12 13 _ rfl)
theorem dX4_one_206 : decode cX4_one 206 = .ok (.invokevirtual 76, 3) := dz_182 (bX4_one_12 14 _ rfl) (bX4_one_12 15 _ rfl) (bX4_one_13 0 _ rfl)
theorem dX4_one_209 : decode cX4_one 209 = .ok (.ifCond .eq 22, 3) := dz_153 (bX4_one_13 1 _ rfl) (bX4_one_13 2 _ rfl) (bX4_one_13 3 _ rfl)
theorem dX4_one_212 : decode cX4_one 212 = .ok (.aload_n 0, 1) := dz_42 (bX4_one_13 4 _ rfl)
theorem dX4_one_213 : decode cX4_one 213 = .ok (.invokevirtual 79, 3) := dz_182 (bX4_one_13 5 _ rfl) (bX4_one_13 6 _ rfl) (bX4_one_13 7 _ rfl)
theorem dX4_one_216 : decode cX4_one 216 = .ok (.bipush 13, 2) := dz_16 (bX4_one_13 8 _ rfl) (bX4_one_13 9 _ rfl)
theorem dX4_one_218 : decode cX4_one 218 = .ok (.aload_n 0, 1) := dz_42 (bX4_one_13 10 _ rfl)
theorem dX4_one_219 : decode cX4_one 219 = .ok (.invokevirtual 126, 3) := dz_182 (bX4_one_13 11 _ rfl) (bX4_one_13 12 _ rfl) (bX4_one_13 13 _ rfl)
theorem dX4_one_222 : decode cX4_one 222 = .ok (.aload_n 1, 1) := dz_43 (bX4_one_13 14 _ rfl)
theorem dX4_one_223 : decode cX4_one 223 = .ok (.aconst_null, 1) := dz_1 (bX4_one_13 15 _ rfl)
theorem dX4_one_224 : decode cX4_one 224 = .ok (.invokestatic 279, 3) := dz_184 (bX4_one_14 0 _ rfl) (bX4_one_14 1 _ rfl) (bX4_one_14 2 _ rfl)
theorem dX4_one_227 : decode cX4_one 227 = .ok (.astore_n 1, 1) := dz_76 (bX4_one_14 3 _ rfl)
theorem dX4_one_228 : decode cX4_one 228 = .ok (.goto (-132), 3) := dz_167 (bX4_one_14 4 _ rfl) (bX4_one_14 5 _ rfl) (bX4_one_14 6 _ rfl)
theorem dX4_one_231 : decode cX4_one 231 = .ok (.iconst 0, 1) := dz_3 (bX4_one_14 7 _ rfl)
theorem dX4_one_232 : decode cX4_one 232 = .ok (.istore_n 2, 1) := dz_61 (bX4_one_14 8 _ rfl)
theorem dX4_one_233 : decode cX4_one 233 = .ok (.goto (-137), 3) := dz_167 (bX4_one_14 9 _ rfl) (bX4_one_14 10 _ rfl) (bX4_one_14 11 _ rfl)
theorem dX4_one_236 : decode cX4_one 236 = .ok (.aload_n 1, 1) := dz_43 (bX4_one_14 12 _ rfl)
theorem dX4_one_237 : decode cX4_one 237 = .ok (.areturn, 1) := dz_176 (bX4_one_14 13 _ rfl)
def c_X4_one_66 (rc : Nat → Nat → ch_W → Option (Except Nat (Option Nat) × ch_W)) (g : State) (t0 : Nat) (x1 : Option Nat) (y0 : Nat) (y1 : Nat) (w : ch_W) : Option (Except Nat (Option Nat) × ch_W) := (ch_rc w (some y1) 5).bind fun _ => ch_tb (c_X4_opens g y1 (some y0) w) (fun a w => (.error a, w)) fun _ w3 => (ch_rc w3 (some t0) 5).bind fun _ => ch_tb (rc 6 t0 w3) (fun a w => (.error a, w)) fun v5 w6 => (ch_pR w6 x1 11 fX10_right v5).bind fun w7 => (ch_gI w7 (some t0) 5 fX4_open).bind fun v8 => (ch_pI w7 (some t0) 5 fX4_open (v8 - 1)).bind fun w9 => some ((.ok x1, w9))
theorem s_X4_one_66 {g : State} {d : Nat} {rc : Nat → Nat → ch_W → Option (Except Nat (Option Nat) × ch_W)} (hr0 : ∀ {t0 : Nat} {w : ch_W} {p : Except Nat (Option Nat) × ch_W} {Q : Outcome → ch_W → Prop}, rc 0 t0 w = some p → ch_xR Q p → ch_CT g true yX4_value (d + 12) [.ref t0] (w) Q) (hr6 : ∀ {t0 : Nat} {w : ch_W} {p : Except Nat (Option Nat) × ch_W} {Q : Outcome → ch_W → Prop}, rc 6 t0 w = some p → ch_xR Q p → ch_CT g true yX4_one (d + 12) [.ref t0] (w) Q) (hr7 : ∀ {t0 : Nat} {w : ch_W} {p : Except Nat (Option Nat) × ch_W} {Q : Outcome → ch_W → Prop}, rc 7 t0 w = some p → ch_xR Q p → ch_CT g true yX4_first (d + 12) [.ref t0] (w) Q) (hr8 : ∀ {t0 : Nat} {w : ch_W} {p : Except Nat (Option Nat) × ch_W} {Q : Outcome → ch_W → Prop}, rc 8 t0 w = some p → ch_xR Q p → ch_CT g true yX4_arguments (d + 12) [.ref t0] (w) Q)  {t0 : Nat} {x1 : Option Nat} {y0 : Nat} {y1 : Nat} {w : ch_W} {res : Except Nat (Option Nat) × ch_W} {Q : Outcome → ch_W → Prop} (h : c_X4_one_66 rc g t0 x1 y0 y1 w = some res) (hk : (ch_xR Q) res) : ch_FT g true mX4_one (d + 13) 66 [some (va_rf (some t0)), some (va_rf x1), none, none] [va_rf (some y0), va_rf (some y1)] (w) Q := by
  unfold c_X4_one_66 at h
  obtain ⟨_, hb1, h⟩ := ch_bd h
  refine ch_iv yX4_opens prog_7_method_10_code 2 none (ci := 4) (q := (RX4, TX4, 9)) (b := y1) (d' := 10) (av := [va_rf (some y0)]) (rest := []) rfl dX4_one_66 q739 q741 rfl qs14 q742 can_X4_opens (Nat.le_trans (Nat.le_of_ble_eq_true rfl) (Nat.le_add_left 13 d)) (Nat.le_of_ble_eq_true rfl) (ch_rts hb1) (cp_tV h (fun p hp Q' hq => s_X4_opens hp hq) (fun w3 h => ?_) (fun a w1 h => ?_))
  · obtain ⟨_, hb4, h⟩ := ch_bd h
    refine ch_aload_n 1 x1 dX4_one_69 rfl (ch_aload_n 0 (some t0) dX4_one_70 rfl (ch_iv yX4_one prog_7_method_34_code 4 (some (.object "ClassHouse$Value")) (ci := 4) (q := (RX4, TX4, 9)) (b := t0) (d' := (d + 12)) (av := []) (rest := [va_rf x1]) rfl dX4_one_71 q932 q934 rfl qs29 q935 can_X4_one (Nat.le_refl _) (ch_hw (Nat.le_of_ble_eq_true rfl)) (ch_rts hb4) (cp_tR h (fun p hp Q' hq => hr6 hp hq) (fun v5 w6 h => ?_) (fun a w1 h => ?_))))
    · refine cp_pR (ci := 10) (k := 2) dX4_one_74 fl_X4_271 rfl rfl rfl h (fun w7 h => ?_)
      refine ch_aload_n 0 (some t0) dX4_one_77 rfl (ch_dup dX4_one_78 (ch_cat _) (cp_gI (ci := 4) (k := 5) dX4_one_79 fl_X4_82 rfl h (fun v8 h => ?_)))
      refine ch_iconst _ 1 dX4_one_82 rfl (ch_isub _ _ dX4_one_83 (cp_pI (ci := 4) (k := 5) dX4_one_84 fl_X4_82 rfl rfl rfl h (fun w9 h => ?_)))
      obtain rfl := Option.some.inj h
      exact ch_aload_n 1 x1 dX4_one_87 rfl (ch_areturn x1 dX4_one_88 rfl (Or.inl ⟨_, rfl⟩) hk)
    · subst h
      exact ch_th rfl hk
  · subst h
    exact ch_th rfl hk

def c_X4_one_41 (rc : Nat → Nat → ch_W → Option (Except Nat (Option Nat) × ch_W)) (g : State) (t0 : Nat)  (y0 : Int32) (y1 : Nat) (y2 : Nat) (w : ch_W) : Option (Except Nat (Option Nat) × ch_W) := (c_X10_init y1 y0 0 w).bind fun p1 => (ch_rc p1 (some t0) 5).bind fun _ => (c_X4_isThe g t0 (some (ch_sa g RX4 308)) p1).bind fun v4 => if v4 = 0 then (c_X4_one_66 rc g t0 (some y2) (ch_sa g RX4 319) t0 p1) else (c_X4_one_66 rc g t0 (some y2) (ch_sa g RX4 308) t0 p1)
theorem s_X4_one_41 {g : State} {d : Nat} {rc : Nat → Nat → ch_W → Option (Except Nat (Option Nat) × ch_W)} (hr0 : ∀ {t0 : Nat} {w : ch_W} {p : Except Nat (Option Nat) × ch_W} {Q : Outcome → ch_W → Prop}, rc 0 t0 w = some p → ch_xR Q p → ch_CT g true yX4_value (d + 12) [.ref t0] (w) Q) (hr6 : ∀ {t0 : Nat} {w : ch_W} {p : Except Nat (Option Nat) × ch_W} {Q : Outcome → ch_W → Prop}, rc 6 t0 w = some p → ch_xR Q p → ch_CT g true yX4_one (d + 12) [.ref t0] (w) Q) (hr7 : ∀ {t0 : Nat} {w : ch_W} {p : Except Nat (Option Nat) × ch_W} {Q : Outcome → ch_W → Prop}, rc 7 t0 w = some p → ch_xR Q p → ch_CT g true yX4_first (d + 12) [.ref t0] (w) Q) (hr8 : ∀ {t0 : Nat} {w : ch_W} {p : Except Nat (Option Nat) × ch_W} {Q : Outcome → ch_W → Prop}, rc 8 t0 w = some p → ch_xR Q p → ch_CT g true yX4_arguments (d + 12) [.ref t0] (w) Q)  {t0 : Nat} {y0 : Int32} {y1 : Nat} {y2 : Nat} {w : ch_W} {res : Except Nat (Option Nat) × ch_W} {Q : Outcome → ch_W → Prop} (h : c_X4_one_41 rc g t0 y0 y1 y2 w = some res) (hk : (ch_xR Q) res) : ch_FT g true mX4_one (d + 13) 41 [some (va_rf (some t0)), none, none, none] [.int y0, va_rf (some y1), va_rf (some y2)] (w) Q := by
  unfold c_X4_one_41 at h
  obtain ⟨p1, hp2, h⟩ := ch_bd h
  refine ch_iconst _ 0 dX4_one_41 rfl (ch_ii yX10_init prog_12_method_1_code 3 (b := y1) (d' := 2) (av := [.int y0, .int 0]) (rest := [va_rf (some y2)]) rfl dX4_one_42 rfl q940 q941 q942 can_X10_init (Nat.le_trans (Nat.le_of_ble_eq_true rfl) (Nat.le_add_left 13 d)) (ch_hw (Nat.le_of_ble_eq_true rfl)) (cp_kV (w1 := p1) (fun Q' hq => s_X10_init hp2 hq) ?_))
  obtain ⟨_, hb3, h⟩ := ch_bd h
  obtain ⟨v4, hp5, h⟩ := ch_bd h
  refine ch_astore_n 1 (some y2) (ls1 := [some (va_rf (some t0)), some (va_rf (some y2)), none, none]) dX4_one_45 (Nat.le_of_ble_eq_true rfl) rfl (ch_aload_n 0 (some t0) dX4_one_46 rfl (ch_aload_n 0 (some t0) dX4_one_47 rfl (ch_ldcSw q936 dX4_one_48 (ch_iv yX4_isThe prog_7_method_8_code 2 (some .boolean) (ci := 4) (q := (RX4, TX4, 9)) (b := t0) (d' := 7) (av := [va_rf (some (ch_sa g RX4 308))]) (rest := [va_rf (some t0)]) rfl dX4_one_51 q593 q595 rfl qs7 q596 can_X4_isThe (Nat.le_trans (Nat.le_of_ble_eq_true rfl) (Nat.le_add_left 13 d)) (ch_hw (Nat.le_of_ble_eq_true rfl)) (ch_rts hb3) (cp_kI (v := v4) (w1 := p1) (fun Q' hq => s_X4_isThe hp5 hq) ?_)))))
  refine cp_if_eq _ (tgt := 63) dX4_one_54 rfl h (fun h => ?_) (fun h => ?_)
  · exact ch_ldcSw q937 dX4_one_63 (ch_FT.wk (ch_wS (ch_wS (ch_wN (ch_wN ch_w0)))) (s_X4_one_66 hr0 hr6 hr7 hr8 h hk))
  · exact ch_ldcSw q936 dX4_one_57 (ch_goto 66 dX4_one_60 rfl (ch_FT.wk (ch_wS (ch_wS (ch_wN (ch_wN ch_w0)))) (s_X4_one_66 hr0 hr6 hr7 hr8 h hk)))

def c_X4_one_20 (rc : Nat → Nat → ch_W → Option (Except Nat (Option Nat) × ch_W)) (g : State) (t0 : Nat)   (w : ch_W) : Option (Except Nat (Option Nat) × ch_W) := (ch_nO w 11 6).bind fun w1 => (ch_rc w1 (some t0) 5).bind fun _ => (c_X4_isThe g t0 (some (ch_sa g RX4 308)) w1).bind fun v3 => if v3 = 0 then (c_X4_one_41 rc g t0 9 (ch_nx w) (ch_nx w) w1) else (c_X4_one_41 rc g t0 8 (ch_nx w) (ch_nx w) w1)
theorem s_X4_one_20 {g : State} {d : Nat} {rc : Nat → Nat → ch_W → Option (Except Nat (Option Nat) × ch_W)} (hr0 : ∀ {t0 : Nat} {w : ch_W} {p : Except Nat (Option Nat) × ch_W} {Q : Outcome → ch_W → Prop}, rc 0 t0 w = some p → ch_xR Q p → ch_CT g true yX4_value (d + 12) [.ref t0] (w) Q) (hr6 : ∀ {t0 : Nat} {w : ch_W} {p : Except Nat (Option Nat) × ch_W} {Q : Outcome → ch_W → Prop}, rc 6 t0 w = some p → ch_xR Q p → ch_CT g true yX4_one (d + 12) [.ref t0] (w) Q) (hr7 : ∀ {t0 : Nat} {w : ch_W} {p : Except Nat (Option Nat) × ch_W} {Q : Outcome → ch_W → Prop}, rc 7 t0 w = some p → ch_xR Q p → ch_CT g true yX4_first (d + 12) [.ref t0] (w) Q) (hr8 : ∀ {t0 : Nat} {w : ch_W} {p : Except Nat (Option Nat) × ch_W} {Q : Outcome → ch_W → Prop}, rc 8 t0 w = some p → ch_xR Q p → ch_CT g true yX4_arguments (d + 12) [.ref t0] (w) Q)  {t0 : Nat} {w : ch_W} {res : Except Nat (Option Nat) × ch_W} {Q : Outcome → ch_W → Prop} (h : c_X4_one_20 rc g t0 w = some res) (hk : (ch_xR Q) res) : ch_FT g true mX4_one (d + 13) 20 [some (va_rf (some t0)), none, none, none] [] (w) Q := by
  unfold c_X4_one_20 at h
  refine cp_new (ci := 10) (n := 6) (q := (RX10, TX10, 6)) dX4_one_20 rfl q938 q939 q225 h (fun w1 h => ?_)
  obtain ⟨_, hb2, h⟩ := ch_bd h
  obtain ⟨v3, hp4, h⟩ := ch_bd h
  refine ch_dup dX4_one_23 (ch_cat _) (ch_aload_n 0 (some t0) dX4_one_24 rfl (ch_ldcSw q936 dX4_one_25 (ch_iv yX4_isThe prog_7_method_8_code 2 (some .boolean) (ci := 4) (q := (RX4, TX4, 9)) (b := t0) (d' := 7) (av := [va_rf (some (ch_sa g RX4 308))]) (rest := [va_rf (some (ch_nx w)), va_rf (some (ch_nx w))]) rfl dX4_one_28 q593 q595 rfl qs7 q596 can_X4_isThe (Nat.le_trans (Nat.le_of_ble_eq_true rfl) (Nat.le_add_left 13 d)) (ch_hw (Nat.le_of_ble_eq_true rfl)) (ch_rts hb2) (cp_kI (v := v3) (w1 := w1) (fun Q' hq => s_X4_isThe hp4 hq) ?_))))
  refine cp_if_eq _ (tgt := 39) dX4_one_31 rfl h (fun h => ?_) (fun h => ?_)
  · exact ch_bipush _ 9 dX4_one_39 rfl (ch_FT.wk (ch_wS (ch_wN (ch_wN (ch_wN ch_w0)))) (s_X4_one_41 hr0 hr6 hr7 hr8 h hk))
  · exact ch_bipush _ 8 dX4_one_34 rfl (ch_goto 41 dX4_one_36 rfl (ch_FT.wk (ch_wS (ch_wN (ch_wN (ch_wN ch_w0)))) (s_X4_one_41 hr0 hr6 hr7 hr8 h hk)))

def c_X4_one_96 (rc : Nat → Nat → ch_W → Option (Except Nat (Option Nat) × ch_W)) (g : State) (t0 : Nat) (x1 : Option Nat) (x2 : Int32)  (w : ch_W) : Option (((Option Nat) × Int32 × ch_W) ⊕ (Except Nat (Option Nat) × ch_W)) := if x2 = 0 then (some (.inr ((.ok x1, w)))) else ((ch_rc w (some t0) 5).bind fun _ => (c_X4_isThe g t0 (some (ch_sa g RX4 323)) w).bind fun v2 => if v2 = 0 then ((ch_rc w (some t0) 5).bind fun _ => (c_X4_isThe g t0 (some (ch_sa g RX4 335)) w).bind fun v5 => if v5 = 0 then ((ch_rc w (some t0) 5).bind fun _ => (c_X4_isThe g t0 (some (ch_sa g RX4 339)) w).bind fun v8 => if v8 = 0 then (some (.inl (x1, 0, w))) else ((ch_rc w (some t0) 5).bind fun _ => ch_tb (c_X4_next g t0 w) (fun a w => .inr ((.error a, w))) fun _ w12 => (ch_rc w12 (some t0) 5).bind fun _ => ch_tb (c_X4_nextName g t0 w12) (fun a w => .inr ((.error a, w))) fun v14 w15 => (c_X4_joined 13 v14 x1 none w15).bind fun p16 => some (.inl (p16.1, x2, p16.2)))) else ((ch_rc w (some t0) 5).bind fun _ => ch_tb (c_X4_opens g t0 (some (ch_sa g RX4 335)) w) (fun a w => .inr ((.error a, w))) fun _ w20 => (ch_rc w20 (some t0) 5).bind fun _ => ch_tb (rc 0 t0 w20) (fun a w => .inr ((.error a, w))) fun v22 w23 => (c_X4_joined 12 0 x1 v22 w23).bind fun p24 => (ch_rc p24.2 (some t0) 5).bind fun _ => ch_tb (c_X4_closes g t0 (some (ch_sa g RX4 337)) p24.2) (fun a w => .inr ((.error a, w))) fun _ w28 => some (.inl (p24.1, x2, w28)))) else ((ch_rc w (some t0) 5).bind fun _ => ch_tb (c_X4_next g t0 w) (fun a w => .inr ((.error a, w))) fun _ w31 => (ch_rc w31 (some t0) 5).bind fun _ => ch_tb (c_X4_nextName g t0 w31) (fun a w => .inr ((.error a, w))) fun v33 w34 => (c_X4_joined 10 v33 x1 none w34).bind fun p35 => (ch_rc p35.2 (some t0) 5).bind fun _ => (c_X4_isThe g t0 (some (ch_sa g RX4 171)) p35.2).bind fun v38 => if v38 = 0 then (some (.inl (p35.1, x2, p35.2))) else ((ch_gI p35.2 p35.1 11 fX10_what).bind fun v40 => (ch_gR p35.2 p35.1 11 fX10_left).bind fun v41 => (c_X4_joined 11 v40 v41 none p35.2).bind fun p42 => (ch_rc p42.2 (some t0) 5).bind fun _ => ch_tb (rc 8 t0 p42.2) (fun a w => .inr ((.error a, w))) fun v45 w46 => (ch_pR w46 p42.1 11 fX10_arguments v45).bind fun w47 => some (.inl (p42.1, x2, w47)))))
theorem s_X4_one_96 {g : State} {d : Nat} {rc : Nat → Nat → ch_W → Option (Except Nat (Option Nat) × ch_W)} (hr0 : ∀ {t0 : Nat} {w : ch_W} {p : Except Nat (Option Nat) × ch_W} {Q : Outcome → ch_W → Prop}, rc 0 t0 w = some p → ch_xR Q p → ch_CT g true yX4_value (d + 12) [.ref t0] (w) Q) (hr6 : ∀ {t0 : Nat} {w : ch_W} {p : Except Nat (Option Nat) × ch_W} {Q : Outcome → ch_W → Prop}, rc 6 t0 w = some p → ch_xR Q p → ch_CT g true yX4_one (d + 12) [.ref t0] (w) Q) (hr7 : ∀ {t0 : Nat} {w : ch_W} {p : Except Nat (Option Nat) × ch_W} {Q : Outcome → ch_W → Prop}, rc 7 t0 w = some p → ch_xR Q p → ch_CT g true yX4_first (d + 12) [.ref t0] (w) Q) (hr8 : ∀ {t0 : Nat} {w : ch_W} {p : Except Nat (Option Nat) × ch_W} {Q : Outcome → ch_W → Prop}, rc 8 t0 w = some p → ch_xR Q p → ch_CT g true yX4_arguments (d + 12) [.ref t0] (w) Q)  {t0 : Nat} {x1 : Option Nat} {x2 : Int32} {w : ch_W} {res : ((Option Nat) × Int32 × ch_W) ⊕ (Except Nat (Option Nat) × ch_W)} {Q : Outcome → ch_W → Prop} (h : c_X4_one_96 rc g t0 x1 x2 w = some res) (hk : (ch_sm (fun s => ch_FT g true mX4_one (d + 13) 96 [some (va_rf (some t0)), some (va_rf s.1), some (.int s.2.1), none] [] (s.2.2) Q) (ch_xR Q)) res) : ch_FT g true mX4_one (d + 13) 96 [some (va_rf (some t0)), some (va_rf x1), some (.int x2), none] [] (w) Q := by
  unfold c_X4_one_96 at h
  refine ch_iload_n 2 _ dX4_one_96 rfl (cp_if_eq _ (tgt := 236) dX4_one_97 rfl h (fun h => ?_) (fun h => ?_))
  · obtain rfl := Option.some.inj h
    exact ch_aload_n 1 x1 dX4_one_236 rfl (ch_areturn x1 dX4_one_237 rfl (Or.inl ⟨_, rfl⟩) hk)
  · obtain ⟨_, hb1, h⟩ := ch_bd h
    obtain ⟨v2, hp3, h⟩ := ch_bd h
    refine ch_aload_n 0 (some t0) dX4_one_100 rfl (ch_ldcSw q996 dX4_one_101 (ch_iv yX4_isThe prog_7_method_8_code 2 (some .boolean) (ci := 4) (q := (RX4, TX4, 9)) (b := t0) (d' := 7) (av := [va_rf (some (ch_sa g RX4 323))]) (rest := []) rfl dX4_one_104 q593 q595 rfl qs7 q596 can_X4_isThe (Nat.le_trans (Nat.le_of_ble_eq_true rfl) (Nat.le_add_left 13 d)) (Nat.le_of_ble_eq_true rfl) (ch_rts hb1) (cp_kI (v := v2) (w1 := w) (fun Q' hq => s_X4_isThe hp3 hq) ?_)))
    refine cp_if_eq _ (tgt := 163) dX4_one_107 rfl h (fun h => ?_) (fun h => ?_)
    · obtain ⟨_, hb4, h⟩ := ch_bd h
      obtain ⟨v5, hp6, h⟩ := ch_bd h
      refine ch_aload_n 0 (some t0) dX4_one_163 rfl (ch_ldcSw q976 dX4_one_164 (ch_iv yX4_isThe prog_7_method_8_code 2 (some .boolean) (ci := 4) (q := (RX4, TX4, 9)) (b := t0) (d' := 7) (av := [va_rf (some (ch_sa g RX4 335))]) (rest := []) rfl dX4_one_167 q593 q595 rfl qs7 q596 can_X4_isThe (Nat.le_trans (Nat.le_of_ble_eq_true rfl) (Nat.le_add_left 13 d)) (Nat.le_of_ble_eq_true rfl) (ch_rts hb4) (cp_kI (v := v5) (w1 := w) (fun Q' hq => s_X4_isThe hp6 hq) ?_)))
      refine cp_if_eq _ (tgt := 202) dX4_one_170 rfl h (fun h => ?_) (fun h => ?_)
      · obtain ⟨_, hb7, h⟩ := ch_bd h
        obtain ⟨v8, hp9, h⟩ := ch_bd h
        refine ch_aload_n 0 (some t0) dX4_one_202 rfl (ch_ldcSw q1000 dX4_one_203 (ch_iv yX4_isThe prog_7_method_8_code 2 (some .boolean) (ci := 4) (q := (RX4, TX4, 9)) (b := t0) (d' := 7) (av := [va_rf (some (ch_sa g RX4 339))]) (rest := []) rfl dX4_one_206 q593 q595 rfl qs7 q596 can_X4_isThe (Nat.le_trans (Nat.le_of_ble_eq_true rfl) (Nat.le_add_left 13 d)) (Nat.le_of_ble_eq_true rfl) (ch_rts hb7) (cp_kI (v := v8) (w1 := w) (fun Q' hq => s_X4_isThe hp9 hq) ?_)))
        refine cp_if_eq _ (tgt := 231) dX4_one_209 rfl h (fun h => ?_) (fun h => ?_)
        · refine ch_iconst _ 0 dX4_one_231 rfl (ch_istore_n 2 _ (ls1 := [some (va_rf (some t0)), some (va_rf x1), some (.int 0), none]) dX4_one_232 (Nat.le_of_ble_eq_true rfl) (ch_s1o rfl rfl) (ch_goto 96 dX4_one_233 rfl (ch_FT.wk (ch_wS (ch_wS (ch_wS (ch_wN ch_w0)))) ?_)))
          obtain rfl := Option.some.inj h
          exact hk
        · obtain ⟨_, hb10, h⟩ := ch_bd h
          refine ch_aload_n 0 (some t0) dX4_one_212 rfl (ch_iv yX4_next prog_7_method_5_code 3 none (ci := 4) (q := (RX4, TX4, 9)) (b := t0) (d' := 9) (av := []) (rest := []) rfl dX4_one_213 q497 q499 rfl qs2 q500 can_X4_next (Nat.le_trans (Nat.le_of_ble_eq_true rfl) (Nat.le_add_left 13 d)) (Nat.le_of_ble_eq_true rfl) (ch_rts hb10) (cp_tV h (fun p hp Q' hq => s_X4_next hp hq) (fun w12 h => ?_) (fun a w1 h => ?_)))
          · obtain ⟨_, hb13, h⟩ := ch_bd h
            refine ch_bipush _ 13 dX4_one_216 rfl (ch_aload_n 0 (some t0) dX4_one_218 rfl (ch_iv yX4_nextName prog_7_method_16_code 2 (some .int) (ci := 4) (q := (RX4, TX4, 9)) (b := t0) (d' := 11) (av := []) (rest := [.int 13]) rfl dX4_one_219 q734 q736 rfl qs13 q737 can_X4_nextName (Nat.le_trans (Nat.le_of_ble_eq_true rfl) (Nat.le_add_left 13 d)) (ch_hw (Nat.le_of_ble_eq_true rfl)) (ch_rts hb13) (cp_tI h (fun p hp Q' hq => s_X4_nextName hp hq) (fun v14 w15 h => ?_) (fun a w1 h => ?_))))
            · obtain ⟨p16, hp17, h⟩ := ch_bd h
              refine ch_aload_n 1 x1 dX4_one_222 rfl (ch_null dX4_one_223 (ch_is yX4_joined prog_7_method_27_code 5 (some (.object "ClassHouse$Value")) (d' := 3) (av := [.int 13, .int v14, va_rf x1, va_rf none]) (rest := []) rfl dX4_one_224 q997 q998 q207 q999 can_X4_joined (Nat.le_trans (Nat.le_of_ble_eq_true rfl) (Nat.le_add_left 13 d)) (Nat.le_of_ble_eq_true rfl) (cp_kR (v := p16.1) (w1 := p16.2) (fun Q' hq => s_X4_joined hp17 hq) ?_)))
              refine ch_astore_n 1 p16.1 (ls1 := [some (va_rf (some t0)), some (va_rf p16.1), some (.int x2), none]) dX4_one_227 (Nat.le_of_ble_eq_true rfl) rfl (ch_goto 96 dX4_one_228 rfl (ch_FT.wk (ch_wS (ch_wS (ch_wS (ch_wN ch_w0)))) ?_))
              obtain rfl := Option.some.inj h
              exact hk
            · subst h
              exact ch_th rfl hk
          · subst h
            exact ch_th rfl hk
      · obtain ⟨_, hb18, h⟩ := ch_bd h
        refine ch_aload_n 0 (some t0) dX4_one_173 rfl (ch_ldcSw q976 dX4_one_174 (ch_iv yX4_opens prog_7_method_10_code 2 none (ci := 4) (q := (RX4, TX4, 9)) (b := t0) (d' := 10) (av := [va_rf (some (ch_sa g RX4 335))]) (rest := []) rfl dX4_one_177 q739 q741 rfl qs14 q742 can_X4_opens (Nat.le_trans (Nat.le_of_ble_eq_true rfl) (Nat.le_add_left 13 d)) (Nat.le_of_ble_eq_true rfl) (ch_rts hb18) (cp_tV h (fun p hp Q' hq => s_X4_opens hp hq) (fun w20 h => ?_) (fun a w1 h => ?_))))
        · obtain ⟨_, hb21, h⟩ := ch_bd h
          refine ch_bipush _ 12 dX4_one_180 rfl (ch_iconst _ 0 dX4_one_182 rfl (ch_aload_n 1 x1 dX4_one_183 rfl (ch_aload_n 0 (some t0) dX4_one_184 rfl (ch_iv yX4_value prog_7_method_28_code 2 (some (.object "ClassHouse$Value")) (ci := 4) (q := (RX4, TX4, 9)) (b := t0) (d' := (d + 12)) (av := []) (rest := [va_rf x1, .int 0, .int 12]) rfl dX4_one_185 q908 q910 rfl qs23 q911 can_X4_value (Nat.le_refl _) (ch_hw (Nat.le_of_ble_eq_true rfl)) (ch_rts hb21) (cp_tR h (fun p hp Q' hq => hr0 hp hq) (fun v22 w23 h => ?_) (fun a w1 h => ?_))))))
          · obtain ⟨p24, hp25, h⟩ := ch_bd h
            refine ch_is yX4_joined prog_7_method_27_code 5 (some (.object "ClassHouse$Value")) (d' := 3) (av := [.int 12, .int 0, va_rf x1, va_rf v22]) (rest := []) rfl dX4_one_188 q997 q998 q207 q999 can_X4_joined (Nat.le_trans (Nat.le_of_ble_eq_true rfl) (Nat.le_add_left 13 d)) (Nat.le_of_ble_eq_true rfl) (cp_kR (v := p24.1) (w1 := p24.2) (fun Q' hq => s_X4_joined hp25 hq) ?_)
            obtain ⟨_, hb26, h⟩ := ch_bd h
            refine ch_astore_n 1 p24.1 (ls1 := [some (va_rf (some t0)), some (va_rf p24.1), some (.int x2), none]) dX4_one_191 (Nat.le_of_ble_eq_true rfl) rfl (ch_aload_n 0 (some t0) dX4_one_192 rfl (ch_ldcSw q977 dX4_one_193 (ch_iv yX4_closes prog_7_method_11_code 2 none (ci := 4) (q := (RX4, TX4, 9)) (b := t0) (d' := 10) (av := [va_rf (some (ch_sa g RX4 337))]) (rest := []) rfl dX4_one_196 q847 q849 rfl qs18 q850 can_X4_closes (Nat.le_trans (Nat.le_of_ble_eq_true rfl) (Nat.le_add_left 13 d)) (Nat.le_of_ble_eq_true rfl) (ch_rts hb26) (cp_tV h (fun p hp Q' hq => s_X4_closes hp hq) (fun w28 h => ?_) (fun a w1 h => ?_)))))
            · refine ch_goto 96 dX4_one_199 rfl (ch_FT.wk (ch_wS (ch_wS (ch_wS (ch_wN ch_w0)))) ?_)
              obtain rfl := Option.some.inj h
              exact hk
            · subst h
              exact ch_th rfl hk
          · subst h
            exact ch_th rfl hk
        · subst h
          exact ch_th rfl hk
    · obtain ⟨_, hb29, h⟩ := ch_bd h
      refine ch_aload_n 0 (some t0) dX4_one_110 rfl (ch_iv yX4_next prog_7_method_5_code 3 none (ci := 4) (q := (RX4, TX4, 9)) (b := t0) (d' := 9) (av := []) (rest := []) rfl dX4_one_111 q497 q499 rfl qs2 q500 can_X4_next (Nat.le_trans (Nat.le_of_ble_eq_true rfl) (Nat.le_add_left 13 d)) (Nat.le_of_ble_eq_true rfl) (ch_rts hb29) (cp_tV h (fun p hp Q' hq => s_X4_next hp hq) (fun w31 h => ?_) (fun a w1 h => ?_)))
      · obtain ⟨_, hb32, h⟩ := ch_bd h
        refine ch_bipush _ 10 dX4_one_114 rfl (ch_aload_n 0 (some t0) dX4_one_116 rfl (ch_iv yX4_nextName prog_7_method_16_code 2 (some .int) (ci := 4) (q := (RX4, TX4, 9)) (b := t0) (d' := 11) (av := []) (rest := [.int 10]) rfl dX4_one_117 q734 q736 rfl qs13 q737 can_X4_nextName (Nat.le_trans (Nat.le_of_ble_eq_true rfl) (Nat.le_add_left 13 d)) (ch_hw (Nat.le_of_ble_eq_true rfl)) (ch_rts hb32) (cp_tI h (fun p hp Q' hq => s_X4_nextName hp hq) (fun v33 w34 h => ?_) (fun a w1 h => ?_))))
        · obtain ⟨p35, hp36, h⟩ := ch_bd h
          refine ch_aload_n 1 x1 dX4_one_120 rfl (ch_null dX4_one_121 (ch_is yX4_joined prog_7_method_27_code 5 (some (.object "ClassHouse$Value")) (d' := 3) (av := [.int 10, .int v33, va_rf x1, va_rf none]) (rest := []) rfl dX4_one_122 q997 q998 q207 q999 can_X4_joined (Nat.le_trans (Nat.le_of_ble_eq_true rfl) (Nat.le_add_left 13 d)) (Nat.le_of_ble_eq_true rfl) (cp_kR (v := p35.1) (w1 := p35.2) (fun Q' hq => s_X4_joined hp36 hq) ?_)))
          obtain ⟨_, hb37, h⟩ := ch_bd h
          obtain ⟨v38, hp39, h⟩ := ch_bd h
          refine ch_astore_n 1 p35.1 (ls1 := [some (va_rf (some t0)), some (va_rf p35.1), some (.int x2), none]) dX4_one_125 (Nat.le_of_ble_eq_true rfl) rfl (ch_aload_n 0 (some t0) dX4_one_126 rfl (ch_ldcS q839 dX4_one_127 (ch_iv yX4_isThe prog_7_method_8_code 2 (some .boolean) (ci := 4) (q := (RX4, TX4, 9)) (b := t0) (d' := 7) (av := [va_rf (some (ch_sa g RX4 171))]) (rest := []) rfl dX4_one_129 q593 q595 rfl qs7 q596 can_X4_isThe (Nat.le_trans (Nat.le_of_ble_eq_true rfl) (Nat.le_add_left 13 d)) (Nat.le_of_ble_eq_true rfl) (ch_rts hb37) (cp_kI (v := v38) (w1 := p35.2) (fun Q' hq => s_X4_isThe hp39 hq) ?_))))
          refine cp_if_eq _ (tgt := 96) dX4_one_132 rfl h (fun h => ?_) (fun h => ?_)
          · refine ch_FT.wk (ch_wS (ch_wS (ch_wS (ch_wN ch_w0)))) ?_
            obtain rfl := Option.some.inj h
            exact hk
          · refine ch_bipush _ 11 dX4_one_135 rfl (ch_aload_n 1 p35.1 dX4_one_137 rfl (cp_gI (ci := 10) (k := 4) dX4_one_138 fl_X4_325 rfl h (fun v40 h => ?_)))
            refine ch_aload_n 1 p35.1 dX4_one_141 rfl (cp_gR (ci := 10) (k := 1) dX4_one_142 fl_X4_268 rfl h (fun v41 h => ?_))
            obtain ⟨p42, hp43, h⟩ := ch_bd h
            refine ch_null dX4_one_145 (ch_is yX4_joined prog_7_method_27_code 5 (some (.object "ClassHouse$Value")) (d' := 3) (av := [.int 11, .int v40, va_rf v41, va_rf none]) (rest := []) rfl dX4_one_146 q997 q998 q207 q999 can_X4_joined (Nat.le_trans (Nat.le_of_ble_eq_true rfl) (Nat.le_add_left 13 d)) (Nat.le_of_ble_eq_true rfl) (cp_kR (v := p42.1) (w1 := p42.2) (fun Q' hq => s_X4_joined hp43 hq) ?_))
            obtain ⟨_, hb44, h⟩ := ch_bd h
            refine ch_astore_n 3 p42.1 (ls1 := [some (va_rf (some t0)), some (va_rf p35.1), some (.int x2), some (va_rf p42.1)]) dX4_one_149 (Nat.le_of_ble_eq_true rfl) rfl (ch_aload_n 3 p42.1 dX4_one_150 rfl (ch_aload_n 0 (some t0) dX4_one_151 rfl (ch_iv yX4_arguments prog_7_method_35_code 4 (some (.array (.object "ClassHouse$Value"))) (ci := 4) (q := (RX4, TX4, 9)) (b := t0) (d' := (d + 12)) (av := []) (rest := [va_rf p42.1]) rfl dX4_one_152 q978 q980 rfl qs31 q981 can_X4_arguments (Nat.le_refl _) (ch_hw (Nat.le_of_ble_eq_true rfl)) (ch_rts hb44) (cp_tR h (fun p hp Q' hq => hr8 hp hq) (fun v45 w46 h => ?_) (fun a w1 h => ?_)))))
            · refine cp_pR (ci := 10) (k := 3) dX4_one_155 fl_X4_332 rfl rfl rfl h (fun w47 h => ?_)
              refine ch_aload_n 3 p42.1 dX4_one_158 rfl (ch_astore_n 1 p42.1 (ls1 := [some (va_rf (some t0)), some (va_rf p42.1), some (.int x2), some (va_rf p42.1)]) dX4_one_159 (Nat.le_of_ble_eq_true rfl) rfl (ch_goto 96 dX4_one_160 rfl (ch_FT.wk (ch_wS (ch_wS (ch_wS (ch_wN ch_w0)))) ?_)))
              obtain rfl := Option.some.inj h
              exact hk
            · subst h
              exact ch_th rfl hk
        · subst h
          exact ch_th rfl hk
      · subst h
        exact ch_th rfl hk
theorem sl_X4_one_96 {g : State} {d : Nat} {rc : Nat → Nat → ch_W → Option (Except Nat (Option Nat) × ch_W)} (hr0 : ∀ {t0 : Nat} {w : ch_W} {p : Except Nat (Option Nat) × ch_W} {Q : Outcome → ch_W → Prop}, rc 0 t0 w = some p → ch_xR Q p → ch_CT g true yX4_value (d + 12) [.ref t0] (w) Q) (hr6 : ∀ {t0 : Nat} {w : ch_W} {p : Except Nat (Option Nat) × ch_W} {Q : Outcome → ch_W → Prop}, rc 6 t0 w = some p → ch_xR Q p → ch_CT g true yX4_one (d + 12) [.ref t0] (w) Q) (hr7 : ∀ {t0 : Nat} {w : ch_W} {p : Except Nat (Option Nat) × ch_W} {Q : Outcome → ch_W → Prop}, rc 7 t0 w = some p → ch_xR Q p → ch_CT g true yX4_first (d + 12) [.ref t0] (w) Q) (hr8 : ∀ {t0 : Nat} {w : ch_W} {p : Except Nat (Option Nat) × ch_W} {Q : Outcome → ch_W → Prop}, rc 8 t0 w = some p → ch_xR Q p → ch_CT g true yX4_arguments (d + 12) [.ref t0] (w) Q)  {t0 : Nat} {a : (Option Nat) × Int32 × ch_W} {res : Except Nat (Option Nat) × ch_W} {Q : Outcome → ch_W → Prop} (h : ch_loop (fun (s : (Option Nat) × Int32 × ch_W) => c_X4_one_96 rc g t0 s.1 s.2.1 s.2.2) a = some res) (hk : (ch_xR Q) res) : ch_FT g true mX4_one (d + 13) 96 [some (va_rf (some t0)), some (va_rf a.1), some (.int a.2.1), none] [] (a.2.2) Q := by
  refine ch_loop_ind (fun (a : (Option Nat) × Int32 × ch_W) (r : Except Nat (Option Nat) × ch_W) => (ch_xR Q) r → ch_FT g true mX4_one (d + 13) 96 [some (va_rf (some t0)), some (va_rf a.1), some (.int a.2.1), none] [] (a.2.2) Q) ?_ ?_ a res h hk
  · intro a a2 b h1 ih hk
    exact s_X4_one_96 hr0 hr6 hr7 hr8 h1 (ih hk)
  · intro a b h1 hk
    exact s_X4_one_96 hr0 hr6 hr7 hr8 h1 hk

def c_X4_one (rc : Nat → Nat → ch_W → Option (Except Nat (Option Nat) × ch_W)) (g : State) (t0 : Nat)  (w : ch_W) : Option (Except Nat (Option Nat) × ch_W) := (ch_rc w (some t0) 5).bind fun _ => (c_X4_isThe g t0 (some (ch_sa g RX4 308)) w).bind fun v2 => if v2 = 0 then ((ch_rc w (some t0) 5).bind fun _ => (c_X4_isThe g t0 (some (ch_sa g RX4 319)) w).bind fun v5 => if v5 = 0 then ((ch_rc w (some t0) 5).bind fun _ => ch_tb (rc 7 t0 w) (fun a w => (.error a, w)) fun v8 w9 => ch_loop (fun (s : (Option Nat) × Int32 × ch_W) => c_X4_one_96 rc g t0 s.1 s.2.1 s.2.2) (v8, 1, w9)) else (c_X4_one_20 rc g t0 w)) else (c_X4_one_20 rc g t0 w)
theorem s_X4_one {g : State} {d : Nat} {rc : Nat → Nat → ch_W → Option (Except Nat (Option Nat) × ch_W)} (hr0 : ∀ {t0 : Nat} {w : ch_W} {p : Except Nat (Option Nat) × ch_W} {Q : Outcome → ch_W → Prop}, rc 0 t0 w = some p → ch_xR Q p → ch_CT g true yX4_value (d + 12) [.ref t0] (w) Q) (hr6 : ∀ {t0 : Nat} {w : ch_W} {p : Except Nat (Option Nat) × ch_W} {Q : Outcome → ch_W → Prop}, rc 6 t0 w = some p → ch_xR Q p → ch_CT g true yX4_one (d + 12) [.ref t0] (w) Q) (hr7 : ∀ {t0 : Nat} {w : ch_W} {p : Except Nat (Option Nat) × ch_W} {Q : Outcome → ch_W → Prop}, rc 7 t0 w = some p → ch_xR Q p → ch_CT g true yX4_first (d + 12) [.ref t0] (w) Q) (hr8 : ∀ {t0 : Nat} {w : ch_W} {p : Except Nat (Option Nat) × ch_W} {Q : Outcome → ch_W → Prop}, rc 8 t0 w = some p → ch_xR Q p → ch_CT g true yX4_arguments (d + 12) [.ref t0] (w) Q)  {t0 : Nat} {w : ch_W} {res : Except Nat (Option Nat) × ch_W} {Q : Outcome → ch_W → Prop} (h : c_X4_one rc g t0 w = some res) (hk : (ch_xR Q) res) : ch_CT g true yX4_one (d + 13) [.ref t0] (w) Q := by
  unfold c_X4_one at h
  refine ch_ctL mX4_one (ls := [some (va_rf (some t0)), none, none, none]) q935 rfl (ch_lyr (r := some t0) ch_ly0) (Nat.le_of_ble_eq_true rfl) rfl ?_
  obtain ⟨_, hb1, h⟩ := ch_bd h
  obtain ⟨v2, hp3, h⟩ := ch_bd h
  refine ch_aload_n 0 (some t0) dX4_one_0 rfl (ch_ldcSw q936 dX4_one_1 (ch_iv yX4_isThe prog_7_method_8_code 2 (some .boolean) (ci := 4) (q := (RX4, TX4, 9)) (b := t0) (d' := 7) (av := [va_rf (some (ch_sa g RX4 308))]) (rest := []) rfl dX4_one_4 q593 q595 rfl qs7 q596 can_X4_isThe (Nat.le_trans (Nat.le_of_ble_eq_true rfl) (Nat.le_add_left 13 d)) (Nat.le_of_ble_eq_true rfl) (ch_rts hb1) (cp_kI (v := v2) (w1 := w) (fun Q' hq => s_X4_isThe hp3 hq) ?_)))
  refine cp_if_ne _ (tgt := 20) dX4_one_7 rfl h (fun h => ?_) (fun h => ?_)
  · exact ch_FT.wk (ch_wS (ch_wN (ch_wN (ch_wN ch_w0)))) (s_X4_one_20 hr0 hr6 hr7 hr8 h hk)
  · obtain ⟨_, hb4, h⟩ := ch_bd h
    obtain ⟨v5, hp6, h⟩ := ch_bd h
    refine ch_aload_n 0 (some t0) dX4_one_10 rfl (ch_ldcSw q937 dX4_one_11 (ch_iv yX4_isThe prog_7_method_8_code 2 (some .boolean) (ci := 4) (q := (RX4, TX4, 9)) (b := t0) (d' := 7) (av := [va_rf (some (ch_sa g RX4 319))]) (rest := []) rfl dX4_one_14 q593 q595 rfl qs7 q596 can_X4_isThe (Nat.le_trans (Nat.le_of_ble_eq_true rfl) (Nat.le_add_left 13 d)) (Nat.le_of_ble_eq_true rfl) (ch_rts hb4) (cp_kI (v := v5) (w1 := w) (fun Q' hq => s_X4_isThe hp6 hq) ?_)))
    refine cp_if_eq _ (tgt := 89) dX4_one_17 rfl h (fun h => ?_) (fun h => ?_)
    · obtain ⟨_, hb7, h⟩ := ch_bd h
      refine ch_aload_n 0 (some t0) dX4_one_89 rfl (ch_iv yX4_first prog_7_method_36_code 3 (some (.object "ClassHouse$Value")) (ci := 4) (q := (RX4, TX4, 9)) (b := t0) (d' := (d + 12)) (av := []) (rest := []) rfl dX4_one_90 q971 q973 rfl qs30 q974 can_X4_first (Nat.le_refl _) (Nat.le_of_ble_eq_true rfl) (ch_rts hb7) (cp_tR h (fun p hp Q' hq => hr7 hp hq) (fun v8 w9 h => ?_) (fun a w1 h => ?_)))
      · exact ch_astore_n 1 v8 (ls1 := [some (va_rf (some t0)), some (va_rf v8), none, none]) dX4_one_93 (Nat.le_of_ble_eq_true rfl) rfl (ch_iconst _ 1 dX4_one_94 rfl (ch_istore_n 2 _ (ls1 := [some (va_rf (some t0)), some (va_rf v8), some (.int 1), none]) dX4_one_95 (Nat.le_of_ble_eq_true rfl) (ch_s1o rfl rfl) (ch_FT.wk (ch_wS (ch_wS (ch_wS (ch_wN ch_w0)))) (sl_X4_one_96 hr0 hr6 hr7 hr8 h hk))))
      · subst h
        exact ch_th rfl hk
    · exact ch_FT.wk (ch_wS (ch_wN (ch_wN (ch_wN ch_w0)))) (s_X4_one_20 hr0 hr6 hr7 hr8 h hk)

theorem bX4_first_0 : ch_ck cX4_first 0 [42, 18, 171, 182, 0, 76, 153, 0, 22, 42, 18, 171, 182, 0, 134, 42] := ch_ckof (by decide +kernel)
theorem bX4_first_1 : ch_ck cX4_first 16 [182, 0, 233, 76, 42, 18, 173, 182, 0, 146, 43, 176, 42, 19, 1, 88] := ch_ckof (by decide +kernel)
theorem bX4_first_2 : ch_ck cX4_first 32 [182, 0, 76, 153, 0, 69, 42, 182, 0, 79, 42, 18, 153, 182, 0, 76] := ch_ckof (by decide +kernel)
theorem bX4_first_3 : ch_ck cX4_first 48 [153, 0, 42, 42, 182, 0, 79, 187, 0, 243, 89, 16, 7, 3, 183, 1] := ch_ckof (by decide +kernel)
theorem bX4_first_4 : ch_ck cX4_first 64 [11, 76, 42, 19, 1, 79, 182, 0, 134, 43, 42, 182, 0, 233, 181, 1] := ch_ckof (by decide +kernel)
theorem bX4_first_5 : ch_ck cX4_first 80 [15, 42, 19, 1, 81, 182, 0, 146, 43, 176, 187, 0, 243, 89, 16, 6] := ch_ckof (by decide +kernel)
theorem bX4_first_6 : ch_ck cX4_first 96 [42, 182, 0, 126, 183, 1, 11, 176, 42, 180, 0, 40, 4, 160, 0, 47] := ch_ckof (by decide +kernel)
theorem bX4_first_7 : ch_ck cX4_first 112 [42, 182, 0, 126, 60, 42, 18, 171, 182, 0, 76, 154, 0, 13, 187, 0] := ch_ckof (by decide +kernel)
theorem bX4_first_8 : ch_ck cX4_first 128 [243, 89, 7, 27, 183, 1, 11, 176, 187, 0, 243, 89, 8, 27, 183, 1] := ch_ckof (by decide +kernel)
theorem bX4_first_9 : ch_ck cX4_first 144 [11, 77, 44, 42, 182, 1, 72, 181, 1, 76, 44, 176, 42, 182, 1, 90] := ch_ckof (by decide +kernel)
theorem bX4_first_10 : ch_ck cX4_first 160 [176] := ch_ckof (by decide +kernel)
theorem dX4_first_0 : decode cX4_first 0 = .ok (.aload_n 0, 1) := dz_42 (bX4_first_0 0 _ rfl)
theorem dX4_first_1 : decode cX4_first 1 = .ok (.ldc 171, 2) := dz_18 (bX4_first_0 1 _ rfl) (bX4_first_0 2 _ rfl)
theorem dX4_first_3 : decode cX4_first 3 = .ok (.invokevirtual 76, 3) := dz_182 (bX4_first_0 3 _ rfl) (bX4_first_0 4 _ rfl) (bX4_first_0 5 _ rfl)
theorem dX4_first_6 : decode cX4_first 6 = .ok (.ifCond .eq 22, 3) := dz_153 (bX4_first_0 6 _ rfl) (bX4_first_0 7 _ rfl) (bX4_first_0 8 _ rfl)
theorem dX4_first_9 : decode cX4_first 9 = .ok (.aload_n 0, 1) := dz_42 (bX4_first_0 9 _ rfl)
theorem dX4_first_10 : decode cX4_first 10 = .ok (.ldc 171, 2) := dz_18 (bX4_first_0 10 _ rfl) (bX4_first_0 11 _ rfl)
theorem dX4_first_12 : decode cX4_first 12 = .ok (.invokevirtual 134, 3) := dz_182 (bX4_first_0 12 _ rfl) (bX4_first_0 13 _ rfl) (bX4_first_0 14 _ rfl)
theorem dX4_first_15 : decode cX4_first 15 = .ok (.aload_n 0, 1) := dz_42 (bX4_first_0 15 _ rfl)
theorem dX4_first_16 : decode cX4_first 16 = .ok (.invokevirtual 233, 3) := dz_182 (bX4_first_1 0 _ rfl) (bX4_first_1 1 _ rfl) (bX4_first_1 2 _ rfl)
theorem dX4_first_19 : decode cX4_first 19 = .ok (.astore_n 1, 1) := dz_76 (bX4_first_1 3 _ rfl)
theorem dX4_first_20 : decode cX4_first 20 = .ok (.aload_n 0, 1) := dz_42 (bX4_first_1 4 _ rfl)
theorem dX4_first_21 : decode cX4_first 21 = .ok (.ldc 173, 2) := dz_18 (bX4_first_1 5 _ rfl) (bX4_first_1 6 _ rfl)
theorem dX4_first_23 : decode cX4_first 23 = .ok (.invokevirtual 146, 3) := dz_182 (bX4_first_1 7 _ rfl) (bX4_first_1 8 _ rfl) (bX4_first_1 9 _ rfl)
theorem dX4_first_26 : decode cX4_first 26 = .ok (.aload_n 1, 1) := dz_43 (bX4_first_1 10 _ rfl)
theorem dX4_first_27 : decode cX4_first 27 = .ok (.areturn, 1) := dz_176 (bX4_first_1 11 _ rfl)
theorem dX4_first_28 : decode cX4_first 28 = .ok (.aload_n 0, 1) := dz_42 (bX4_first_1 12 _ rfl)
theorem dX4_first_29 : decode cX4_first 29 = .ok (.ldc_w 344, 3) := dz_19 (bX4_first_1 13 _ rfl) (bX4_first_1 14 _ rfl) (bX4_first_1 15 _ rfl)
theorem dX4_first_32 : decode cX4_first 32 = .ok (.invokevirtual 76, 3) := dz_182 (bX4_first_2 0 _ rfl) (bX4_first_2 1 _ rfl) (bX4_first_2 2 _ rfl)
theorem dX4_first_35 : decode cX4_first 35 = .ok (.ifCond .eq 69, 3) := dz_153 (bX4_first_2 3 _ rfl) (bX4_first_2 4 _ rfl) (bX4_first_2 5 _ rfl)
theorem dX4_first_38 : decode cX4_first 38 = .ok (.aload_n 0, 1) := dz_42 (bX4_first_2 6 _ rfl)
theorem dX4_first_39 : decode cX4_first 39 = .ok (.invokevirtual 79, 3) := dz_182 (bX4_first_2 7 _ rfl) (bX4_first_2 8 _ rfl) (bX4_first_2 9 _ rfl)
theorem dX4_first_42 : decode cX4_first 42 = .ok (.aload_n 0, 1) := dz_42 (bX4_first_2 10 _ rfl)
theorem dX4_first_43 : decode cX4_first 43 = .ok (.ldc 153, 2) := dz_18 (bX4_first_2 11 _ rfl) (bX4_first_2 12 _ rfl)
theorem dX4_first_45 : decode cX4_first 45 = .ok (.invokevirtual 76, 3) := dz_182 (bX4_first_2 13 _ rfl) (bX4_first_2 14 _ rfl) (bX4_first_2 15 _ rfl)
theorem dX4_first_48 : decode cX4_first 48 = .ok (.ifCond .eq 42, 3) := dz_153 (bX4_first_3 0 _ rfl) (bX4_first_3 1 _ rfl) (bX4_first_3 2 _ rfl)
theorem dX4_first_51 : decode cX4_first 51 = .ok (.aload_n 0, 1) := dz_42 (bX4_first_3 3 _ rfl)
theorem dX4_first_52 : decode cX4_first 52 = .ok (.invokevirtual 79, 3) := dz_182 (bX4_first_3 4 _ rfl) (bX4_first_3 5 _ rfl) (bX4_first_3 6 _ rfl)
theorem dX4_first_55 : decode cX4_first 55 = .ok (.new 243, 3) := dz_187 (bX4_first_3 7 _ rfl) (bX4_first_3 8 _ rfl) (bX4_first_3 9 _ rfl)
theorem dX4_first_58 : decode cX4_first 58 = .ok (.dup, 1) := dz_89 (bX4_first_3 10 _ rfl)
theorem dX4_first_59 : decode cX4_first 59 = .ok (.bipush 7, 2) := dz_16 (bX4_first_3 11 _ rfl) (bX4_first_3 12 _ rfl)
theorem dX4_first_61 : decode cX4_first 61 = .ok (.iconst 0, 1) := dz_3 (bX4_first_3 13 _ rfl)
theorem dX4_first_62 : decode cX4_first 62 = .ok (.invokespecial 267, 3) := dz_183 (bX4_first_3 14 _ rfl) (bX4_first_3 15 _ rfl) (bX4_first_4 0 _ rfl)
theorem dX4_first_65 : decode cX4_first 65 = .ok (.astore_n 1, 1) := dz_76 (bX4_first_4 1 _ rfl)
theorem dX4_first_66 : decode cX4_first 66 = .ok (.aload_n 0, 1) := dz_42 (bX4_first_4 2 _ rfl)
theorem dX4_first_67 : decode cX4_first 67 = .ok (.ldc_w 335, 3) := dz_19 (bX4_first_4 3 _ rfl) (bX4_first_4 4 _ rfl) (bX4_first_4 5 _ rfl)
theorem dX4_first_70 : decode cX4_first 70 = .ok (.invokevirtual 134, 3) := dz_182 (bX4_first_4 6 _ rfl) (bX4_first_4 7 _ rfl) (bX4_first_4 8 _ rfl)
theorem dX4_first_73 : decode cX4_first 73 = .ok (.aload_n 1, 1) := dz_43 (bX4_first_4 9 _ rfl)
theorem dX4_first_74 : decode cX4_first 74 = .ok (.aload_n 0, 1) := dz_42 (bX4_first_4 10 _ rfl)
theorem dX4_first_75 : decode cX4_first 75 = .ok (.invokevirtual 233, 3) := dz_182 (bX4_first_4 11 _ rfl) (bX4_first_4 12 _ rfl) (bX4_first_4 13 _ rfl)
theorem dX4_first_78 : decode cX4_first 78 = .ok (.putfield 271, 3) := dz_181 (bX4_first_4 14 _ rfl) (bX4_first_4 15 _ rfl) (bX4_first_5 0 _ rfl)
theorem dX4_first_81 : decode cX4_first 81 = .ok (.aload_n 0, 1) := dz_42 (bX4_first_5 1 _ rfl)
theorem dX4_first_82 : decode cX4_first 82 = .ok (.ldc_w 337, 3) := dz_19 (bX4_first_5 2 _ rfl) (bX4_first_5 3 _ rfl) (bX4_first_5 4 _ rfl)
theorem dX4_first_85 : decode cX4_first 85 = .ok (.invokevirtual 146, 3) := dz_182 (bX4_first_5 5 _ rfl) (bX4_first_5 6 _ rfl) (bX4_first_5 7 _ rfl)
theorem dX4_first_88 : decode cX4_first 88 = .ok (.aload_n 1, 1) := dz_43 (bX4_first_5 8 _ rfl)
theorem dX4_first_89 : decode cX4_first 89 = .ok (.areturn, 1) := dz_176 (bX4_first_5 9 _ rfl)
theorem dX4_first_90 : decode cX4_first 90 = .ok (.new 243, 3) := dz_187 (bX4_first_5 10 _ rfl) (bX4_first_5 11 _ rfl) (bX4_first_5 12 _ rfl)
theorem dX4_first_93 : decode cX4_first 93 = .ok (.dup, 1) := dz_89 (bX4_first_5 13 _ rfl)
theorem dX4_first_94 : decode cX4_first 94 = .ok (.bipush 6, 2) := dz_16 (bX4_first_5 14 _ rfl) (bX4_first_5 15 _ rfl)
theorem dX4_first_96 : decode cX4_first 96 = .ok (.aload_n 0, 1) := dz_42 (bX4_first_6 0 _ rfl)
theorem dX4_first_97 : decode cX4_first 97 = .ok (.invokevirtual 126, 3) := dz_182 (bX4_first_6 1 _ rfl) (bX4_first_6 2 _ rfl) (bX4_first_6 3 _ rfl)
theorem dX4_first_100 : decode cX4_first 100 = .ok (.invokespecial 267, 3) := dz_183 (bX4_first_6 4 _ rfl) (bX4_first_6 5 _ rfl) (bX4_first_6 6 _ rfl)
theorem dX4_first_103 : decode cX4_first 103 = .ok (.areturn, 1) := dz_176 (bX4_first_6 7 _ rfl)
theorem dX4_first_104 : decode cX4_first 104 = .ok (.aload_n 0, 1) := dz_42 (bX4_first_6 8 _ rfl)
theorem dX4_first_105 : decode cX4_first 105 = .ok (.getfield 40, 3) := dz_180 (bX4_first_6 9 _ rfl) (bX4_first_6 10 _ rfl) (bX4_first_6 11 _ rfl)
theorem dX4_first_108 : decode cX4_first 108 = .ok (.iconst 1, 1) := dz_4 (bX4_first_6 12 _ rfl)
theorem dX4_first_109 : decode cX4_first 109 = .ok (.if_icmp .ne 47, 3) := dz_160 (bX4_first_6 13 _ rfl) (bX4_first_6 14 _ rfl) (bX4_first_6 15 _ rfl)
theorem dX4_first_112 : decode cX4_first 112 = .ok (.aload_n 0, 1) := dz_42 (bX4_first_7 0 _ rfl)
theorem dX4_first_113 : decode cX4_first 113 = .ok (.invokevirtual 126, 3) := dz_182 (bX4_first_7 1 _ rfl) (bX4_first_7 2 _ rfl) (bX4_first_7 3 _ rfl)
theorem dX4_first_116 : decode cX4_first 116 = .ok (.istore_n 1, 1) := dz_60 (bX4_first_7 4 _ rfl)
theorem dX4_first_117 : decode cX4_first 117 = .ok (.aload_n 0, 1) := dz_42 (bX4_first_7 5 _ rfl)
theorem dX4_first_118 : decode cX4_first 118 = .ok (.ldc 171, 2) := dz_18 (bX4_first_7 6 _ rfl) (bX4_first_7 7 _ rfl)
theorem dX4_first_120 : decode cX4_first 120 = .ok (.invokevirtual 76, 3) := dz_182 (bX4_first_7 8 _ rfl) (bX4_first_7 9 _ rfl) (bX4_first_7 10 _ rfl)
theorem dX4_first_123 : decode cX4_first 123 = .ok (.ifCond .ne 13, 3) := dz_154 (bX4_first_7 11 _ rfl) (bX4_first_7 12 _ rfl) (bX4_first_7 13 _ rfl)
theorem dX4_first_126 : decode cX4_first 126 = .ok (.new 243, 3) := dz_187 (bX4_first_7 14 _ rfl) (bX4_first_7 15 _ rfl) (bX4_first_8 0 _ rfl)
theorem dX4_first_129 : decode cX4_first 129 = .ok (.dup, 1) := dz_89 (bX4_first_8 1 _ rfl)
theorem dX4_first_130 : decode cX4_first 130 = .ok (.iconst 4, 1) := dz_7 (bX4_first_8 2 _ rfl)
theorem dX4_first_131 : decode cX4_first 131 = .ok (.iload_n 1, 1) := dz_27 (bX4_first_8 3 _ rfl)
theorem dX4_first_132 : decode cX4_first 132 = .ok (.invokespecial 267, 3) := dz_183 (bX4_first_8 4 _ rfl) (bX4_first_8 5 _ rfl) (bX4_first_8 6 _ rfl)
theorem dX4_first_135 : decode cX4_first 135 = .ok (.areturn, 1) := dz_176 (bX4_first_8 7 _ rfl)
theorem dX4_first_136 : decode cX4_first 136 = .ok (.new 243, 3) := dz_187 (bX4_first_8 8 _ rfl) (bX4_first_8 9 _ rfl) (bX4_first_8 10 _ rfl)
theorem dX4_first_139 : decode cX4_first 139 = .ok (.dup, 1) := dz_89 (bX4_first_8 11 _ rfl)
theorem dX4_first_140 : decode cX4_first 140 = .ok (.iconst 5, 1) := dz_8 (bX4_first_8 12 _ rfl)
theorem dX4_first_141 : decode cX4_first 141 = .ok (.iload_n 1, 1) := dz_27 (bX4_first_8 13 _ rfl)
theorem dX4_first_142 : decode cX4_first 142 = .ok (.invokespecial 267, 3) := dz_183 (bX4_first_8 14 _ rfl) (bX4_first_8 15 _ rfl) (bX4_first_9 0 _ rfl)
theorem dX4_first_145 : decode cX4_first 145 = .ok (.astore_n 2, 1) := dz_77 (bX4_first_9 1 _ rfl)
theorem dX4_first_146 : decode cX4_first 146 = .ok (.aload_n 2, 1) := dz_44 (bX4_first_9 2 _ rfl)
theorem dX4_first_147 : decode cX4_first 147 = .ok (.aload_n 0, 1) := dz_42 (bX4_first_9 3 _ rfl)
theorem dX4_first_148 : decode cX4_first 148 = .ok (.invokevirtual 328, 3) := dz_182 (bX4_first_9 4 _ rfl) (bX4_first_9 5 _ rfl) (bX4_first_9 6 _ rfl)
theorem dX4_first_151 : decode cX4_first 151 = .ok (.putfield 332, 3) := dz_181 (bX4_first_9 7 _ rfl) (bX4_first_9 8 _ rfl) (bX4_first_9 9 _ rfl)
theorem dX4_first_154 : decode cX4_first 154 = .ok (.aload_n 2, 1) := dz_44 (bX4_first_9 10 _ rfl)
theorem dX4_first_155 : decode cX4_first 155 = .ok (.areturn, 1) := dz_176 (bX4_first_9 11 _ rfl)
theorem dX4_first_156 : decode cX4_first 156 = .ok (.aload_n 0, 1) := dz_42 (bX4_first_9 12 _ rfl)
theorem dX4_first_157 : decode cX4_first 157 = .ok (.invokevirtual 346, 3) := dz_182 (bX4_first_9 13 _ rfl) (bX4_first_9 14 _ rfl) (bX4_first_9 15 _ rfl)
theorem dX4_first_160 : decode cX4_first 160 = .ok (.areturn, 1) := dz_176 (bX4_first_10 0 _ rfl)
def c_X4_first (rc : Nat → Nat → ch_W → Option (Except Nat (Option Nat) × ch_W)) (g : State) (t0 : Nat)  (w : ch_W) : Option (Except Nat (Option Nat) × ch_W) := (ch_rc w (some t0) 5).bind fun _ => (c_X4_isThe g t0 (some (ch_sa g RX4 171)) w).bind fun v2 => if v2 = 0 then ((ch_rc w (some t0) 5).bind fun _ => (c_X4_isThe g t0 (some (ch_sa g RX4 344)) w).bind fun v5 => if v5 = 0 then ((ch_gI w (some t0) 5 fX4_kind).bind fun v7 => if v7 = 1 then ((ch_rc w (some t0) 5).bind fun _ => ch_tb (c_X4_nextName g t0 w) (fun a w => (.error a, w)) fun v12 w13 => (ch_rc w13 (some t0) 5).bind fun _ => (c_X4_isThe g t0 (some (ch_sa g RX4 171)) w13).bind fun v15 => if v15 = 0 then ((ch_nO w13 11 6).bind fun w24 => (c_X10_init (ch_nx w13) 4 v12 w24).bind fun p25 => some ((.ok (some (ch_nx w13)), p25))) else ((ch_nO w13 11 6).bind fun w17 => (c_X10_init (ch_nx w13) 5 v12 w17).bind fun p18 => (ch_rc p18 (some t0) 5).bind fun _ => ch_tb (rc 8 t0 p18) (fun a w => (.error a, w)) fun v21 w22 => (ch_pR w22 (some (ch_nx w13)) 11 fX10_arguments v21).bind fun w23 => some ((.ok (some (ch_nx w13)), w23)))) else ((ch_rc w (some t0) 5).bind fun _ => ch_tb (c_X4_simple g t0 w) (fun a w => (.error a, w)) fun v9 w10 => some ((.ok v9, w10)))) else ((ch_rc w (some t0) 5).bind fun _ => ch_tb (c_X4_next g t0 w) (fun a w => (.error a, w)) fun _ w29 => (ch_rc w29 (some t0) 5).bind fun _ => (c_X4_isThe g t0 (some (ch_sa g RX4 153)) w29).bind fun v31 => if v31 = 0 then ((ch_nO w29 11 6).bind fun w33 => (ch_rc w33 (some t0) 5).bind fun _ => ch_tb (c_X4_nextName g t0 w33) (fun a w => (.error a, w)) fun v35 w36 => (c_X10_init (ch_nx w29) 6 v35 w36).bind fun p37 => some ((.ok (some (ch_nx w29)), p37))) else ((ch_rc w29 (some t0) 5).bind fun _ => ch_tb (c_X4_next g t0 w29) (fun a w => (.error a, w)) fun _ w41 => (ch_nO w41 11 6).bind fun w42 => (c_X10_init (ch_nx w41) 7 0 w42).bind fun p43 => (ch_rc p43 (some t0) 5).bind fun _ => ch_tb (c_X4_opens g t0 (some (ch_sa g RX4 335)) p43) (fun a w => (.error a, w)) fun _ w47 => (ch_rc w47 (some t0) 5).bind fun _ => ch_tb (rc 0 t0 w47) (fun a w => (.error a, w)) fun v49 w50 => (ch_pR w50 (some (ch_nx w41)) 11 fX10_right v49).bind fun w51 => (ch_rc w51 (some t0) 5).bind fun _ => ch_tb (c_X4_closes g t0 (some (ch_sa g RX4 337)) w51) (fun a w => (.error a, w)) fun _ w54 => some ((.ok (some (ch_nx w41)), w54))))) else ((ch_rc w (some t0) 5).bind fun _ => ch_tb (c_X4_opens g t0 (some (ch_sa g RX4 171)) w) (fun a w => (.error a, w)) fun _ w57 => (ch_rc w57 (some t0) 5).bind fun _ => ch_tb (rc 0 t0 w57) (fun a w => (.error a, w)) fun v59 w60 => (ch_rc w60 (some t0) 5).bind fun _ => ch_tb (c_X4_closes g t0 (some (ch_sa g RX4 173)) w60) (fun a w => (.error a, w)) fun _ w63 => some ((.ok v59, w63)))
theorem s_X4_first {g : State} {d : Nat} {rc : Nat → Nat → ch_W → Option (Except Nat (Option Nat) × ch_W)} (hr0 : ∀ {t0 : Nat} {w : ch_W} {p : Except Nat (Option Nat) × ch_W} {Q : Outcome → ch_W → Prop}, rc 0 t0 w = some p → ch_xR Q p → ch_CT g true yX4_value (d + 12) [.ref t0] (w) Q) (hr8 : ∀ {t0 : Nat} {w : ch_W} {p : Except Nat (Option Nat) × ch_W} {Q : Outcome → ch_W → Prop}, rc 8 t0 w = some p → ch_xR Q p → ch_CT g true yX4_arguments (d + 12) [.ref t0] (w) Q)  {t0 : Nat} {w : ch_W} {res : Except Nat (Option Nat) × ch_W} {Q : Outcome → ch_W → Prop} (h : c_X4_first rc g t0 w = some res) (hk : (ch_xR Q) res) : ch_CT g true yX4_first (d + 13) [.ref t0] (w) Q := by
  unfold c_X4_first at h
  refine ch_ctL mX4_first (ls := [some (va_rf (some t0)), none, none]) q974 rfl (ch_lyr (r := some t0) ch_ly0) (Nat.le_of_ble_eq_true rfl) rfl ?_
  obtain ⟨_, hb1, h⟩ := ch_bd h
  obtain ⟨v2, hp3, h⟩ := ch_bd h
  refine ch_aload_n 0 (some t0) dX4_first_0 rfl (ch_ldcS q839 dX4_first_1 (ch_iv yX4_isThe prog_7_method_8_code 2 (some .boolean) (ci := 4) (q := (RX4, TX4, 9)) (b := t0) (d' := 7) (av := [va_rf (some (ch_sa g RX4 171))]) (rest := []) rfl dX4_first_3 q593 q595 rfl qs7 q596 can_X4_isThe (Nat.le_trans (Nat.le_of_ble_eq_true rfl) (Nat.le_add_left 13 d)) (Nat.le_of_ble_eq_true rfl) (ch_rts hb1) (cp_kI (v := v2) (w1 := w) (fun Q' hq => s_X4_isThe hp3 hq) ?_)))
  refine cp_if_eq _ (tgt := 28) dX4_first_6 rfl h (fun h => ?_) (fun h => ?_)
  · obtain ⟨_, hb4, h⟩ := ch_bd h
    obtain ⟨v5, hp6, h⟩ := ch_bd h
    refine ch_aload_n 0 (some t0) dX4_first_28 rfl (ch_ldcSw q975 dX4_first_29 (ch_iv yX4_isThe prog_7_method_8_code 2 (some .boolean) (ci := 4) (q := (RX4, TX4, 9)) (b := t0) (d' := 7) (av := [va_rf (some (ch_sa g RX4 344))]) (rest := []) rfl dX4_first_32 q593 q595 rfl qs7 q596 can_X4_isThe (Nat.le_trans (Nat.le_of_ble_eq_true rfl) (Nat.le_add_left 13 d)) (Nat.le_of_ble_eq_true rfl) (ch_rts hb4) (cp_kI (v := v5) (w1 := w) (fun Q' hq => s_X4_isThe hp6 hq) ?_)))
    refine cp_if_eq _ (tgt := 104) dX4_first_35 rfl h (fun h => ?_) (fun h => ?_)
    · refine ch_aload_n 0 (some t0) dX4_first_104 rfl (cp_gI (ci := 4) (k := 2) dX4_first_105 fl_X4_40 rfl h (fun v7 h => ?_))
      refine ch_iconst _ 1 dX4_first_108 rfl (cp_icmp_ne _ _ (tgt := 156) dX4_first_109 rfl h (fun h => ?_) (fun h => ?_))
      · obtain ⟨_, hb8, h⟩ := ch_bd h
        refine ch_aload_n 0 (some t0) dX4_first_156 rfl (ch_iv yX4_simple prog_7_method_37_code 4 (some (.object "ClassHouse$Value")) (ci := 4) (q := (RX4, TX4, 9)) (b := t0) (d' := 10) (av := []) (rest := []) rfl dX4_first_157 q987 q989 rfl qs32 q990 can_X4_simple (Nat.le_trans (Nat.le_of_ble_eq_true rfl) (Nat.le_add_left 13 d)) (Nat.le_of_ble_eq_true rfl) (ch_rts hb8) (cp_tR h (fun p hp Q' hq => s_X4_simple hp hq) (fun v9 w10 h => ?_) (fun a w1 h => ?_)))
        · obtain rfl := Option.some.inj h
          exact ch_areturn v9 dX4_first_160 rfl (Or.inl ⟨_, rfl⟩) hk
        · subst h
          exact ch_th rfl hk
      · obtain ⟨_, hb11, h⟩ := ch_bd h
        refine ch_aload_n 0 (some t0) dX4_first_112 rfl (ch_iv yX4_nextName prog_7_method_16_code 2 (some .int) (ci := 4) (q := (RX4, TX4, 9)) (b := t0) (d' := 11) (av := []) (rest := []) rfl dX4_first_113 q734 q736 rfl qs13 q737 can_X4_nextName (Nat.le_trans (Nat.le_of_ble_eq_true rfl) (Nat.le_add_left 13 d)) (Nat.le_of_ble_eq_true rfl) (ch_rts hb11) (cp_tI h (fun p hp Q' hq => s_X4_nextName hp hq) (fun v12 w13 h => ?_) (fun a w1 h => ?_)))
        · obtain ⟨_, hb14, h⟩ := ch_bd h
          obtain ⟨v15, hp16, h⟩ := ch_bd h
          refine ch_istore_n 1 _ (ls1 := [some (va_rf (some t0)), some (.int v12), none]) dX4_first_116 (Nat.le_of_ble_eq_true rfl) rfl (ch_aload_n 0 (some t0) dX4_first_117 rfl (ch_ldcS q839 dX4_first_118 (ch_iv yX4_isThe prog_7_method_8_code 2 (some .boolean) (ci := 4) (q := (RX4, TX4, 9)) (b := t0) (d' := 7) (av := [va_rf (some (ch_sa g RX4 171))]) (rest := []) rfl dX4_first_120 q593 q595 rfl qs7 q596 can_X4_isThe (Nat.le_trans (Nat.le_of_ble_eq_true rfl) (Nat.le_add_left 13 d)) (Nat.le_of_ble_eq_true rfl) (ch_rts hb14) (cp_kI (v := v15) (w1 := w13) (fun Q' hq => s_X4_isThe hp16 hq) ?_))))
          refine cp_if_ne _ (tgt := 136) dX4_first_123 rfl h (fun h => ?_) (fun h => ?_)
          · refine cp_new (ci := 10) (n := 6) (q := (RX10, TX10, 6)) dX4_first_136 rfl q938 q939 q225 h (fun w17 h => ?_)
            obtain ⟨p18, hp19, h⟩ := ch_bd h
            refine ch_dup dX4_first_139 (ch_cat _) (ch_iconst _ 5 dX4_first_140 rfl (ch_iload_n 1 _ dX4_first_141 rfl (ch_ii yX10_init prog_12_method_1_code 3 (b := (ch_nx w13)) (d' := 2) (av := [.int 5, .int v12]) (rest := [va_rf (some (ch_nx w13))]) rfl dX4_first_142 rfl q940 q941 q942 can_X10_init (Nat.le_trans (Nat.le_of_ble_eq_true rfl) (Nat.le_add_left 13 d)) (ch_hw (Nat.le_of_ble_eq_true rfl)) (cp_kV (w1 := p18) (fun Q' hq => s_X10_init hp19 hq) ?_))))
            obtain ⟨_, hb20, h⟩ := ch_bd h
            refine ch_astore_n 2 (some (ch_nx w13)) (ls1 := [some (va_rf (some t0)), some (.int v12), some (va_rf (some (ch_nx w13)))]) dX4_first_145 (Nat.le_of_ble_eq_true rfl) rfl (ch_aload_n 2 (some (ch_nx w13)) dX4_first_146 rfl (ch_aload_n 0 (some t0) dX4_first_147 rfl (ch_iv yX4_arguments prog_7_method_35_code 4 (some (.array (.object "ClassHouse$Value"))) (ci := 4) (q := (RX4, TX4, 9)) (b := t0) (d' := (d + 12)) (av := []) (rest := [va_rf (some (ch_nx w13))]) rfl dX4_first_148 q978 q980 rfl qs31 q981 can_X4_arguments (Nat.le_refl _) (ch_hw (Nat.le_of_ble_eq_true rfl)) (ch_rts hb20) (cp_tR h (fun p hp Q' hq => hr8 hp hq) (fun v21 w22 h => ?_) (fun a w1 h => ?_)))))
            · refine cp_pR (ci := 10) (k := 3) dX4_first_151 fl_X4_332 rfl rfl rfl h (fun w23 h => ?_)
              obtain rfl := Option.some.inj h
              exact ch_aload_n 2 (some (ch_nx w13)) dX4_first_154 rfl (ch_areturn (some (ch_nx w13)) dX4_first_155 rfl (Or.inl ⟨_, rfl⟩) hk)
            · subst h
              exact ch_th rfl hk
          · refine cp_new (ci := 10) (n := 6) (q := (RX10, TX10, 6)) dX4_first_126 rfl q938 q939 q225 h (fun w24 h => ?_)
            obtain ⟨p25, hp26, h⟩ := ch_bd h
            refine ch_dup dX4_first_129 (ch_cat _) (ch_iconst _ 4 dX4_first_130 rfl (ch_iload_n 1 _ dX4_first_131 rfl (ch_ii yX10_init prog_12_method_1_code 3 (b := (ch_nx w13)) (d' := 2) (av := [.int 4, .int v12]) (rest := [va_rf (some (ch_nx w13))]) rfl dX4_first_132 rfl q940 q941 q942 can_X10_init (Nat.le_trans (Nat.le_of_ble_eq_true rfl) (Nat.le_add_left 13 d)) (ch_hw (Nat.le_of_ble_eq_true rfl)) (cp_kV (w1 := p25) (fun Q' hq => s_X10_init hp26 hq) ?_))))
            obtain rfl := Option.some.inj h
            exact ch_areturn (some (ch_nx w13)) dX4_first_135 rfl (Or.inl ⟨_, rfl⟩) hk
        · subst h
          exact ch_th rfl hk
    · obtain ⟨_, hb27, h⟩ := ch_bd h
      refine ch_aload_n 0 (some t0) dX4_first_38 rfl (ch_iv yX4_next prog_7_method_5_code 3 none (ci := 4) (q := (RX4, TX4, 9)) (b := t0) (d' := 9) (av := []) (rest := []) rfl dX4_first_39 q497 q499 rfl qs2 q500 can_X4_next (Nat.le_trans (Nat.le_of_ble_eq_true rfl) (Nat.le_add_left 13 d)) (Nat.le_of_ble_eq_true rfl) (ch_rts hb27) (cp_tV h (fun p hp Q' hq => s_X4_next hp hq) (fun w29 h => ?_) (fun a w1 h => ?_)))
      · obtain ⟨_, hb30, h⟩ := ch_bd h
        obtain ⟨v31, hp32, h⟩ := ch_bd h
        refine ch_aload_n 0 (some t0) dX4_first_42 rfl (ch_ldcS q759 dX4_first_43 (ch_iv yX4_isThe prog_7_method_8_code 2 (some .boolean) (ci := 4) (q := (RX4, TX4, 9)) (b := t0) (d' := 7) (av := [va_rf (some (ch_sa g RX4 153))]) (rest := []) rfl dX4_first_45 q593 q595 rfl qs7 q596 can_X4_isThe (Nat.le_trans (Nat.le_of_ble_eq_true rfl) (Nat.le_add_left 13 d)) (Nat.le_of_ble_eq_true rfl) (ch_rts hb30) (cp_kI (v := v31) (w1 := w29) (fun Q' hq => s_X4_isThe hp32 hq) ?_)))
        refine cp_if_eq _ (tgt := 90) dX4_first_48 rfl h (fun h => ?_) (fun h => ?_)
        · refine cp_new (ci := 10) (n := 6) (q := (RX10, TX10, 6)) dX4_first_90 rfl q938 q939 q225 h (fun w33 h => ?_)
          obtain ⟨_, hb34, h⟩ := ch_bd h
          refine ch_dup dX4_first_93 (ch_cat _) (ch_bipush _ 6 dX4_first_94 rfl (ch_aload_n 0 (some t0) dX4_first_96 rfl (ch_iv yX4_nextName prog_7_method_16_code 2 (some .int) (ci := 4) (q := (RX4, TX4, 9)) (b := t0) (d' := 11) (av := []) (rest := [.int 6, va_rf (some (ch_nx w29)), va_rf (some (ch_nx w29))]) rfl dX4_first_97 q734 q736 rfl qs13 q737 can_X4_nextName (Nat.le_trans (Nat.le_of_ble_eq_true rfl) (Nat.le_add_left 13 d)) (ch_hw (Nat.le_of_ble_eq_true rfl)) (ch_rts hb34) (cp_tI h (fun p hp Q' hq => s_X4_nextName hp hq) (fun v35 w36 h => ?_) (fun a w1 h => ?_)))))
          · obtain ⟨p37, hp38, h⟩ := ch_bd h
            refine ch_ii yX10_init prog_12_method_1_code 3 (b := (ch_nx w29)) (d' := 2) (av := [.int 6, .int v35]) (rest := [va_rf (some (ch_nx w29))]) rfl dX4_first_100 rfl q940 q941 q942 can_X10_init (Nat.le_trans (Nat.le_of_ble_eq_true rfl) (Nat.le_add_left 13 d)) (ch_hw (Nat.le_of_ble_eq_true rfl)) (cp_kV (w1 := p37) (fun Q' hq => s_X10_init hp38 hq) ?_)
            obtain rfl := Option.some.inj h
            exact ch_areturn (some (ch_nx w29)) dX4_first_103 rfl (Or.inl ⟨_, rfl⟩) hk
          · subst h
            exact ch_th rfl hk
        · obtain ⟨_, hb39, h⟩ := ch_bd h
          refine ch_aload_n 0 (some t0) dX4_first_51 rfl (ch_iv yX4_next prog_7_method_5_code 3 none (ci := 4) (q := (RX4, TX4, 9)) (b := t0) (d' := 9) (av := []) (rest := []) rfl dX4_first_52 q497 q499 rfl qs2 q500 can_X4_next (Nat.le_trans (Nat.le_of_ble_eq_true rfl) (Nat.le_add_left 13 d)) (Nat.le_of_ble_eq_true rfl) (ch_rts hb39) (cp_tV h (fun p hp Q' hq => s_X4_next hp hq) (fun w41 h => ?_) (fun a w1 h => ?_)))
          · refine cp_new (ci := 10) (n := 6) (q := (RX10, TX10, 6)) dX4_first_55 rfl q938 q939 q225 h (fun w42 h => ?_)
            obtain ⟨p43, hp44, h⟩ := ch_bd h
            refine ch_dup dX4_first_58 (ch_cat _) (ch_bipush _ 7 dX4_first_59 rfl (ch_iconst _ 0 dX4_first_61 rfl (ch_ii yX10_init prog_12_method_1_code 3 (b := (ch_nx w41)) (d' := 2) (av := [.int 7, .int 0]) (rest := [va_rf (some (ch_nx w41))]) rfl dX4_first_62 rfl q940 q941 q942 can_X10_init (Nat.le_trans (Nat.le_of_ble_eq_true rfl) (Nat.le_add_left 13 d)) (ch_hw (Nat.le_of_ble_eq_true rfl)) (cp_kV (w1 := p43) (fun Q' hq => s_X10_init hp44 hq) ?_))))
            obtain ⟨_, hb45, h⟩ := ch_bd h
            refine ch_astore_n 1 (some (ch_nx w41)) (ls1 := [some (va_rf (some t0)), some (va_rf (some (ch_nx w41))), none]) dX4_first_65 (Nat.le_of_ble_eq_true rfl) rfl (ch_aload_n 0 (some t0) dX4_first_66 rfl (ch_ldcSw q976 dX4_first_67 (ch_iv yX4_opens prog_7_method_10_code 2 none (ci := 4) (q := (RX4, TX4, 9)) (b := t0) (d' := 10) (av := [va_rf (some (ch_sa g RX4 335))]) (rest := []) rfl dX4_first_70 q739 q741 rfl qs14 q742 can_X4_opens (Nat.le_trans (Nat.le_of_ble_eq_true rfl) (Nat.le_add_left 13 d)) (Nat.le_of_ble_eq_true rfl) (ch_rts hb45) (cp_tV h (fun p hp Q' hq => s_X4_opens hp hq) (fun w47 h => ?_) (fun a w1 h => ?_)))))
            · obtain ⟨_, hb48, h⟩ := ch_bd h
              refine ch_aload_n 1 (some (ch_nx w41)) dX4_first_73 rfl (ch_aload_n 0 (some t0) dX4_first_74 rfl (ch_iv yX4_value prog_7_method_28_code 2 (some (.object "ClassHouse$Value")) (ci := 4) (q := (RX4, TX4, 9)) (b := t0) (d' := (d + 12)) (av := []) (rest := [va_rf (some (ch_nx w41))]) rfl dX4_first_75 q908 q910 rfl qs23 q911 can_X4_value (Nat.le_refl _) (ch_hw (Nat.le_of_ble_eq_true rfl)) (ch_rts hb48) (cp_tR h (fun p hp Q' hq => hr0 hp hq) (fun v49 w50 h => ?_) (fun a w1 h => ?_))))
              · refine cp_pR (ci := 10) (k := 2) dX4_first_78 fl_X4_271 rfl rfl rfl h (fun w51 h => ?_)
                obtain ⟨_, hb52, h⟩ := ch_bd h
                refine ch_aload_n 0 (some t0) dX4_first_81 rfl (ch_ldcSw q977 dX4_first_82 (ch_iv yX4_closes prog_7_method_11_code 2 none (ci := 4) (q := (RX4, TX4, 9)) (b := t0) (d' := 10) (av := [va_rf (some (ch_sa g RX4 337))]) (rest := []) rfl dX4_first_85 q847 q849 rfl qs18 q850 can_X4_closes (Nat.le_trans (Nat.le_of_ble_eq_true rfl) (Nat.le_add_left 13 d)) (Nat.le_of_ble_eq_true rfl) (ch_rts hb52) (cp_tV h (fun p hp Q' hq => s_X4_closes hp hq) (fun w54 h => ?_) (fun a w1 h => ?_))))
                · obtain rfl := Option.some.inj h
                  exact ch_aload_n 1 (some (ch_nx w41)) dX4_first_88 rfl (ch_areturn (some (ch_nx w41)) dX4_first_89 rfl (Or.inl ⟨_, rfl⟩) hk)
                · subst h
                  exact ch_th rfl hk
              · subst h
                exact ch_th rfl hk
            · subst h
              exact ch_th rfl hk
          · subst h
            exact ch_th rfl hk
      · subst h
        exact ch_th rfl hk
  · obtain ⟨_, hb55, h⟩ := ch_bd h
    refine ch_aload_n 0 (some t0) dX4_first_9 rfl (ch_ldcS q839 dX4_first_10 (ch_iv yX4_opens prog_7_method_10_code 2 none (ci := 4) (q := (RX4, TX4, 9)) (b := t0) (d' := 10) (av := [va_rf (some (ch_sa g RX4 171))]) (rest := []) rfl dX4_first_12 q739 q741 rfl qs14 q742 can_X4_opens (Nat.le_trans (Nat.le_of_ble_eq_true rfl) (Nat.le_add_left 13 d)) (Nat.le_of_ble_eq_true rfl) (ch_rts hb55) (cp_tV h (fun p hp Q' hq => s_X4_opens hp hq) (fun w57 h => ?_) (fun a w1 h => ?_))))
    · obtain ⟨_, hb58, h⟩ := ch_bd h
      refine ch_aload_n 0 (some t0) dX4_first_15 rfl (ch_iv yX4_value prog_7_method_28_code 2 (some (.object "ClassHouse$Value")) (ci := 4) (q := (RX4, TX4, 9)) (b := t0) (d' := (d + 12)) (av := []) (rest := []) rfl dX4_first_16 q908 q910 rfl qs23 q911 can_X4_value (Nat.le_refl _) (Nat.le_of_ble_eq_true rfl) (ch_rts hb58) (cp_tR h (fun p hp Q' hq => hr0 hp hq) (fun v59 w60 h => ?_) (fun a w1 h => ?_)))
      · obtain ⟨_, hb61, h⟩ := ch_bd h
        refine ch_astore_n 1 v59 (ls1 := [some (va_rf (some t0)), some (va_rf v59), none]) dX4_first_19 (Nat.le_of_ble_eq_true rfl) rfl (ch_aload_n 0 (some t0) dX4_first_20 rfl (ch_ldcS q840 dX4_first_21 (ch_iv yX4_closes prog_7_method_11_code 2 none (ci := 4) (q := (RX4, TX4, 9)) (b := t0) (d' := 10) (av := [va_rf (some (ch_sa g RX4 173))]) (rest := []) rfl dX4_first_23 q847 q849 rfl qs18 q850 can_X4_closes (Nat.le_trans (Nat.le_of_ble_eq_true rfl) (Nat.le_add_left 13 d)) (Nat.le_of_ble_eq_true rfl) (ch_rts hb61) (cp_tV h (fun p hp Q' hq => s_X4_closes hp hq) (fun w63 h => ?_) (fun a w1 h => ?_)))))
        · obtain rfl := Option.some.inj h
          exact ch_aload_n 1 v59 dX4_first_26 rfl (ch_areturn v59 dX4_first_27 rfl (Or.inl ⟨_, rfl⟩) hk)
        · subst h
          exact ch_th rfl hk
      · subst h
        exact ch_th rfl hk
    · subst h
      exact ch_th rfl hk

theorem bX4_arguments_0 : ch_ck cX4_arguments 0 [42, 18, 171, 182, 0, 134, 187, 0, 9, 89, 183, 0, 11, 76, 42, 18] := ch_ckof (by decide +kernel)
theorem bX4_arguments_1 : ch_ck cX4_arguments 16 [173, 182, 0, 76, 154, 0, 28, 43, 182, 1, 85, 154, 0, 9, 42, 18] := ch_ckof (by decide +kernel)
theorem bX4_arguments_2 : ch_ck cX4_arguments 32 [182, 182, 0, 116, 43, 42, 182, 0, 233, 182, 0, 107, 87, 167, 255, 225] := ch_ckof (by decide +kernel)
theorem bX4_arguments_3 : ch_ck cX4_arguments 48 [42, 18, 173, 182, 0, 146, 43, 182, 0, 89, 189, 0, 243, 77, 3, 62] := ch_ckof (by decide +kernel)
theorem bX4_arguments_4 : ch_ck cX4_arguments 64 [29, 44, 190, 162, 0, 20, 44, 29, 43, 29, 182, 0, 92, 192, 0, 243] := ch_ckof (by decide +kernel)
theorem bX4_arguments_5 : ch_ck cX4_arguments 80 [83, 132, 3, 1, 167, 255, 236, 44, 176] := ch_ckof (by decide +kernel)
theorem dX4_arguments_0 : decode cX4_arguments 0 = .ok (.aload_n 0, 1) := dz_42 (bX4_arguments_0 0 _ rfl)
theorem dX4_arguments_1 : decode cX4_arguments 1 = .ok (.ldc 171, 2) := dz_18 (bX4_arguments_0 1 _ rfl) (bX4_arguments_0 2 _ rfl)
theorem dX4_arguments_3 : decode cX4_arguments 3 = .ok (.invokevirtual 134, 3) := dz_182 (bX4_arguments_0 3 _ rfl) (bX4_arguments_0 4 _ rfl) (bX4_arguments_0 5 _ rfl)
theorem dX4_arguments_6 : decode cX4_arguments 6 = .ok (.new 9, 3) := dz_187 (bX4_arguments_0 6 _ rfl) (bX4_arguments_0 7 _ rfl) (bX4_arguments_0 8 _ rfl)
theorem dX4_arguments_9 : decode cX4_arguments 9 = .ok (.dup, 1) := dz_89 (bX4_arguments_0 9 _ rfl)
theorem dX4_arguments_10 : decode cX4_arguments 10 = .ok (.invokespecial 11, 3) := dz_183 (bX4_arguments_0 10 _ rfl) (bX4_arguments_0 11 _ rfl) (bX4_arguments_0 12 _ rfl)
theorem dX4_arguments_13 : decode cX4_arguments 13 = .ok (.astore_n 1, 1) := dz_76 (bX4_arguments_0 13 _ rfl)
theorem dX4_arguments_14 : decode cX4_arguments 14 = .ok (.aload_n 0, 1) := dz_42 (bX4_arguments_0 14 _ rfl)
theorem dX4_arguments_15 : decode cX4_arguments 15 = .ok (.ldc 173, 2) := dz_18 (bX4_arguments_0 15 _ rfl) (bX4_arguments_1 0 _ rfl)
theorem dX4_arguments_17 : decode cX4_arguments 17 = .ok (.invokevirtual 76, 3) := dz_182 (bX4_arguments_1 1 _ rfl) (bX4_arguments_1 2 _ rfl) (bX4_arguments_1 3 _ rfl)
theorem dX4_arguments_20 : decode cX4_arguments 20 = .ok (.ifCond .ne 28, 3) := dz_154 (bX4_arguments_1 4 _ rfl) (bX4_arguments_1 5 _ rfl) (bX4_arguments_1 6 _ rfl)
theorem dX4_arguments_23 : decode cX4_arguments 23 = .ok (.aload_n 1, 1) := dz_43 (bX4_arguments_1 7 _ rfl)
theorem dX4_arguments_24 : decode cX4_arguments 24 = .ok (.invokevirtual 341, 3) := dz_182 (bX4_arguments_1 8 _ rfl) (bX4_arguments_1 9 _ rfl) (bX4_arguments_1 10 _ rfl)
theorem dX4_arguments_27 : decode cX4_arguments 27 = .ok (.ifCond .ne 9, 3) := dz_154 (bX4_arguments_1 11 _ rfl) (bX4_arguments_1 12 _ rfl) (bX4_arguments_1 13 _ rfl)
theorem dX4_arguments_30 : decode cX4_arguments 30 = .ok (.aload_n 0, 1) := dz_42 (bX4_arguments_1 14 _ rfl)
theorem dX4_arguments_31 : decode cX4_arguments 31 = .ok (.ldc 182, 2) := dz_18 (bX4_arguments_1 15 _ rfl) (bX4_arguments_2 0 _ rfl)
theorem dX4_arguments_33 : decode cX4_arguments 33 = .ok (.invokevirtual 116, 3) := dz_182 (bX4_arguments_2 1 _ rfl) (bX4_arguments_2 2 _ rfl) (bX4_arguments_2 3 _ rfl)
theorem dX4_arguments_36 : decode cX4_arguments 36 = .ok (.aload_n 1, 1) := dz_43 (bX4_arguments_2 4 _ rfl)
theorem dX4_arguments_37 : decode cX4_arguments 37 = .ok (.aload_n 0, 1) := dz_42 (bX4_arguments_2 5 _ rfl)
theorem dX4_arguments_38 : decode cX4_arguments 38 = .ok (.invokevirtual 233, 3) := dz_182 (bX4_arguments_2 6 _ rfl) (bX4_arguments_2 7 _ rfl) (bX4_arguments_2 8 _ rfl)
theorem dX4_arguments_41 : decode cX4_arguments 41 = .ok (.invokevirtual 107, 3) := dz_182 (bX4_arguments_2 9 _ rfl) (bX4_arguments_2 10 _ rfl) (bX4_arguments_2 11 _ rfl)
theorem dX4_arguments_44 : decode cX4_arguments 44 = .ok (.pop, 1) := dz_87 (bX4_arguments_2 12 _ rfl)
theorem dX4_arguments_45 : decode cX4_arguments 45 = .ok (.goto (-31), 3) := dz_167 (bX4_arguments_2 13 _ rfl) (bX4_arguments_2 14 _ rfl) (bX4_arguments_2 15 _ rfl)
theorem dX4_arguments_48 : decode cX4_arguments 48 = .ok (.aload_n 0, 1) := dz_42 (bX4_arguments_3 0 _ rfl)
theorem dX4_arguments_49 : decode cX4_arguments 49 = .ok (.ldc 173, 2) := dz_18 (bX4_arguments_3 1 _ rfl) (bX4_arguments_3 2 _ rfl)
theorem dX4_arguments_51 : decode cX4_arguments 51 = .ok (.invokevirtual 146, 3) := dz_182 (bX4_arguments_3 3 _ rfl) (bX4_arguments_3 4 _ rfl) (bX4_arguments_3 5 _ rfl)
theorem dX4_arguments_54 : decode cX4_arguments 54 = .ok (.aload_n 1, 1) := dz_43 (bX4_arguments_3 6 _ rfl)
theorem dX4_arguments_55 : decode cX4_arguments 55 = .ok (.invokevirtual 89, 3) := dz_182 (bX4_arguments_3 7 _ rfl) (bX4_arguments_3 8 _ rfl) (bX4_arguments_3 9 _ rfl)
theorem dX4_arguments_58 : decode cX4_arguments 58 = .ok (.anewarray 243, 3) := dz_189 (bX4_arguments_3 10 _ rfl) (bX4_arguments_3 11 _ rfl) (bX4_arguments_3 12 _ rfl)
theorem dX4_arguments_61 : decode cX4_arguments 61 = .ok (.astore_n 2, 1) := dz_77 (bX4_arguments_3 13 _ rfl)
theorem dX4_arguments_62 : decode cX4_arguments 62 = .ok (.iconst 0, 1) := dz_3 (bX4_arguments_3 14 _ rfl)
theorem dX4_arguments_63 : decode cX4_arguments 63 = .ok (.istore_n 3, 1) := dz_62 (bX4_arguments_3 15 _ rfl)
theorem dX4_arguments_64 : decode cX4_arguments 64 = .ok (.iload_n 3, 1) := dz_29 (bX4_arguments_4 0 _ rfl)
theorem dX4_arguments_65 : decode cX4_arguments 65 = .ok (.aload_n 2, 1) := dz_44 (bX4_arguments_4 1 _ rfl)
theorem dX4_arguments_66 : decode cX4_arguments 66 = .ok (.arraylength, 1) := dz_190 (bX4_arguments_4 2 _ rfl)
theorem dX4_arguments_67 : decode cX4_arguments 67 = .ok (.if_icmp .ge 20, 3) := dz_162 (bX4_arguments_4 3 _ rfl) (bX4_arguments_4 4 _ rfl) (bX4_arguments_4 5 _ rfl)
theorem dX4_arguments_70 : decode cX4_arguments 70 = .ok (.aload_n 2, 1) := dz_44 (bX4_arguments_4 6 _ rfl)
theorem dX4_arguments_71 : decode cX4_arguments 71 = .ok (.iload_n 3, 1) := dz_29 (bX4_arguments_4 7 _ rfl)
theorem dX4_arguments_72 : decode cX4_arguments 72 = .ok (.aload_n 1, 1) := dz_43 (bX4_arguments_4 8 _ rfl)
theorem dX4_arguments_73 : decode cX4_arguments 73 = .ok (.iload_n 3, 1) := dz_29 (bX4_arguments_4 9 _ rfl)
theorem dX4_arguments_74 : decode cX4_arguments 74 = .ok (.invokevirtual 92, 3) := dz_182 (bX4_arguments_4 10 _ rfl) (bX4_arguments_4 11 _ rfl) (bX4_arguments_4 12 _ rfl)
theorem dX4_arguments_77 : decode cX4_arguments 77 = .ok (.checkcast 243, 3) := dz_192 (bX4_arguments_4 13 _ rfl) (bX4_arguments_4 14 _ rfl) (bX4_arguments_4 15 _ rfl)
theorem dX4_arguments_80 : decode cX4_arguments 80 = .ok (.aastore, 1) := dz_83 (bX4_arguments_5 0 _ rfl)
theorem dX4_arguments_81 : decode cX4_arguments 81 = .ok (.iinc 3 1, 3) := dz_132 (bX4_arguments_5 1 _ rfl) (bX4_arguments_5 2 _ rfl) (bX4_arguments_5 3 _ rfl)
theorem dX4_arguments_84 : decode cX4_arguments 84 = .ok (.goto (-20), 3) := dz_167 (bX4_arguments_5 4 _ rfl) (bX4_arguments_5 5 _ rfl) (bX4_arguments_5 6 _ rfl)
theorem dX4_arguments_87 : decode cX4_arguments 87 = .ok (.aload_n 2, 1) := dz_44 (bX4_arguments_5 7 _ rfl)
theorem dX4_arguments_88 : decode cX4_arguments 88 = .ok (.areturn, 1) := dz_176 (bX4_arguments_5 8 _ rfl)
def c_X4_arguments_64 (rc : Nat → Nat → ch_W → Option (Except Nat (Option Nat) × ch_W)) (g : State) (t0 : Nat) (x1 : Option Nat) (x2 : Option Nat) (x3 : Int32)  (w : ch_W) : Option ((Int32 × ch_W) ⊕ (Except Nat (Option Nat) × ch_W)) := (ch_le w x2 27).bind fun v1 => if x3 < v1 then ((ch_rc w x1 14).bind fun b3 => (c_J5_get b3 x3 w).bind fun v4 => (ch_cast w v4 11).bind fun _ => (ch_wR w x2 27 11 x3 v4).bind fun w6 => some (.inl (x3 + 1, w6))) else (some (.inr ((.ok x2, w))))
theorem s_X4_arguments_64 {g : State} {d : Nat} {rc : Nat → Nat → ch_W → Option (Except Nat (Option Nat) × ch_W)} (hr0 : ∀ {t0 : Nat} {w : ch_W} {p : Except Nat (Option Nat) × ch_W} {Q : Outcome → ch_W → Prop}, rc 0 t0 w = some p → ch_xR Q p → ch_CT g true yX4_value (d + 12) [.ref t0] (w) Q)  {t0 : Nat} {x1 : Option Nat} {x2 : Option Nat} {x3 : Int32} {w : ch_W} {res : (Int32 × ch_W) ⊕ (Except Nat (Option Nat) × ch_W)} {Q : Outcome → ch_W → Prop} (h : c_X4_arguments_64 rc g t0 x1 x2 x3 w = some res) (hk : (ch_sm (fun s => ch_FT g true mX4_arguments (d + 13) 64 [none, some (va_rf x1), some (va_rf x2), some (.int s.1)] [] (s.2) Q) (ch_xR Q)) res) : ch_FT g true mX4_arguments (d + 13) 64 [none, some (va_rf x1), some (va_rf x2), some (.int x3)] [] (w) Q := by
  unfold c_X4_arguments_64 at h
  refine ch_iload_n 3 _ dX4_arguments_64 rfl (ch_aload_n 2 x2 dX4_arguments_65 rfl (cp_alen (t := 27) dX4_arguments_66 rfl rfl h (fun v1 h => ?_)))
  refine cp_icmp_ge _ _ (tgt := 87) dX4_arguments_67 rfl h (fun h => ?_) (fun h => ?_)
  · obtain rfl := Option.some.inj h
    exact ch_aload_n 2 x2 dX4_arguments_87 rfl (ch_areturn x2 dX4_arguments_88 rfl (Or.inr ⟨_, rfl⟩) hk)
  · obtain ⟨b3, hb2, h⟩ := ch_bd h
    obtain ⟨v4, hp5, h⟩ := ch_bd h
    refine ch_aload_n 2 x2 dX4_arguments_70 rfl (ch_iload_n 3 _ dX4_arguments_71 rfl (ch_aload_n 1 x1 dX4_arguments_72 rfl (ch_iload_n 3 _ dX4_arguments_73 rfl (ch_iv yJ5_get prog_32_method_20_code 2 (some (.object "java/lang/Object")) (ci := 13) (q := (RJ5, TJ5, 3)) (b := b3) (d' := 4) (av := [.int x3]) (rest := [.int x3, va_rf x2]) (by rw [ch_rs hb2]; rfl) dX4_arguments_74 q611 q612 rfl q613 q614 can_J5_get (Nat.le_trans (Nat.le_of_ble_eq_true rfl) (Nat.le_add_left 13 d)) (ch_hw (Nat.le_of_ble_eq_true rfl)) (ch_rtg hb2) (cp_kR (v := v4) (w1 := w) (fun Q' hq => s_J5_get hp5 hq) ?_)))))
    refine cp_cast (ci := 10) (q := (RX10, TX10, 6)) dX4_arguments_77 rfl q938 h (fun h => ?_)
    refine cp_aast (t := 27) (c := 11) dX4_arguments_80 rfl (Nat.le_of_ble_eq_true rfl) rfl el_11 h (fun w6 h => ?_)
    refine ch_iinc 3 _ _ (x3 + 1) (ls1 := [none, some (va_rf x1), some (va_rf x2), some (.int (x3 + 1))]) dX4_arguments_81 rfl rfl (Nat.le_of_ble_eq_true rfl) (ch_s1o rfl rfl) (ch_goto 64 dX4_arguments_84 rfl (ch_FT.wk (ch_wN (ch_wS (ch_wS (ch_wS ch_w0)))) ?_))
    obtain rfl := Option.some.inj h
    exact hk
theorem sl_X4_arguments_64 {g : State} {d : Nat} {rc : Nat → Nat → ch_W → Option (Except Nat (Option Nat) × ch_W)} (hr0 : ∀ {t0 : Nat} {w : ch_W} {p : Except Nat (Option Nat) × ch_W} {Q : Outcome → ch_W → Prop}, rc 0 t0 w = some p → ch_xR Q p → ch_CT g true yX4_value (d + 12) [.ref t0] (w) Q)  {t0 : Nat} {x1 : Option Nat} {x2 : Option Nat} {a : Int32 × ch_W} {res : Except Nat (Option Nat) × ch_W} {Q : Outcome → ch_W → Prop} (h : ch_loop (fun (s : Int32 × ch_W) => c_X4_arguments_64 rc g t0 x1 x2 s.1 s.2) a = some res) (hk : (ch_xR Q) res) : ch_FT g true mX4_arguments (d + 13) 64 [none, some (va_rf x1), some (va_rf x2), some (.int a.1)] [] (a.2) Q := by
  refine ch_loop_ind (fun (a : Int32 × ch_W) (r : Except Nat (Option Nat) × ch_W) => (ch_xR Q) r → ch_FT g true mX4_arguments (d + 13) 64 [none, some (va_rf x1), some (va_rf x2), some (.int a.1)] [] (a.2) Q) ?_ ?_ a res h hk
  · intro a a2 b h1 ih hk
    exact s_X4_arguments_64 hr0 h1 (ih hk)
  · intro a b h1 hk
    exact s_X4_arguments_64 hr0 h1 hk

def c_X4_arguments_36 (rc : Nat → Nat → ch_W → Option (Except Nat (Option Nat) × ch_W)) (g : State) (t0 : Nat) (x1 : Option Nat)  (w : ch_W) : Option (ch_W ⊕ (Except Nat (Option Nat) × ch_W)) := (ch_rc w (some t0) 5).bind fun _ => ch_tb (rc 0 t0 w) (fun a w => .inr ((.error a, w))) fun v2 w3 => (ch_rc w3 x1 14).bind fun b5 => (c_J5_add g b5 v2 w3).bind fun p6 => some (.inl (p6.2))
theorem s_X4_arguments_36 {g : State} {d : Nat} {rc : Nat → Nat → ch_W → Option (Except Nat (Option Nat) × ch_W)} (hr0 : ∀ {t0 : Nat} {w : ch_W} {p : Except Nat (Option Nat) × ch_W} {Q : Outcome → ch_W → Prop}, rc 0 t0 w = some p → ch_xR Q p → ch_CT g true yX4_value (d + 12) [.ref t0] (w) Q)  {t0 : Nat} {x1 : Option Nat} {w : ch_W} {res : ch_W ⊕ (Except Nat (Option Nat) × ch_W)} {Q : Outcome → ch_W → Prop} (h : c_X4_arguments_36 rc g t0 x1 w = some res) (hk : (ch_sm (fun s => ch_FT g true mX4_arguments (d + 13) 14 [some (va_rf (some t0)), some (va_rf x1), none, none] [] (s) Q) (ch_xR Q)) res) : ch_FT g true mX4_arguments (d + 13) 36 [some (va_rf (some t0)), some (va_rf x1), none, none] [] (w) Q := by
  unfold c_X4_arguments_36 at h
  obtain ⟨_, hb1, h⟩ := ch_bd h
  refine ch_aload_n 1 x1 dX4_arguments_36 rfl (ch_aload_n 0 (some t0) dX4_arguments_37 rfl (ch_iv yX4_value prog_7_method_28_code 2 (some (.object "ClassHouse$Value")) (ci := 4) (q := (RX4, TX4, 9)) (b := t0) (d' := (d + 12)) (av := []) (rest := [va_rf x1]) rfl dX4_arguments_38 q908 q910 rfl qs23 q911 can_X4_value (Nat.le_refl _) (ch_hw (Nat.le_of_ble_eq_true rfl)) (ch_rts hb1) (cp_tR h (fun p hp Q' hq => hr0 hp hq) (fun v2 w3 h => ?_) (fun a w1 h => ?_))))
  · obtain ⟨b5, hb4, h⟩ := ch_bd h
    obtain ⟨p6, hp7, h⟩ := ch_bd h
    refine ch_iv yJ5_add prog_32_method_25_code 2 (some .boolean) (ci := 13) (q := (RJ5, TJ5, 3)) (b := b5) (d' := 8) (av := [va_rf v2]) (rest := []) (by rw [ch_rs hb4]; rfl) dX4_arguments_41 q630 q631 rfl q632 q633 can_J5_add (Nat.le_trans (Nat.le_of_ble_eq_true rfl) (Nat.le_add_left 13 d)) (Nat.le_of_ble_eq_true rfl) (ch_rtg hb4) (cp_kI (v := p6.1) (w1 := p6.2) (fun Q' hq => s_J5_add hp7 hq) ?_)
    refine ch_pop dX4_arguments_44 rfl (ch_goto 14 dX4_arguments_45 rfl (ch_FT.wk (ch_wS (ch_wS (ch_wN (ch_wN ch_w0)))) ?_))
    obtain rfl := Option.some.inj h
    exact hk
  · subst h
    exact ch_th rfl hk

def c_X4_arguments_14 (rc : Nat → Nat → ch_W → Option (Except Nat (Option Nat) × ch_W)) (g : State) (t0 : Nat) (x1 : Option Nat)  (w : ch_W) : Option (ch_W ⊕ (Except Nat (Option Nat) × ch_W)) := (ch_rc w (some t0) 5).bind fun _ => (c_X4_isThe g t0 (some (ch_sa g RX4 173)) w).bind fun v2 => if v2 = 0 then ((ch_rc w x1 14).bind fun b13 => (c_J5_isEmpty b13 w).bind fun v14 => if v14 = 0 then ((ch_rc w (some t0) 5).bind fun _ => ch_tb (c_X4_want g t0 (some (ch_sa g RX4 182)) w) (fun a w => .inr ((.error a, w))) fun _ w18 => c_X4_arguments_36 rc g t0 x1 w18) else (c_X4_arguments_36 rc g t0 x1 w)) else ((ch_rc w (some t0) 5).bind fun _ => ch_tb (c_X4_closes g t0 (some (ch_sa g RX4 173)) w) (fun a w => .inr ((.error a, w))) fun _ w6 => (ch_rc w6 x1 14).bind fun b8 => (c_J5_size b8 w6).bind fun v9 => (ch_nA w6 27 v9).bind fun w11 => (ch_loop (fun (s : Int32 × ch_W) => c_X4_arguments_64 rc g t0 x1 (some (ch_nx w6)) s.1 s.2) (0, w11)).bind fun r => some (.inr (r)))
theorem s_X4_arguments_14 {g : State} {d : Nat} {rc : Nat → Nat → ch_W → Option (Except Nat (Option Nat) × ch_W)} (hr0 : ∀ {t0 : Nat} {w : ch_W} {p : Except Nat (Option Nat) × ch_W} {Q : Outcome → ch_W → Prop}, rc 0 t0 w = some p → ch_xR Q p → ch_CT g true yX4_value (d + 12) [.ref t0] (w) Q)  {t0 : Nat} {x1 : Option Nat} {w : ch_W} {res : ch_W ⊕ (Except Nat (Option Nat) × ch_W)} {Q : Outcome → ch_W → Prop} (h : c_X4_arguments_14 rc g t0 x1 w = some res) (hk : (ch_sm (fun s => ch_FT g true mX4_arguments (d + 13) 14 [some (va_rf (some t0)), some (va_rf x1), none, none] [] (s) Q) (ch_xR Q)) res) : ch_FT g true mX4_arguments (d + 13) 14 [some (va_rf (some t0)), some (va_rf x1), none, none] [] (w) Q := by
  unfold c_X4_arguments_14 at h
  obtain ⟨_, hb1, h⟩ := ch_bd h
  obtain ⟨v2, hp3, h⟩ := ch_bd h
  refine ch_aload_n 0 (some t0) dX4_arguments_14 rfl (ch_ldcS q840 dX4_arguments_15 (ch_iv yX4_isThe prog_7_method_8_code 2 (some .boolean) (ci := 4) (q := (RX4, TX4, 9)) (b := t0) (d' := 7) (av := [va_rf (some (ch_sa g RX4 173))]) (rest := []) rfl dX4_arguments_17 q593 q595 rfl qs7 q596 can_X4_isThe (Nat.le_trans (Nat.le_of_ble_eq_true rfl) (Nat.le_add_left 13 d)) (Nat.le_of_ble_eq_true rfl) (ch_rts hb1) (cp_kI (v := v2) (w1 := w) (fun Q' hq => s_X4_isThe hp3 hq) ?_)))
  refine cp_if_ne _ (tgt := 48) dX4_arguments_20 rfl h (fun h => ?_) (fun h => ?_)
  · obtain ⟨_, hb4, h⟩ := ch_bd h
    refine ch_aload_n 0 (some t0) dX4_arguments_48 rfl (ch_ldcS q840 dX4_arguments_49 (ch_iv yX4_closes prog_7_method_11_code 2 none (ci := 4) (q := (RX4, TX4, 9)) (b := t0) (d' := 10) (av := [va_rf (some (ch_sa g RX4 173))]) (rest := []) rfl dX4_arguments_51 q847 q849 rfl qs18 q850 can_X4_closes (Nat.le_trans (Nat.le_of_ble_eq_true rfl) (Nat.le_add_left 13 d)) (Nat.le_of_ble_eq_true rfl) (ch_rts hb4) (cp_tV h (fun p hp Q' hq => s_X4_closes hp hq) (fun w6 h => ?_) (fun a w1 h => ?_))))
    · obtain ⟨b8, hb7, h⟩ := ch_bd h
      obtain ⟨v9, hp10, h⟩ := ch_bd h
      refine ch_aload_n 1 x1 dX4_arguments_54 rfl (ch_iv yJ5_size prog_32_method_8_code 1 (some .int) (ci := 13) (q := (RJ5, TJ5, 3)) (b := b8) (d' := 2) (av := []) (rest := []) (by rw [ch_rs hb7]; rfl) dX4_arguments_55 q607 q608 rfl q609 q610 can_J5_size (Nat.le_trans (Nat.le_of_ble_eq_true rfl) (Nat.le_add_left 13 d)) (Nat.le_of_ble_eq_true rfl) (ch_rtg hb7) (cp_kI (v := v9) (w1 := w6) (fun Q' hq => s_J5_size hp10 hq) ?_))
      refine cp_newR (t := 27) (C := "ClassHouse$Value") dX4_arguments_58 rfl (Nat.le_of_ble_eq_true rfl) q938 q986 h (fun w11 h => ?_)
      obtain ⟨r, hr, h⟩ := ch_bd h
      obtain rfl := Option.some.inj h
      exact ch_astore_n 2 (some (ch_nx w6)) (ls1 := [some (va_rf (some t0)), some (va_rf x1), some (va_rf (some (ch_nx w6))), none]) dX4_arguments_61 (Nat.le_of_ble_eq_true rfl) (ch_s1o rfl rfl) (ch_iconst _ 0 dX4_arguments_62 rfl (ch_istore_n 3 _ (ls1 := [some (va_rf (some t0)), some (va_rf x1), some (va_rf (some (ch_nx w6))), some (.int 0)]) dX4_arguments_63 (Nat.le_of_ble_eq_true rfl) rfl (ch_FT.wk (ch_wN (ch_wS (ch_wS (ch_wS ch_w0)))) (sl_X4_arguments_64 hr0 hr hk))))
    · subst h
      exact ch_th rfl hk
  · obtain ⟨b13, hb12, h⟩ := ch_bd h
    obtain ⟨v14, hp15, h⟩ := ch_bd h
    refine ch_aload_n 1 x1 dX4_arguments_23 rfl (ch_iv yJ5_isEmpty prog_32_method_9_code 1 (some .boolean) (ci := 13) (q := (RJ5, TJ5, 3)) (b := b13) (d' := 2) (av := []) (rest := []) (by rw [ch_rs hb12]; rfl) dX4_arguments_24 q982 q983 rfl q984 q985 can_J5_isEmpty (Nat.le_trans (Nat.le_of_ble_eq_true rfl) (Nat.le_add_left 13 d)) (Nat.le_of_ble_eq_true rfl) (ch_rtg hb12) (cp_kI (v := v14) (w1 := w) (fun Q' hq => s_J5_isEmpty hp15 hq) ?_))
    refine cp_if_ne _ (tgt := 36) dX4_arguments_27 rfl h (fun h => ?_) (fun h => ?_)
    · exact ch_FT.wk (ch_wS (ch_wS (ch_wN (ch_wN ch_w0)))) (s_X4_arguments_36 hr0 h hk)
    · obtain ⟨_, hb16, h⟩ := ch_bd h
      refine ch_aload_n 0 (some t0) dX4_arguments_30 rfl (ch_ldcS q841 dX4_arguments_31 (ch_iv yX4_want prog_7_method_9_code 2 none (ci := 4) (q := (RX4, TX4, 9)) (b := t0) (d' := 10) (av := [va_rf (some (ch_sa g RX4 182))]) (rest := []) rfl dX4_arguments_33 q589 q591 rfl qs6 q592 can_X4_want (Nat.le_trans (Nat.le_of_ble_eq_true rfl) (Nat.le_add_left 13 d)) (Nat.le_of_ble_eq_true rfl) (ch_rts hb16) (cp_tV h (fun p hp Q' hq => s_X4_want hp hq) (fun w18 h => ?_) (fun a w1 h => ?_))))
      · exact ch_FT.wk (ch_wS (ch_wS (ch_wN (ch_wN ch_w0)))) (s_X4_arguments_36 hr0 h hk)
      · subst h
        exact ch_th rfl hk
theorem sl_X4_arguments_14 {g : State} {d : Nat} {rc : Nat → Nat → ch_W → Option (Except Nat (Option Nat) × ch_W)} (hr0 : ∀ {t0 : Nat} {w : ch_W} {p : Except Nat (Option Nat) × ch_W} {Q : Outcome → ch_W → Prop}, rc 0 t0 w = some p → ch_xR Q p → ch_CT g true yX4_value (d + 12) [.ref t0] (w) Q)  {t0 : Nat} {x1 : Option Nat} {a : ch_W} {res : Except Nat (Option Nat) × ch_W} {Q : Outcome → ch_W → Prop} (h : ch_loop (fun (s : ch_W) => c_X4_arguments_14 rc g t0 x1 s) a = some res) (hk : (ch_xR Q) res) : ch_FT g true mX4_arguments (d + 13) 14 [some (va_rf (some t0)), some (va_rf x1), none, none] [] (a) Q := by
  refine ch_loop_ind (fun (a : ch_W) (r : Except Nat (Option Nat) × ch_W) => (ch_xR Q) r → ch_FT g true mX4_arguments (d + 13) 14 [some (va_rf (some t0)), some (va_rf x1), none, none] [] (a) Q) ?_ ?_ a res h hk
  · intro a a2 b h1 ih hk
    exact s_X4_arguments_14 hr0 h1 (ih hk)
  · intro a b h1 hk
    exact s_X4_arguments_14 hr0 h1 hk

def c_X4_arguments (rc : Nat → Nat → ch_W → Option (Except Nat (Option Nat) × ch_W)) (g : State) (t0 : Nat)  (w : ch_W) : Option (Except Nat (Option Nat) × ch_W) := (ch_rc w (some t0) 5).bind fun _ => ch_tb (c_X4_opens g t0 (some (ch_sa g RX4 171)) w) (fun a w => (.error a, w)) fun _ w3 => (ch_nO w3 14 3).bind fun w4 => (c_J5_init g (ch_nx w3) w4).bind fun p5 => ch_loop (fun (s : ch_W) => c_X4_arguments_14 rc g t0 (some (ch_nx w3)) s) (p5)
theorem s_X4_arguments {g : State} {d : Nat} {rc : Nat → Nat → ch_W → Option (Except Nat (Option Nat) × ch_W)} (hr0 : ∀ {t0 : Nat} {w : ch_W} {p : Except Nat (Option Nat) × ch_W} {Q : Outcome → ch_W → Prop}, rc 0 t0 w = some p → ch_xR Q p → ch_CT g true yX4_value (d + 12) [.ref t0] (w) Q)  {t0 : Nat} {w : ch_W} {res : Except Nat (Option Nat) × ch_W} {Q : Outcome → ch_W → Prop} (h : c_X4_arguments rc g t0 w = some res) (hk : (ch_xR Q) res) : ch_CT g true yX4_arguments (d + 13) [.ref t0] (w) Q := by
  unfold c_X4_arguments at h
  refine ch_ctL mX4_arguments (ls := [some (va_rf (some t0)), none, none, none]) q981 rfl (ch_lyr (r := some t0) ch_ly0) (Nat.le_of_ble_eq_true rfl) rfl ?_
  obtain ⟨_, hb1, h⟩ := ch_bd h
  refine ch_aload_n 0 (some t0) dX4_arguments_0 rfl (ch_ldcS q839 dX4_arguments_1 (ch_iv yX4_opens prog_7_method_10_code 2 none (ci := 4) (q := (RX4, TX4, 9)) (b := t0) (d' := 10) (av := [va_rf (some (ch_sa g RX4 171))]) (rest := []) rfl dX4_arguments_3 q739 q741 rfl qs14 q742 can_X4_opens (Nat.le_trans (Nat.le_of_ble_eq_true rfl) (Nat.le_add_left 13 d)) (Nat.le_of_ble_eq_true rfl) (ch_rts hb1) (cp_tV h (fun p hp Q' hq => s_X4_opens hp hq) (fun w3 h => ?_) (fun a w1 h => ?_))))
  · refine cp_new (ci := 13) (n := 3) (q := (RJ5, TJ5, 3)) dX4_arguments_6 rfl q438 q439 q210 h (fun w4 h => ?_)
    obtain ⟨p5, hp6, h⟩ := ch_bd h
    refine ch_dup dX4_arguments_9 (ch_cat _) (ch_ii yJ5_init prog_32_method_2_code 1 (b := (ch_nx w3)) (d' := 4) (av := []) (rest := [va_rf (some (ch_nx w3))]) rfl dX4_arguments_10 rfl q440 q441 q442 can_J5_init (Nat.le_trans (Nat.le_of_ble_eq_true rfl) (Nat.le_add_left 13 d)) (ch_hw (Nat.le_of_ble_eq_true rfl)) (cp_kV (w1 := p5) (fun Q' hq => s_J5_init hp6 hq) ?_))
    exact ch_astore_n 1 (some (ch_nx w3)) (ls1 := [some (va_rf (some t0)), some (va_rf (some (ch_nx w3))), none, none]) dX4_arguments_13 (Nat.le_of_ble_eq_true rfl) rfl (ch_FT.wk (ch_wS (ch_wS (ch_wN (ch_wN ch_w0)))) (sl_X4_arguments_14 hr0 h hk))
  · subst h
    exact ch_th rfl hk

def cr_PA (g : State) : Nat → Nat → Nat → ch_W → Option (Except Nat (Option Nat) × ch_W)
  | 0 => fun _ _ _ => none
  | d + 1 => fun k t0 w => if k = 0 then c_X4_value (cr_PA g d) g t0 w else if k = 1 then c_X4_anded (cr_PA g d) g t0 w else if k = 2 then c_X4_equaled (cr_PA g d) g t0 w else if k = 3 then c_X4_related (cr_PA g d) g t0 w else if k = 4 then c_X4_sum (cr_PA g d) g t0 w else if k = 5 then c_X4_product (cr_PA g d) g t0 w else if k = 6 then c_X4_one (cr_PA g d) g t0 w else if k = 7 then c_X4_first (cr_PA g d) g t0 w else c_X4_arguments (cr_PA g d) g t0 w
theorem sr_PA {g : State} : ∀ d : Nat, (∀ {t0 : Nat} {w : ch_W} {p : Except Nat (Option Nat) × ch_W} {Q : Outcome → ch_W → Prop}, cr_PA g d 0 t0 w = some p → ch_xR Q p → ch_CT g true yX4_value (d + 12) [.ref t0] (w) Q) ∧ (∀ {t0 : Nat} {w : ch_W} {p : Except Nat (Option Nat) × ch_W} {Q : Outcome → ch_W → Prop}, cr_PA g d 1 t0 w = some p → ch_xR Q p → ch_CT g true yX4_anded (d + 12) [.ref t0] (w) Q) ∧ (∀ {t0 : Nat} {w : ch_W} {p : Except Nat (Option Nat) × ch_W} {Q : Outcome → ch_W → Prop}, cr_PA g d 2 t0 w = some p → ch_xR Q p → ch_CT g true yX4_equaled (d + 12) [.ref t0] (w) Q) ∧ (∀ {t0 : Nat} {w : ch_W} {p : Except Nat (Option Nat) × ch_W} {Q : Outcome → ch_W → Prop}, cr_PA g d 3 t0 w = some p → ch_xR Q p → ch_CT g true yX4_related (d + 12) [.ref t0] (w) Q) ∧ (∀ {t0 : Nat} {w : ch_W} {p : Except Nat (Option Nat) × ch_W} {Q : Outcome → ch_W → Prop}, cr_PA g d 4 t0 w = some p → ch_xR Q p → ch_CT g true yX4_sum (d + 12) [.ref t0] (w) Q) ∧ (∀ {t0 : Nat} {w : ch_W} {p : Except Nat (Option Nat) × ch_W} {Q : Outcome → ch_W → Prop}, cr_PA g d 5 t0 w = some p → ch_xR Q p → ch_CT g true yX4_product (d + 12) [.ref t0] (w) Q) ∧ (∀ {t0 : Nat} {w : ch_W} {p : Except Nat (Option Nat) × ch_W} {Q : Outcome → ch_W → Prop}, cr_PA g d 6 t0 w = some p → ch_xR Q p → ch_CT g true yX4_one (d + 12) [.ref t0] (w) Q) ∧ (∀ {t0 : Nat} {w : ch_W} {p : Except Nat (Option Nat) × ch_W} {Q : Outcome → ch_W → Prop}, cr_PA g d 7 t0 w = some p → ch_xR Q p → ch_CT g true yX4_first (d + 12) [.ref t0] (w) Q) ∧ (∀ {t0 : Nat} {w : ch_W} {p : Except Nat (Option Nat) × ch_W} {Q : Outcome → ch_W → Prop}, cr_PA g d 8 t0 w = some p → ch_xR Q p → ch_CT g true yX4_arguments (d + 12) [.ref t0] (w) Q) := by
  intro d
  induction d with
  | zero => exact ⟨fun h _ => (by cases h), fun h _ => (by cases h), fun h _ => (by cases h), fun h _ => (by cases h), fun h _ => (by cases h), fun h _ => (by cases h), fun h _ => (by cases h), fun h _ => (by cases h), fun h _ => (by cases h)⟩
  | succ d ih =>
    exact ⟨fun {t0 w p Q} h hk => s_X4_value ih.2.1 h hk,
      fun {t0 w p Q} h hk => s_X4_anded ih.2.2.1 h hk,
      fun {t0 w p Q} h hk => s_X4_equaled ih.2.2.2.1 h hk,
      fun {t0 w p Q} h hk => s_X4_related ih.2.2.2.2.1 h hk,
      fun {t0 w p Q} h hk => s_X4_sum ih.2.2.2.2.2.1 h hk,
      fun {t0 w p Q} h hk => s_X4_product ih.2.2.2.2.2.2.1 h hk,
      fun {t0 w p Q} h hk => s_X4_one ih.1 ih.2.2.2.2.2.2.1 ih.2.2.2.2.2.2.2.1 ih.2.2.2.2.2.2.2.2 h hk,
      fun {t0 w p Q} h hk => s_X4_first ih.1 ih.2.2.2.2.2.2.2.2 h hk,
      fun {t0 w p Q} h hk => s_X4_arguments ih.1 h hk⟩
theorem sr_X4_value {g : State} {t0 : Nat} {w : ch_W} {p : Except Nat (Option Nat) × ch_W} {Q : Outcome → ch_W → Prop} (h : cr_PA g 300 0 t0 w = some p) (hk : ch_xR Q p) : ch_CT g true yX4_value 312 [.ref t0] (w) Q := (sr_PA 300).1 h hk
theorem sr_X4_anded {g : State} {t0 : Nat} {w : ch_W} {p : Except Nat (Option Nat) × ch_W} {Q : Outcome → ch_W → Prop} (h : cr_PA g 300 1 t0 w = some p) (hk : ch_xR Q p) : ch_CT g true yX4_anded 312 [.ref t0] (w) Q := (sr_PA 300).2.1 h hk
theorem sr_X4_equaled {g : State} {t0 : Nat} {w : ch_W} {p : Except Nat (Option Nat) × ch_W} {Q : Outcome → ch_W → Prop} (h : cr_PA g 300 2 t0 w = some p) (hk : ch_xR Q p) : ch_CT g true yX4_equaled 312 [.ref t0] (w) Q := (sr_PA 300).2.2.1 h hk
theorem sr_X4_related {g : State} {t0 : Nat} {w : ch_W} {p : Except Nat (Option Nat) × ch_W} {Q : Outcome → ch_W → Prop} (h : cr_PA g 300 3 t0 w = some p) (hk : ch_xR Q p) : ch_CT g true yX4_related 312 [.ref t0] (w) Q := (sr_PA 300).2.2.2.1 h hk
theorem sr_X4_sum {g : State} {t0 : Nat} {w : ch_W} {p : Except Nat (Option Nat) × ch_W} {Q : Outcome → ch_W → Prop} (h : cr_PA g 300 4 t0 w = some p) (hk : ch_xR Q p) : ch_CT g true yX4_sum 312 [.ref t0] (w) Q := (sr_PA 300).2.2.2.2.1 h hk
theorem sr_X4_product {g : State} {t0 : Nat} {w : ch_W} {p : Except Nat (Option Nat) × ch_W} {Q : Outcome → ch_W → Prop} (h : cr_PA g 300 5 t0 w = some p) (hk : ch_xR Q p) : ch_CT g true yX4_product 312 [.ref t0] (w) Q := (sr_PA 300).2.2.2.2.2.1 h hk
theorem sr_X4_one {g : State} {t0 : Nat} {w : ch_W} {p : Except Nat (Option Nat) × ch_W} {Q : Outcome → ch_W → Prop} (h : cr_PA g 300 6 t0 w = some p) (hk : ch_xR Q p) : ch_CT g true yX4_one 312 [.ref t0] (w) Q := (sr_PA 300).2.2.2.2.2.2.1 h hk
theorem sr_X4_first {g : State} {t0 : Nat} {w : ch_W} {p : Except Nat (Option Nat) × ch_W} {Q : Outcome → ch_W → Prop} (h : cr_PA g 300 7 t0 w = some p) (hk : ch_xR Q p) : ch_CT g true yX4_first 312 [.ref t0] (w) Q := (sr_PA 300).2.2.2.2.2.2.2.1 h hk
theorem sr_X4_arguments {g : State} {t0 : Nat} {w : ch_W} {p : Except Nat (Option Nat) × ch_W} {Q : Outcome → ch_W → Prop} (h : cr_PA g 300 8 t0 w = some p) (hk : ch_xR Q p) : ch_CT g true yX4_arguments 312 [.ref t0] (w) Q := (sr_PA 300).2.2.2.2.2.2.2.2 h hk

theorem bX4_told_0 : ch_ck cX4_told 0 [187, 0, 204, 89, 3, 27, 183, 0, 231, 77, 44, 42, 182, 0, 161, 181] := ch_ckof (by decide +kernel)
theorem bX4_told_1 : ch_ck cX4_told 16 [0, 253, 44, 42, 182, 0, 126, 181, 0, 255, 42, 18, 240, 182, 0, 76] := ch_ckof (by decide +kernel)
theorem bX4_told_2 : ch_ck cX4_told 32 [153, 0, 15, 42, 182, 0, 79, 44, 42, 182, 0, 233, 181, 0, 237, 42] := ch_ckof (by decide +kernel)
theorem bX4_told_3 : ch_ck cX4_told 48 [18, 164, 182, 0, 116, 44, 176] := ch_ckof (by decide +kernel)
theorem dX4_told_0 : decode cX4_told 0 = .ok (.new 204, 3) := dz_187 (bX4_told_0 0 _ rfl) (bX4_told_0 1 _ rfl) (bX4_told_0 2 _ rfl)
theorem dX4_told_3 : decode cX4_told 3 = .ok (.dup, 1) := dz_89 (bX4_told_0 3 _ rfl)
theorem dX4_told_4 : decode cX4_told 4 = .ok (.iconst 0, 1) := dz_3 (bX4_told_0 4 _ rfl)
theorem dX4_told_5 : decode cX4_told 5 = .ok (.iload_n 1, 1) := dz_27 (bX4_told_0 5 _ rfl)
theorem dX4_told_6 : decode cX4_told 6 = .ok (.invokespecial 231, 3) := dz_183 (bX4_told_0 6 _ rfl) (bX4_told_0 7 _ rfl) (bX4_told_0 8 _ rfl)
theorem dX4_told_9 : decode cX4_told 9 = .ok (.astore_n 2, 1) := dz_77 (bX4_told_0 9 _ rfl)
theorem dX4_told_10 : decode cX4_told 10 = .ok (.aload_n 2, 1) := dz_44 (bX4_told_0 10 _ rfl)
theorem dX4_told_11 : decode cX4_told 11 = .ok (.aload_n 0, 1) := dz_42 (bX4_told_0 11 _ rfl)
theorem dX4_told_12 : decode cX4_told 12 = .ok (.invokevirtual 161, 3) := dz_182 (bX4_told_0 12 _ rfl) (bX4_told_0 13 _ rfl) (bX4_told_0 14 _ rfl)
theorem dX4_told_15 : decode cX4_told 15 = .ok (.putfield 253, 3) := dz_181 (bX4_told_0 15 _ rfl) (bX4_told_1 0 _ rfl) (bX4_told_1 1 _ rfl)
theorem dX4_told_18 : decode cX4_told 18 = .ok (.aload_n 2, 1) := dz_44 (bX4_told_1 2 _ rfl)
theorem dX4_told_19 : decode cX4_told 19 = .ok (.aload_n 0, 1) := dz_42 (bX4_told_1 3 _ rfl)
theorem dX4_told_20 : decode cX4_told 20 = .ok (.invokevirtual 126, 3) := dz_182 (bX4_told_1 4 _ rfl) (bX4_told_1 5 _ rfl) (bX4_told_1 6 _ rfl)
theorem dX4_told_23 : decode cX4_told 23 = .ok (.putfield 255, 3) := dz_181 (bX4_told_1 7 _ rfl) (bX4_told_1 8 _ rfl) (bX4_told_1 9 _ rfl)
theorem dX4_told_26 : decode cX4_told 26 = .ok (.aload_n 0, 1) := dz_42 (bX4_told_1 10 _ rfl)
theorem dX4_told_27 : decode cX4_told 27 = .ok (.ldc 240, 2) := dz_18 (bX4_told_1 11 _ rfl) (bX4_told_1 12 _ rfl)
theorem dX4_told_29 : decode cX4_told 29 = .ok (.invokevirtual 76, 3) := dz_182 (bX4_told_1 13 _ rfl) (bX4_told_1 14 _ rfl) (bX4_told_1 15 _ rfl)
theorem dX4_told_32 : decode cX4_told 32 = .ok (.ifCond .eq 15, 3) := dz_153 (bX4_told_2 0 _ rfl) (bX4_told_2 1 _ rfl) (bX4_told_2 2 _ rfl)
theorem dX4_told_35 : decode cX4_told 35 = .ok (.aload_n 0, 1) := dz_42 (bX4_told_2 3 _ rfl)
theorem dX4_told_36 : decode cX4_told 36 = .ok (.invokevirtual 79, 3) := dz_182 (bX4_told_2 4 _ rfl) (bX4_told_2 5 _ rfl) (bX4_told_2 6 _ rfl)
theorem dX4_told_39 : decode cX4_told 39 = .ok (.aload_n 2, 1) := dz_44 (bX4_told_2 7 _ rfl)
theorem dX4_told_40 : decode cX4_told 40 = .ok (.aload_n 0, 1) := dz_42 (bX4_told_2 8 _ rfl)
theorem dX4_told_41 : decode cX4_told 41 = .ok (.invokevirtual 233, 3) := dz_182 (bX4_told_2 9 _ rfl) (bX4_told_2 10 _ rfl) (bX4_told_2 11 _ rfl)
theorem dX4_told_44 : decode cX4_told 44 = .ok (.putfield 237, 3) := dz_181 (bX4_told_2 12 _ rfl) (bX4_told_2 13 _ rfl) (bX4_told_2 14 _ rfl)
theorem dX4_told_47 : decode cX4_told 47 = .ok (.aload_n 0, 1) := dz_42 (bX4_told_2 15 _ rfl)
theorem dX4_told_48 : decode cX4_told 48 = .ok (.ldc 164, 2) := dz_18 (bX4_told_3 0 _ rfl) (bX4_told_3 1 _ rfl)
theorem dX4_told_50 : decode cX4_told 50 = .ok (.invokevirtual 116, 3) := dz_182 (bX4_told_3 2 _ rfl) (bX4_told_3 3 _ rfl) (bX4_told_3 4 _ rfl)
theorem dX4_told_53 : decode cX4_told 53 = .ok (.aload_n 2, 1) := dz_44 (bX4_told_3 5 _ rfl)
theorem dX4_told_54 : decode cX4_told 54 = .ok (.areturn, 1) := dz_176 (bX4_told_3 6 _ rfl)
def c_X4_told_47 (g : State) (t0 : Nat) (x2 : Option Nat)  (w : ch_W) : Option (Except Nat (Option Nat) × ch_W) := (ch_rc w (some t0) 5).bind fun _ => ch_tb (c_X4_want g t0 (some (ch_sa g RX4 164)) w) (fun a w => (.error a, w)) fun _ w3 => some ((.ok x2, w3))
theorem s_X4_told_47 {g : State} {t0 : Nat} {x2 : Option Nat} {w : ch_W} {res : Except Nat (Option Nat) × ch_W} {Q : Outcome → ch_W → Prop} (h : c_X4_told_47 g t0 x2 w = some res) (hk : (ch_xR Q) res) : ch_FT g true mX4_told 313 47 [some (va_rf (some t0)), none, some (va_rf x2)] [] (w) Q := by
  unfold c_X4_told_47 at h
  obtain ⟨_, hb1, h⟩ := ch_bd h
  refine ch_aload_n 0 (some t0) dX4_told_47 rfl (ch_ldcS q760 dX4_told_48 (ch_iv yX4_want prog_7_method_9_code 2 none (ci := 4) (q := (RX4, TX4, 9)) (b := t0) (d' := 10) (av := [va_rf (some (ch_sa g RX4 164))]) (rest := []) rfl dX4_told_50 q589 q591 rfl qs6 q592 can_X4_want (Nat.le_of_ble_eq_true rfl) (Nat.le_of_ble_eq_true rfl) (ch_rts hb1) (cp_tV h (fun p hp Q' hq => s_X4_want hp hq) (fun w3 h => ?_) (fun a w1 h => ?_))))
  · obtain rfl := Option.some.inj h
    exact ch_aload_n 2 x2 dX4_told_53 rfl (ch_areturn x2 dX4_told_54 rfl (Or.inl ⟨_, rfl⟩) hk)
  · subst h
    exact ch_th rfl hk

def c_X4_told (g : State) (t0 : Nat) (x1 : Int32) (w : ch_W) : Option (Except Nat (Option Nat) × ch_W) := (ch_nO w 10 8).bind fun w1 => (c_X9_init (ch_nx w) 0 x1 w1).bind fun p2 => (ch_rc p2 (some t0) 5).bind fun _ => ch_tb (c_X4_type g t0 p2) (fun a w => (.error a, w)) fun v5 w6 => (ch_pI w6 (some (ch_nx w)) 10 fX9_type v5).bind fun w7 => (ch_rc w7 (some t0) 5).bind fun _ => ch_tb (c_X4_nextName g t0 w7) (fun a w => (.error a, w)) fun v9 w10 => (ch_pI w10 (some (ch_nx w)) 10 fX9_name v9).bind fun w11 => (ch_rc w11 (some t0) 5).bind fun _ => (c_X4_isThe g t0 (some (ch_sa g RX4 240)) w11).bind fun v13 => if v13 = 0 then (c_X4_told_47 g t0 (some (ch_nx w)) w11) else ((ch_rc w11 (some t0) 5).bind fun _ => ch_tb (c_X4_next g t0 w11) (fun a w => (.error a, w)) fun _ w17 => (ch_rc w17 (some t0) 5).bind fun _ => ch_tb (cr_PA g 300 0 t0 w17) (fun a w => (.error a, w)) fun v19 w20 => (ch_pR w20 (some (ch_nx w)) 10 fX9_value v19).bind fun w21 => c_X4_told_47 g t0 (some (ch_nx w)) w21)
theorem s_X4_told {g : State} {t0 : Nat} {x1 : Int32} {w : ch_W} {res : Except Nat (Option Nat) × ch_W} {Q : Outcome → ch_W → Prop} (h : c_X4_told g t0 x1 w = some res) (hk : (ch_xR Q) res) : ch_CT g true yX4_told 313 [.ref t0, .int x1] (w) Q := by
  unfold c_X4_told at h
  refine ch_ctL mX4_told (ls := [some (va_rf (some t0)), some (.int x1), none]) q866 rfl (ch_lyr (r := some t0) (ch_lyi ch_ly0)) (Nat.le_of_ble_eq_true rfl) rfl ?_
  refine cp_new (ci := 9) (n := 8) (q := (RX9, TX9, 8)) dX4_told_0 rfl q867 q868 q224 h (fun w1 h => ?_)
  obtain ⟨p2, hp3, h⟩ := ch_bd h
  refine ch_dup dX4_told_3 (ch_cat _) (ch_iconst _ 0 dX4_told_4 rfl (ch_iload_n 1 _ dX4_told_5 rfl (ch_ii yX9_init prog_10_method_1_code 3 (b := (ch_nx w)) (d' := 2) (av := [.int 0, .int x1]) (rest := [va_rf (some (ch_nx w))]) rfl dX4_told_6 rfl q869 q870 q871 can_X9_init (Nat.le_of_ble_eq_true rfl) (ch_hw (Nat.le_of_ble_eq_true rfl)) (cp_kV (w1 := p2) (fun Q' hq => s_X9_init hp3 hq) ?_))))
  obtain ⟨_, hb4, h⟩ := ch_bd h
  refine ch_astore_n 2 (some (ch_nx w)) (ls1 := [some (va_rf (some t0)), some (.int x1), some (va_rf (some (ch_nx w)))]) dX4_told_9 (Nat.le_of_ble_eq_true rfl) rfl (ch_aload_n 2 (some (ch_nx w)) dX4_told_10 rfl (ch_aload_n 0 (some t0) dX4_told_11 rfl (ch_iv yX4_type prog_7_method_19_code 2 (some .int) (ci := 4) (q := (RX4, TX4, 9)) (b := t0) (d' := 11) (av := []) (rest := [va_rf (some (ch_nx w))]) rfl dX4_told_12 q749 q751 rfl qs16 q752 can_X4_type (Nat.le_of_ble_eq_true rfl) (ch_hw (Nat.le_of_ble_eq_true rfl)) (ch_rts hb4) (cp_tI h (fun p hp Q' hq => s_X4_type hp hq) (fun v5 w6 h => ?_) (fun a w1 h => ?_)))))
  · refine cp_pI (ci := 9) (k := 2) dX4_told_15 fl_X4_253 rfl rfl rfl h (fun w7 h => ?_)
    obtain ⟨_, hb8, h⟩ := ch_bd h
    refine ch_aload_n 2 (some (ch_nx w)) dX4_told_18 rfl (ch_aload_n 0 (some t0) dX4_told_19 rfl (ch_iv yX4_nextName prog_7_method_16_code 2 (some .int) (ci := 4) (q := (RX4, TX4, 9)) (b := t0) (d' := 11) (av := []) (rest := [va_rf (some (ch_nx w))]) rfl dX4_told_20 q734 q736 rfl qs13 q737 can_X4_nextName (Nat.le_of_ble_eq_true rfl) (ch_hw (Nat.le_of_ble_eq_true rfl)) (ch_rts hb8) (cp_tI h (fun p hp Q' hq => s_X4_nextName hp hq) (fun v9 w10 h => ?_) (fun a w1 h => ?_))))
    · refine cp_pI (ci := 9) (k := 3) dX4_told_23 fl_X4_255 rfl rfl rfl h (fun w11 h => ?_)
      obtain ⟨_, hb12, h⟩ := ch_bd h
      obtain ⟨v13, hp14, h⟩ := ch_bd h
      refine ch_aload_n 0 (some t0) dX4_told_26 rfl (ch_ldcS q907 dX4_told_27 (ch_iv yX4_isThe prog_7_method_8_code 2 (some .boolean) (ci := 4) (q := (RX4, TX4, 9)) (b := t0) (d' := 7) (av := [va_rf (some (ch_sa g RX4 240))]) (rest := []) rfl dX4_told_29 q593 q595 rfl qs7 q596 can_X4_isThe (Nat.le_of_ble_eq_true rfl) (Nat.le_of_ble_eq_true rfl) (ch_rts hb12) (cp_kI (v := v13) (w1 := w11) (fun Q' hq => s_X4_isThe hp14 hq) ?_)))
      refine cp_if_eq _ (tgt := 47) dX4_told_32 rfl h (fun h => ?_) (fun h => ?_)
      · exact ch_FT.wk (ch_wS (ch_wN (ch_wS ch_w0))) (s_X4_told_47  h hk)
      · obtain ⟨_, hb15, h⟩ := ch_bd h
        refine ch_aload_n 0 (some t0) dX4_told_35 rfl (ch_iv yX4_next prog_7_method_5_code 3 none (ci := 4) (q := (RX4, TX4, 9)) (b := t0) (d' := 9) (av := []) (rest := []) rfl dX4_told_36 q497 q499 rfl qs2 q500 can_X4_next (Nat.le_of_ble_eq_true rfl) (Nat.le_of_ble_eq_true rfl) (ch_rts hb15) (cp_tV h (fun p hp Q' hq => s_X4_next hp hq) (fun w17 h => ?_) (fun a w1 h => ?_)))
        · obtain ⟨_, hb18, h⟩ := ch_bd h
          refine ch_aload_n 2 (some (ch_nx w)) dX4_told_39 rfl (ch_aload_n 0 (some t0) dX4_told_40 rfl (ch_iv yX4_value prog_7_method_28_code 2 (some (.object "ClassHouse$Value")) (ci := 4) (q := (RX4, TX4, 9)) (b := t0) (d' := 312) (av := []) (rest := [va_rf (some (ch_nx w))]) rfl dX4_told_41 q908 q910 rfl qs23 q911 can_X4_value (Nat.le_of_ble_eq_true rfl) (ch_hw (Nat.le_of_ble_eq_true rfl)) (ch_rts hb18) (cp_tR h (fun p hp Q' hq => sr_X4_value hp hq) (fun v19 w20 h => ?_) (fun a w1 h => ?_))))
          · refine cp_pR (ci := 9) (k := 5) dX4_told_44 fl_X4_237 rfl rfl rfl h (fun w21 h => ?_)
            exact ch_FT.wk (ch_wS (ch_wN (ch_wS ch_w0))) (s_X4_told_47  h hk)
          · subst h
            exact ch_th rfl hk
        · subst h
          exact ch_th rfl hk
    · subst h
      exact ch_th rfl hk
  · subst h
    exact ch_th rfl hk

theorem bX10_isPlace_0 : ch_ck cX10_isPlace 0 [42, 180, 0, 15, 7, 159, 0, 21, 42, 180, 0, 15, 16, 10, 159, 0] := ch_ckof (by decide +kernel)
theorem bX10_isPlace_1 : ch_ck cX10_isPlace 16 [12, 42, 180, 0, 15, 16, 12, 160, 0, 7, 4, 167, 0, 4, 3, 172] := ch_ckof (by decide +kernel)
theorem dX10_isPlace_0 : decode cX10_isPlace 0 = .ok (.aload_n 0, 1) := dz_42 (bX10_isPlace_0 0 _ rfl)
theorem dX10_isPlace_1 : decode cX10_isPlace 1 = .ok (.getfield 15, 3) := dz_180 (bX10_isPlace_0 1 _ rfl) (bX10_isPlace_0 2 _ rfl) (bX10_isPlace_0 3 _ rfl)
theorem dX10_isPlace_4 : decode cX10_isPlace 4 = .ok (.iconst 4, 1) := dz_7 (bX10_isPlace_0 4 _ rfl)
theorem dX10_isPlace_5 : decode cX10_isPlace 5 = .ok (.if_icmp .eq 21, 3) := dz_159 (bX10_isPlace_0 5 _ rfl) (bX10_isPlace_0 6 _ rfl) (bX10_isPlace_0 7 _ rfl)
theorem dX10_isPlace_8 : decode cX10_isPlace 8 = .ok (.aload_n 0, 1) := dz_42 (bX10_isPlace_0 8 _ rfl)
theorem dX10_isPlace_9 : decode cX10_isPlace 9 = .ok (.getfield 15, 3) := dz_180 (bX10_isPlace_0 9 _ rfl) (bX10_isPlace_0 10 _ rfl) (bX10_isPlace_0 11 _ rfl)
theorem dX10_isPlace_12 : decode cX10_isPlace 12 = .ok (.bipush 10, 2) := dz_16 (bX10_isPlace_0 12 _ rfl) (bX10_isPlace_0 13 _ rfl)
theorem dX10_isPlace_14 : decode cX10_isPlace 14 = .ok (.if_icmp .eq 12, 3) := dz_159 (bX10_isPlace_0 14 _ rfl) (bX10_isPlace_0 15 _ rfl) (bX10_isPlace_1 0 _ rfl)
theorem dX10_isPlace_17 : decode cX10_isPlace 17 = .ok (.aload_n 0, 1) := dz_42 (bX10_isPlace_1 1 _ rfl)
theorem dX10_isPlace_18 : decode cX10_isPlace 18 = .ok (.getfield 15, 3) := dz_180 (bX10_isPlace_1 2 _ rfl) (bX10_isPlace_1 3 _ rfl) (bX10_isPlace_1 4 _ rfl)
theorem dX10_isPlace_21 : decode cX10_isPlace 21 = .ok (.bipush 12, 2) := dz_16 (bX10_isPlace_1 5 _ rfl) (bX10_isPlace_1 6 _ rfl)
theorem dX10_isPlace_23 : decode cX10_isPlace 23 = .ok (.if_icmp .ne 7, 3) := dz_160 (bX10_isPlace_1 7 _ rfl) (bX10_isPlace_1 8 _ rfl) (bX10_isPlace_1 9 _ rfl)
theorem dX10_isPlace_26 : decode cX10_isPlace 26 = .ok (.iconst 1, 1) := dz_4 (bX10_isPlace_1 10 _ rfl)
theorem dX10_isPlace_27 : decode cX10_isPlace 27 = .ok (.goto 4, 3) := dz_167 (bX10_isPlace_1 11 _ rfl) (bX10_isPlace_1 12 _ rfl) (bX10_isPlace_1 13 _ rfl)
theorem dX10_isPlace_30 : decode cX10_isPlace 30 = .ok (.iconst 0, 1) := dz_3 (bX10_isPlace_1 14 _ rfl)
theorem dX10_isPlace_31 : decode cX10_isPlace 31 = .ok (.ireturn, 1) := dz_172 (bX10_isPlace_1 15 _ rfl)
def c_X10_isPlace (t0 : Nat)  (w : ch_W) : Option (Int32) := (ch_gI w (some t0) 11 fX10_kind).bind fun v1 => if v1 = 4 then (some (1)) else ((ch_gI w (some t0) 11 fX10_kind).bind fun v2 => if v2 = 10 then (some (1)) else ((ch_gI w (some t0) 11 fX10_kind).bind fun v3 => if v3 = 12 then (some (1)) else (some (0))))
theorem s_X10_isPlace {g : State} {kb : Bool} {t0 : Nat} {w : ch_W} {res : Int32} {Q : Outcome → ch_W → Prop} (h : c_X10_isPlace t0 w = some res) (hk : (fun r => ch_eI Q (r, w)) res) : ch_CT g kb yX10_isPlace 2 [.ref t0] (w) Q := by
  unfold c_X10_isPlace at h
  refine ch_ctL mX10_isPlace (ls := [some (va_rf (some t0))]) q1031 rfl (ch_lyr (r := some t0) ch_ly0) (Nat.le_of_ble_eq_true rfl) rfl ?_
  refine ch_aload_n 0 (some t0) dX10_isPlace_0 rfl (cp_gI (ci := 10) (k := 0) dX10_isPlace_1 fl_X10_15 rfl h (fun v1 h => ?_))
  refine ch_iconst _ 4 dX10_isPlace_4 rfl (cp_icmp_eq _ _ (tgt := 26) dX10_isPlace_5 rfl h (fun h => ?_) (fun h => ?_))
  · obtain rfl := Option.some.inj h
    exact ch_iconst _ 1 dX10_isPlace_26 rfl (ch_goto 31 dX10_isPlace_27 rfl (ch_ireturn _ dX10_isPlace_31 rfl rfl hk))
  · refine ch_aload_n 0 (some t0) dX10_isPlace_8 rfl (cp_gI (ci := 10) (k := 0) dX10_isPlace_9 fl_X10_15 rfl h (fun v2 h => ?_))
    refine ch_bipush _ 10 dX10_isPlace_12 rfl (cp_icmp_eq _ _ (tgt := 26) dX10_isPlace_14 rfl h (fun h => ?_) (fun h => ?_))
    · obtain rfl := Option.some.inj h
      exact ch_iconst _ 1 dX10_isPlace_26 rfl (ch_goto 31 dX10_isPlace_27 rfl (ch_ireturn _ dX10_isPlace_31 rfl rfl hk))
    · refine ch_aload_n 0 (some t0) dX10_isPlace_17 rfl (cp_gI (ci := 10) (k := 0) dX10_isPlace_18 fl_X10_15 rfl h (fun v3 h => ?_))
      refine ch_bipush _ 12 dX10_isPlace_21 rfl (cp_icmp_ne _ _ (tgt := 30) dX10_isPlace_23 rfl h (fun h => ?_) (fun h => ?_))
      · obtain rfl := Option.some.inj h
        exact ch_iconst _ 0 dX10_isPlace_30 rfl (ch_ireturn _ dX10_isPlace_31 rfl rfl hk)
      · obtain rfl := Option.some.inj h
        exact ch_iconst _ 1 dX10_isPlace_26 rfl (ch_goto 31 dX10_isPlace_27 rfl (ch_ireturn _ dX10_isPlace_31 rfl rfl hk))

theorem bX10_isCall_0 : ch_ck cX10_isCall 0 [42, 180, 0, 15, 8, 159, 0, 12, 42, 180, 0, 15, 16, 11, 160, 0] := ch_ckof (by decide +kernel)
theorem bX10_isCall_1 : ch_ck cX10_isCall 16 [7, 4, 167, 0, 4, 3, 172] := ch_ckof (by decide +kernel)
theorem dX10_isCall_0 : decode cX10_isCall 0 = .ok (.aload_n 0, 1) := dz_42 (bX10_isCall_0 0 _ rfl)
theorem dX10_isCall_1 : decode cX10_isCall 1 = .ok (.getfield 15, 3) := dz_180 (bX10_isCall_0 1 _ rfl) (bX10_isCall_0 2 _ rfl) (bX10_isCall_0 3 _ rfl)
theorem dX10_isCall_4 : decode cX10_isCall 4 = .ok (.iconst 5, 1) := dz_8 (bX10_isCall_0 4 _ rfl)
theorem dX10_isCall_5 : decode cX10_isCall 5 = .ok (.if_icmp .eq 12, 3) := dz_159 (bX10_isCall_0 5 _ rfl) (bX10_isCall_0 6 _ rfl) (bX10_isCall_0 7 _ rfl)
theorem dX10_isCall_8 : decode cX10_isCall 8 = .ok (.aload_n 0, 1) := dz_42 (bX10_isCall_0 8 _ rfl)
theorem dX10_isCall_9 : decode cX10_isCall 9 = .ok (.getfield 15, 3) := dz_180 (bX10_isCall_0 9 _ rfl) (bX10_isCall_0 10 _ rfl) (bX10_isCall_0 11 _ rfl)
theorem dX10_isCall_12 : decode cX10_isCall 12 = .ok (.bipush 11, 2) := dz_16 (bX10_isCall_0 12 _ rfl) (bX10_isCall_0 13 _ rfl)
theorem dX10_isCall_14 : decode cX10_isCall 14 = .ok (.if_icmp .ne 7, 3) := dz_160 (bX10_isCall_0 14 _ rfl) (bX10_isCall_0 15 _ rfl) (bX10_isCall_1 0 _ rfl)
theorem dX10_isCall_17 : decode cX10_isCall 17 = .ok (.iconst 1, 1) := dz_4 (bX10_isCall_1 1 _ rfl)
theorem dX10_isCall_18 : decode cX10_isCall 18 = .ok (.goto 4, 3) := dz_167 (bX10_isCall_1 2 _ rfl) (bX10_isCall_1 3 _ rfl) (bX10_isCall_1 4 _ rfl)
theorem dX10_isCall_21 : decode cX10_isCall 21 = .ok (.iconst 0, 1) := dz_3 (bX10_isCall_1 5 _ rfl)
theorem dX10_isCall_22 : decode cX10_isCall 22 = .ok (.ireturn, 1) := dz_172 (bX10_isCall_1 6 _ rfl)
def c_X10_isCall (t0 : Nat)  (w : ch_W) : Option (Int32) := (ch_gI w (some t0) 11 fX10_kind).bind fun v1 => if v1 = 5 then (some (1)) else ((ch_gI w (some t0) 11 fX10_kind).bind fun v2 => if v2 = 11 then (some (1)) else (some (0)))
theorem s_X10_isCall {g : State} {kb : Bool} {t0 : Nat} {w : ch_W} {res : Int32} {Q : Outcome → ch_W → Prop} (h : c_X10_isCall t0 w = some res) (hk : (fun r => ch_eI Q (r, w)) res) : ch_CT g kb yX10_isCall 2 [.ref t0] (w) Q := by
  unfold c_X10_isCall at h
  refine ch_ctL mX10_isCall (ls := [some (va_rf (some t0))]) q1035 rfl (ch_lyr (r := some t0) ch_ly0) (Nat.le_of_ble_eq_true rfl) rfl ?_
  refine ch_aload_n 0 (some t0) dX10_isCall_0 rfl (cp_gI (ci := 10) (k := 0) dX10_isCall_1 fl_X10_15 rfl h (fun v1 h => ?_))
  refine ch_iconst _ 5 dX10_isCall_4 rfl (cp_icmp_eq _ _ (tgt := 17) dX10_isCall_5 rfl h (fun h => ?_) (fun h => ?_))
  · obtain rfl := Option.some.inj h
    exact ch_iconst _ 1 dX10_isCall_17 rfl (ch_goto 22 dX10_isCall_18 rfl (ch_ireturn _ dX10_isCall_22 rfl rfl hk))
  · refine ch_aload_n 0 (some t0) dX10_isCall_8 rfl (cp_gI (ci := 10) (k := 0) dX10_isCall_9 fl_X10_15 rfl h (fun v2 h => ?_))
    refine ch_bipush _ 11 dX10_isCall_12 rfl (cp_icmp_ne _ _ (tgt := 21) dX10_isCall_14 rfl h (fun h => ?_) (fun h => ?_))
    · obtain rfl := Option.some.inj h
      exact ch_iconst _ 0 dX10_isCall_21 rfl (ch_ireturn _ dX10_isCall_22 rfl rfl hk)
    · obtain rfl := Option.some.inj h
      exact ch_iconst _ 1 dX10_isCall_17 rfl (ch_goto 22 dX10_isCall_18 rfl (ch_ireturn _ dX10_isCall_22 rfl rfl hk))

theorem bX4_block_0 : ch_ck cX4_block 0 [42, 18, 132, 182, 0, 134, 187, 0, 9, 89, 183, 0, 11, 76, 42, 18] := ch_ckof (by decide +kernel)
theorem bX4_block_1 : ch_ck cX4_block 16 [137, 182, 0, 76, 154, 0, 15, 43, 42, 182, 0, 200, 182, 0, 107, 87] := ch_ckof (by decide +kernel)
theorem bX4_block_2 : ch_ck cX4_block 32 [167, 255, 238, 42, 42, 180, 0, 31, 181, 0, 196, 42, 18, 137, 182, 0] := ch_ckof (by decide +kernel)
theorem bX4_block_3 : ch_ck cX4_block 48 [146, 43, 182, 0, 89, 189, 0, 204, 77, 3, 62, 29, 44, 190, 162, 0] := ch_ckof (by decide +kernel)
theorem bX4_block_4 : ch_ck cX4_block 64 [20, 44, 29, 43, 29, 182, 0, 92, 192, 0, 204, 83, 132, 3, 1, 167] := ch_ckof (by decide +kernel)
theorem bX4_block_5 : ch_ck cX4_block 80 [255, 236, 44, 176] := ch_ckof (by decide +kernel)
theorem dX4_block_0 : decode cX4_block 0 = .ok (.aload_n 0, 1) := dz_42 (bX4_block_0 0 _ rfl)
theorem dX4_block_1 : decode cX4_block 1 = .ok (.ldc 132, 2) := dz_18 (bX4_block_0 1 _ rfl) (bX4_block_0 2 _ rfl)
theorem dX4_block_3 : decode cX4_block 3 = .ok (.invokevirtual 134, 3) := dz_182 (bX4_block_0 3 _ rfl) (bX4_block_0 4 _ rfl) (bX4_block_0 5 _ rfl)
theorem dX4_block_6 : decode cX4_block 6 = .ok (.new 9, 3) := dz_187 (bX4_block_0 6 _ rfl) (bX4_block_0 7 _ rfl) (bX4_block_0 8 _ rfl)
theorem dX4_block_9 : decode cX4_block 9 = .ok (.dup, 1) := dz_89 (bX4_block_0 9 _ rfl)
theorem dX4_block_10 : decode cX4_block 10 = .ok (.invokespecial 11, 3) := dz_183 (bX4_block_0 10 _ rfl) (bX4_block_0 11 _ rfl) (bX4_block_0 12 _ rfl)
theorem dX4_block_13 : decode cX4_block 13 = .ok (.astore_n 1, 1) := dz_76 (bX4_block_0 13 _ rfl)
theorem dX4_block_14 : decode cX4_block 14 = .ok (.aload_n 0, 1) := dz_42 (bX4_block_0 14 _ rfl)
theorem dX4_block_15 : decode cX4_block 15 = .ok (.ldc 137, 2) := dz_18 (bX4_block_0 15 _ rfl) (bX4_block_1 0 _ rfl)
theorem dX4_block_17 : decode cX4_block 17 = .ok (.invokevirtual 76, 3) := dz_182 (bX4_block_1 1 _ rfl) (bX4_block_1 2 _ rfl) (bX4_block_1 3 _ rfl)
theorem dX4_block_20 : decode cX4_block 20 = .ok (.ifCond .ne 15, 3) := dz_154 (bX4_block_1 4 _ rfl) (bX4_block_1 5 _ rfl) (bX4_block_1 6 _ rfl)
theorem dX4_block_23 : decode cX4_block 23 = .ok (.aload_n 1, 1) := dz_43 (bX4_block_1 7 _ rfl)
theorem dX4_block_24 : decode cX4_block 24 = .ok (.aload_n 0, 1) := dz_42 (bX4_block_1 8 _ rfl)
theorem dX4_block_25 : decode cX4_block 25 = .ok (.invokevirtual 200, 3) := dz_182 (bX4_block_1 9 _ rfl) (bX4_block_1 10 _ rfl) (bX4_block_1 11 _ rfl)
theorem dX4_block_28 : decode cX4_block 28 = .ok (.invokevirtual 107, 3) := dz_182 (bX4_block_1 12 _ rfl) (bX4_block_1 13 _ rfl) (bX4_block_1 14 _ rfl)
theorem dX4_block_31 : decode cX4_block 31 = .ok (.pop, 1) := dz_87 (bX4_block_1 15 _ rfl)
theorem dX4_block_32 : decode cX4_block 32 = .ok (.goto (-18), 3) := dz_167 (bX4_block_2 0 _ rfl) (bX4_block_2 1 _ rfl) (bX4_block_2 2 _ rfl)
theorem dX4_block_35 : decode cX4_block 35 = .ok (.aload_n 0, 1) := dz_42 (bX4_block_2 3 _ rfl)
theorem dX4_block_36 : decode cX4_block 36 = .ok (.aload_n 0, 1) := dz_42 (bX4_block_2 4 _ rfl)
theorem dX4_block_37 : decode cX4_block 37 = .ok (.getfield 31, 3) := dz_180 (bX4_block_2 5 _ rfl) (bX4_block_2 6 _ rfl) (bX4_block_2 7 _ rfl)
theorem dX4_block_40 : decode cX4_block 40 = .ok (.putfield 196, 3) := dz_181 (bX4_block_2 8 _ rfl) (bX4_block_2 9 _ rfl) (bX4_block_2 10 _ rfl)
theorem dX4_block_43 : decode cX4_block 43 = .ok (.aload_n 0, 1) := dz_42 (bX4_block_2 11 _ rfl)
theorem dX4_block_44 : decode cX4_block 44 = .ok (.ldc 137, 2) := dz_18 (bX4_block_2 12 _ rfl) (bX4_block_2 13 _ rfl)
theorem dX4_block_46 : decode cX4_block 46 = .ok (.invokevirtual 146, 3) := dz_182 (bX4_block_2 14 _ rfl) (bX4_block_2 15 _ rfl) (bX4_block_3 0 _ rfl)
theorem dX4_block_49 : decode cX4_block 49 = .ok (.aload_n 1, 1) := dz_43 (bX4_block_3 1 _ rfl)
theorem dX4_block_50 : decode cX4_block 50 = .ok (.invokevirtual 89, 3) := dz_182 (bX4_block_3 2 _ rfl) (bX4_block_3 3 _ rfl) (bX4_block_3 4 _ rfl)
theorem dX4_block_53 : decode cX4_block 53 = .ok (.anewarray 204, 3) := dz_189 (bX4_block_3 5 _ rfl) (bX4_block_3 6 _ rfl) (bX4_block_3 7 _ rfl)
theorem dX4_block_56 : decode cX4_block 56 = .ok (.astore_n 2, 1) := dz_77 (bX4_block_3 8 _ rfl)
theorem dX4_block_57 : decode cX4_block 57 = .ok (.iconst 0, 1) := dz_3 (bX4_block_3 9 _ rfl)
theorem dX4_block_58 : decode cX4_block 58 = .ok (.istore_n 3, 1) := dz_62 (bX4_block_3 10 _ rfl)
theorem dX4_block_59 : decode cX4_block 59 = .ok (.iload_n 3, 1) := dz_29 (bX4_block_3 11 _ rfl)
theorem dX4_block_60 : decode cX4_block 60 = .ok (.aload_n 2, 1) := dz_44 (bX4_block_3 12 _ rfl)
theorem dX4_block_61 : decode cX4_block 61 = .ok (.arraylength, 1) := dz_190 (bX4_block_3 13 _ rfl)
theorem dX4_block_62 : decode cX4_block 62 = .ok (.if_icmp .ge 20, 3) := dz_162 (bX4_block_3 14 _ rfl) (bX4_block_3 15 _ rfl) (bX4_block_4 0 _ rfl)
theorem dX4_block_65 : decode cX4_block 65 = .ok (.aload_n 2, 1) := dz_44 (bX4_block_4 1 _ rfl)
theorem dX4_block_66 : decode cX4_block 66 = .ok (.iload_n 3, 1) := dz_29 (bX4_block_4 2 _ rfl)
theorem dX4_block_67 : decode cX4_block 67 = .ok (.aload_n 1, 1) := dz_43 (bX4_block_4 3 _ rfl)
theorem dX4_block_68 : decode cX4_block 68 = .ok (.iload_n 3, 1) := dz_29 (bX4_block_4 4 _ rfl)
theorem dX4_block_69 : decode cX4_block 69 = .ok (.invokevirtual 92, 3) := dz_182 (bX4_block_4 5 _ rfl) (bX4_block_4 6 _ rfl) (bX4_block_4 7 _ rfl)
theorem dX4_block_72 : decode cX4_block 72 = .ok (.checkcast 204, 3) := dz_192 (bX4_block_4 8 _ rfl) (bX4_block_4 9 _ rfl) (bX4_block_4 10 _ rfl)
theorem dX4_block_75 : decode cX4_block 75 = .ok (.aastore, 1) := dz_83 (bX4_block_4 11 _ rfl)
theorem dX4_block_76 : decode cX4_block 76 = .ok (.iinc 3 1, 3) := dz_132 (bX4_block_4 12 _ rfl) (bX4_block_4 13 _ rfl) (bX4_block_4 14 _ rfl)
theorem dX4_block_79 : decode cX4_block 79 = .ok (.goto (-20), 3) := dz_167 (bX4_block_4 15 _ rfl) (bX4_block_5 0 _ rfl) (bX4_block_5 1 _ rfl)
theorem dX4_block_82 : decode cX4_block 82 = .ok (.aload_n 2, 1) := dz_44 (bX4_block_5 2 _ rfl)
theorem dX4_block_83 : decode cX4_block 83 = .ok (.areturn, 1) := dz_176 (bX4_block_5 3 _ rfl)
def c_X4_block_59 (rc : Nat → Nat → Int32 → ch_W → Option (Except Nat (Option Nat) × ch_W)) (g : State) (t0 : Nat) (x1 : Option Nat) (x2 : Option Nat) (x3 : Int32)  (w : ch_W) : Option ((Int32 × ch_W) ⊕ (Except Nat (Option Nat) × ch_W)) := (ch_le w x2 28).bind fun v1 => if x3 < v1 then ((ch_rc w x1 14).bind fun b3 => (c_J5_get b3 x3 w).bind fun v4 => (ch_cast w v4 10).bind fun _ => (ch_wR w x2 28 10 x3 v4).bind fun w6 => some (.inl (x3 + 1, w6))) else (some (.inr ((.ok x2, w))))
theorem s_X4_block_59 {g : State} {d : Nat} {rc : Nat → Nat → Int32 → ch_W → Option (Except Nat (Option Nat) × ch_W)} (hr1 : ∀ {t0 : Nat} {w : ch_W} {p : Except Nat (Option Nat) × ch_W} {Q : Outcome → ch_W → Prop}, rc 1 t0 0 w = some p → ch_xR Q p → ch_CT g true yX4_statement (d + 314) [.ref t0] (w) Q)  {t0 : Nat} {x1 : Option Nat} {x2 : Option Nat} {x3 : Int32} {w : ch_W} {res : (Int32 × ch_W) ⊕ (Except Nat (Option Nat) × ch_W)} {Q : Outcome → ch_W → Prop} (h : c_X4_block_59 rc g t0 x1 x2 x3 w = some res) (hk : (ch_sm (fun s => ch_FT g true mX4_block (d + 315) 59 [none, some (va_rf x1), some (va_rf x2), some (.int s.1)] [] (s.2) Q) (ch_xR Q)) res) : ch_FT g true mX4_block (d + 315) 59 [none, some (va_rf x1), some (va_rf x2), some (.int x3)] [] (w) Q := by
  unfold c_X4_block_59 at h
  refine ch_iload_n 3 _ dX4_block_59 rfl (ch_aload_n 2 x2 dX4_block_60 rfl (cp_alen (t := 28) dX4_block_61 rfl rfl h (fun v1 h => ?_)))
  refine cp_icmp_ge _ _ (tgt := 82) dX4_block_62 rfl h (fun h => ?_) (fun h => ?_)
  · obtain rfl := Option.some.inj h
    exact ch_aload_n 2 x2 dX4_block_82 rfl (ch_areturn x2 dX4_block_83 rfl (Or.inr ⟨_, rfl⟩) hk)
  · obtain ⟨b3, hb2, h⟩ := ch_bd h
    obtain ⟨v4, hp5, h⟩ := ch_bd h
    refine ch_aload_n 2 x2 dX4_block_65 rfl (ch_iload_n 3 _ dX4_block_66 rfl (ch_aload_n 1 x1 dX4_block_67 rfl (ch_iload_n 3 _ dX4_block_68 rfl (ch_iv yJ5_get prog_32_method_20_code 2 (some (.object "java/lang/Object")) (ci := 13) (q := (RJ5, TJ5, 3)) (b := b3) (d' := 4) (av := [.int x3]) (rest := [.int x3, va_rf x2]) (by rw [ch_rs hb2]; rfl) dX4_block_69 q611 q612 rfl q613 q614 can_J5_get (Nat.le_trans (Nat.le_of_ble_eq_true rfl) (Nat.le_add_left 315 d)) (ch_hw (Nat.le_of_ble_eq_true rfl)) (ch_rtg hb2) (cp_kR (v := v4) (w1 := w) (fun Q' hq => s_J5_get hp5 hq) ?_)))))
    refine cp_cast (ci := 9) (q := (RX9, TX9, 8)) dX4_block_72 rfl q867 h (fun h => ?_)
    refine cp_aast (t := 28) (c := 10) dX4_block_75 rfl (Nat.le_of_ble_eq_true rfl) rfl el_10 h (fun w6 h => ?_)
    refine ch_iinc 3 _ _ (x3 + 1) (ls1 := [none, some (va_rf x1), some (va_rf x2), some (.int (x3 + 1))]) dX4_block_76 rfl rfl (Nat.le_of_ble_eq_true rfl) (ch_s1o rfl rfl) (ch_goto 59 dX4_block_79 rfl (ch_FT.wk (ch_wN (ch_wS (ch_wS (ch_wS ch_w0)))) ?_))
    obtain rfl := Option.some.inj h
    exact hk
theorem sl_X4_block_59 {g : State} {d : Nat} {rc : Nat → Nat → Int32 → ch_W → Option (Except Nat (Option Nat) × ch_W)} (hr1 : ∀ {t0 : Nat} {w : ch_W} {p : Except Nat (Option Nat) × ch_W} {Q : Outcome → ch_W → Prop}, rc 1 t0 0 w = some p → ch_xR Q p → ch_CT g true yX4_statement (d + 314) [.ref t0] (w) Q)  {t0 : Nat} {x1 : Option Nat} {x2 : Option Nat} {a : Int32 × ch_W} {res : Except Nat (Option Nat) × ch_W} {Q : Outcome → ch_W → Prop} (h : ch_loop (fun (s : Int32 × ch_W) => c_X4_block_59 rc g t0 x1 x2 s.1 s.2) a = some res) (hk : (ch_xR Q) res) : ch_FT g true mX4_block (d + 315) 59 [none, some (va_rf x1), some (va_rf x2), some (.int a.1)] [] (a.2) Q := by
  refine ch_loop_ind (fun (a : Int32 × ch_W) (r : Except Nat (Option Nat) × ch_W) => (ch_xR Q) r → ch_FT g true mX4_block (d + 315) 59 [none, some (va_rf x1), some (va_rf x2), some (.int a.1)] [] (a.2) Q) ?_ ?_ a res h hk
  · intro a a2 b h1 ih hk
    exact s_X4_block_59 hr1 h1 (ih hk)
  · intro a b h1 hk
    exact s_X4_block_59 hr1 h1 hk

def c_X4_block_14 (rc : Nat → Nat → Int32 → ch_W → Option (Except Nat (Option Nat) × ch_W)) (g : State) (t0 : Nat) (x1 : Option Nat)  (w : ch_W) : Option (ch_W ⊕ (Except Nat (Option Nat) × ch_W)) := (ch_rc w (some t0) 5).bind fun _ => (c_X4_isThe g t0 (some (ch_sa g RX4 137)) w).bind fun v2 => if v2 = 0 then ((ch_rc w (some t0) 5).bind fun _ => ch_tb (rc 1 t0 0 w) (fun a w => .inr ((.error a, w))) fun v15 w16 => (ch_rc w16 x1 14).bind fun b18 => (c_J5_add g b18 v15 w16).bind fun p19 => some (.inl (p19.2))) else ((ch_gI w (some t0) 5 fX4_from).bind fun v4 => (ch_pI w (some t0) 5 fX4_closing v4).bind fun w5 => (ch_rc w5 (some t0) 5).bind fun _ => ch_tb (c_X4_closes g t0 (some (ch_sa g RX4 137)) w5) (fun a w => .inr ((.error a, w))) fun _ w8 => (ch_rc w8 x1 14).bind fun b10 => (c_J5_size b10 w8).bind fun v11 => (ch_nA w8 28 v11).bind fun w13 => (ch_loop (fun (s : Int32 × ch_W) => c_X4_block_59 rc g t0 x1 (some (ch_nx w8)) s.1 s.2) (0, w13)).bind fun r => some (.inr (r)))
theorem s_X4_block_14 {g : State} {d : Nat} {rc : Nat → Nat → Int32 → ch_W → Option (Except Nat (Option Nat) × ch_W)} (hr1 : ∀ {t0 : Nat} {w : ch_W} {p : Except Nat (Option Nat) × ch_W} {Q : Outcome → ch_W → Prop}, rc 1 t0 0 w = some p → ch_xR Q p → ch_CT g true yX4_statement (d + 314) [.ref t0] (w) Q)  {t0 : Nat} {x1 : Option Nat} {w : ch_W} {res : ch_W ⊕ (Except Nat (Option Nat) × ch_W)} {Q : Outcome → ch_W → Prop} (h : c_X4_block_14 rc g t0 x1 w = some res) (hk : (ch_sm (fun s => ch_FT g true mX4_block (d + 315) 14 [some (va_rf (some t0)), some (va_rf x1), none, none] [] (s) Q) (ch_xR Q)) res) : ch_FT g true mX4_block (d + 315) 14 [some (va_rf (some t0)), some (va_rf x1), none, none] [] (w) Q := by
  unfold c_X4_block_14 at h
  obtain ⟨_, hb1, h⟩ := ch_bd h
  obtain ⟨v2, hp3, h⟩ := ch_bd h
  refine ch_aload_n 0 (some t0) dX4_block_14 rfl (ch_ldcS q743 dX4_block_15 (ch_iv yX4_isThe prog_7_method_8_code 2 (some .boolean) (ci := 4) (q := (RX4, TX4, 9)) (b := t0) (d' := 7) (av := [va_rf (some (ch_sa g RX4 137))]) (rest := []) rfl dX4_block_17 q593 q595 rfl qs7 q596 can_X4_isThe (Nat.le_trans (Nat.le_of_ble_eq_true rfl) (Nat.le_add_left 315 d)) (Nat.le_of_ble_eq_true rfl) (ch_rts hb1) (cp_kI (v := v2) (w1 := w) (fun Q' hq => s_X4_isThe hp3 hq) ?_)))
  refine cp_if_ne _ (tgt := 35) dX4_block_20 rfl h (fun h => ?_) (fun h => ?_)
  · refine ch_aload_n 0 (some t0) dX4_block_35 rfl (ch_aload_n 0 (some t0) dX4_block_36 rfl (cp_gI (ci := 4) (k := 3) dX4_block_37 fl_X4_31 rfl h (fun v4 h => ?_)))
    refine cp_pI (ci := 4) (k := 8) dX4_block_40 fl_X4_196 rfl rfl rfl h (fun w5 h => ?_)
    obtain ⟨_, hb6, h⟩ := ch_bd h
    refine ch_aload_n 0 (some t0) dX4_block_43 rfl (ch_ldcS q743 dX4_block_44 (ch_iv yX4_closes prog_7_method_11_code 2 none (ci := 4) (q := (RX4, TX4, 9)) (b := t0) (d' := 10) (av := [va_rf (some (ch_sa g RX4 137))]) (rest := []) rfl dX4_block_46 q847 q849 rfl qs18 q850 can_X4_closes (Nat.le_trans (Nat.le_of_ble_eq_true rfl) (Nat.le_add_left 315 d)) (Nat.le_of_ble_eq_true rfl) (ch_rts hb6) (cp_tV h (fun p hp Q' hq => s_X4_closes hp hq) (fun w8 h => ?_) (fun a w1 h => ?_))))
    · obtain ⟨b10, hb9, h⟩ := ch_bd h
      obtain ⟨v11, hp12, h⟩ := ch_bd h
      refine ch_aload_n 1 x1 dX4_block_49 rfl (ch_iv yJ5_size prog_32_method_8_code 1 (some .int) (ci := 13) (q := (RJ5, TJ5, 3)) (b := b10) (d' := 2) (av := []) (rest := []) (by rw [ch_rs hb9]; rfl) dX4_block_50 q607 q608 rfl q609 q610 can_J5_size (Nat.le_trans (Nat.le_of_ble_eq_true rfl) (Nat.le_add_left 315 d)) (Nat.le_of_ble_eq_true rfl) (ch_rtg hb9) (cp_kI (v := v11) (w1 := w8) (fun Q' hq => s_J5_size hp12 hq) ?_))
      refine cp_newR (t := 28) (C := "ClassHouse$Statement") dX4_block_53 rfl (Nat.le_of_ble_eq_true rfl) q867 q1036 h (fun w13 h => ?_)
      obtain ⟨r, hr, h⟩ := ch_bd h
      obtain rfl := Option.some.inj h
      exact ch_astore_n 2 (some (ch_nx w8)) (ls1 := [some (va_rf (some t0)), some (va_rf x1), some (va_rf (some (ch_nx w8))), none]) dX4_block_56 (Nat.le_of_ble_eq_true rfl) (ch_s1o rfl rfl) (ch_iconst _ 0 dX4_block_57 rfl (ch_istore_n 3 _ (ls1 := [some (va_rf (some t0)), some (va_rf x1), some (va_rf (some (ch_nx w8))), some (.int 0)]) dX4_block_58 (Nat.le_of_ble_eq_true rfl) rfl (ch_FT.wk (ch_wN (ch_wS (ch_wS (ch_wS ch_w0)))) (sl_X4_block_59 hr1 hr hk))))
    · subst h
      exact ch_th rfl hk
  · obtain ⟨_, hb14, h⟩ := ch_bd h
    refine ch_aload_n 1 x1 dX4_block_23 rfl (ch_aload_n 0 (some t0) dX4_block_24 rfl (ch_iv yX4_statement prog_7_method_23_code 4 (some (.object "ClassHouse$Statement")) (ci := 4) (q := (RX4, TX4, 9)) (b := t0) (d' := (d + 314)) (av := []) (rest := [va_rf x1]) rfl dX4_block_25 q855 q857 rfl qs20 q858 can_X4_statement (Nat.le_refl _) (ch_hw (Nat.le_of_ble_eq_true rfl)) (ch_rts hb14) (cp_tR h (fun p hp Q' hq => hr1 hp hq) (fun v15 w16 h => ?_) (fun a w1 h => ?_))))
    · obtain ⟨b18, hb17, h⟩ := ch_bd h
      obtain ⟨p19, hp20, h⟩ := ch_bd h
      refine ch_iv yJ5_add prog_32_method_25_code 2 (some .boolean) (ci := 13) (q := (RJ5, TJ5, 3)) (b := b18) (d' := 8) (av := [va_rf v15]) (rest := []) (by rw [ch_rs hb17]; rfl) dX4_block_28 q630 q631 rfl q632 q633 can_J5_add (Nat.le_trans (Nat.le_of_ble_eq_true rfl) (Nat.le_add_left 315 d)) (Nat.le_of_ble_eq_true rfl) (ch_rtg hb17) (cp_kI (v := p19.1) (w1 := p19.2) (fun Q' hq => s_J5_add hp20 hq) ?_)
      refine ch_pop dX4_block_31 rfl (ch_goto 14 dX4_block_32 rfl (ch_FT.wk (ch_wS (ch_wS (ch_wN (ch_wN ch_w0)))) ?_))
      obtain rfl := Option.some.inj h
      exact hk
    · subst h
      exact ch_th rfl hk
theorem sl_X4_block_14 {g : State} {d : Nat} {rc : Nat → Nat → Int32 → ch_W → Option (Except Nat (Option Nat) × ch_W)} (hr1 : ∀ {t0 : Nat} {w : ch_W} {p : Except Nat (Option Nat) × ch_W} {Q : Outcome → ch_W → Prop}, rc 1 t0 0 w = some p → ch_xR Q p → ch_CT g true yX4_statement (d + 314) [.ref t0] (w) Q)  {t0 : Nat} {x1 : Option Nat} {a : ch_W} {res : Except Nat (Option Nat) × ch_W} {Q : Outcome → ch_W → Prop} (h : ch_loop (fun (s : ch_W) => c_X4_block_14 rc g t0 x1 s) a = some res) (hk : (ch_xR Q) res) : ch_FT g true mX4_block (d + 315) 14 [some (va_rf (some t0)), some (va_rf x1), none, none] [] (a) Q := by
  refine ch_loop_ind (fun (a : ch_W) (r : Except Nat (Option Nat) × ch_W) => (ch_xR Q) r → ch_FT g true mX4_block (d + 315) 14 [some (va_rf (some t0)), some (va_rf x1), none, none] [] (a) Q) ?_ ?_ a res h hk
  · intro a a2 b h1 ih hk
    exact s_X4_block_14 hr1 h1 (ih hk)
  · intro a b h1 hk
    exact s_X4_block_14 hr1 h1 hk

def c_X4_block (rc : Nat → Nat → Int32 → ch_W → Option (Except Nat (Option Nat) × ch_W)) (g : State) (t0 : Nat)  (w : ch_W) : Option (Except Nat (Option Nat) × ch_W) := (ch_rc w (some t0) 5).bind fun _ => ch_tb (c_X4_opens g t0 (some (ch_sa g RX4 132)) w) (fun a w => (.error a, w)) fun _ w3 => (ch_nO w3 14 3).bind fun w4 => (c_J5_init g (ch_nx w3) w4).bind fun p5 => ch_loop (fun (s : ch_W) => c_X4_block_14 rc g t0 (some (ch_nx w3)) s) (p5)
theorem s_X4_block {g : State} {d : Nat} {rc : Nat → Nat → Int32 → ch_W → Option (Except Nat (Option Nat) × ch_W)} (hr1 : ∀ {t0 : Nat} {w : ch_W} {p : Except Nat (Option Nat) × ch_W} {Q : Outcome → ch_W → Prop}, rc 1 t0 0 w = some p → ch_xR Q p → ch_CT g true yX4_statement (d + 314) [.ref t0] (w) Q)  {t0 : Nat} {w : ch_W} {res : Except Nat (Option Nat) × ch_W} {Q : Outcome → ch_W → Prop} (h : c_X4_block rc g t0 w = some res) (hk : (ch_xR Q) res) : ch_CT g true yX4_block (d + 315) [.ref t0] (w) Q := by
  unfold c_X4_block at h
  refine ch_ctL mX4_block (ls := [some (va_rf (some t0)), none, none, none]) q854 rfl (ch_lyr (r := some t0) ch_ly0) (Nat.le_of_ble_eq_true rfl) rfl ?_
  obtain ⟨_, hb1, h⟩ := ch_bd h
  refine ch_aload_n 0 (some t0) dX4_block_0 rfl (ch_ldcS q738 dX4_block_1 (ch_iv yX4_opens prog_7_method_10_code 2 none (ci := 4) (q := (RX4, TX4, 9)) (b := t0) (d' := 10) (av := [va_rf (some (ch_sa g RX4 132))]) (rest := []) rfl dX4_block_3 q739 q741 rfl qs14 q742 can_X4_opens (Nat.le_trans (Nat.le_of_ble_eq_true rfl) (Nat.le_add_left 315 d)) (Nat.le_of_ble_eq_true rfl) (ch_rts hb1) (cp_tV h (fun p hp Q' hq => s_X4_opens hp hq) (fun w3 h => ?_) (fun a w1 h => ?_))))
  · refine cp_new (ci := 13) (n := 3) (q := (RJ5, TJ5, 3)) dX4_block_6 rfl q438 q439 q210 h (fun w4 h => ?_)
    obtain ⟨p5, hp6, h⟩ := ch_bd h
    refine ch_dup dX4_block_9 (ch_cat _) (ch_ii yJ5_init prog_32_method_2_code 1 (b := (ch_nx w3)) (d' := 4) (av := []) (rest := [va_rf (some (ch_nx w3))]) rfl dX4_block_10 rfl q440 q441 q442 can_J5_init (Nat.le_trans (Nat.le_of_ble_eq_true rfl) (Nat.le_add_left 315 d)) (ch_hw (Nat.le_of_ble_eq_true rfl)) (cp_kV (w1 := p5) (fun Q' hq => s_J5_init hp6 hq) ?_))
    exact ch_astore_n 1 (some (ch_nx w3)) (ls1 := [some (va_rf (some t0)), some (va_rf (some (ch_nx w3))), none, none]) dX4_block_13 (Nat.le_of_ble_eq_true rfl) rfl (ch_FT.wk (ch_wS (ch_wS (ch_wN (ch_wN ch_w0)))) (sl_X4_block_14 hr1 h hk))
  · subst h
    exact ch_th rfl hk

theorem bX4_statement_0 : ch_ck cX4_statement 0 [42, 180, 0, 31, 60, 42, 18, 149, 182, 0, 76, 154, 0, 36, 42, 18] := ch_ckof (by decide +kernel)
theorem bX4_statement_1 : ch_ck cX4_statement 16 [151, 182, 0, 76, 154, 0, 27, 42, 18, 153, 182, 0, 76, 154, 0, 18] := ch_ckof (by decide +kernel)
theorem bX4_statement_2 : ch_ck cX4_statement 32 [42, 180, 0, 40, 4, 160, 0, 16, 42, 182, 0, 206, 153, 0, 9, 42] := ch_ckof (by decide +kernel)
theorem bX4_statement_3 : ch_ck cX4_statement 48 [27, 182, 0, 209, 176, 42, 18, 213, 182, 0, 76, 154, 0, 12, 42, 18] := ch_ckof (by decide +kernel)
theorem bX4_statement_4 : ch_ck cX4_statement 64 [215, 182, 0, 76, 153, 0, 9, 42, 27, 182, 0, 217, 176, 42, 18, 220] := ch_ckof (by decide +kernel)
theorem bX4_statement_5 : ch_ck cX4_statement 80 [182, 0, 76, 153, 0, 9, 42, 27, 182, 0, 222, 176, 42, 18, 225, 182] := ch_ckof (by decide +kernel)
theorem bX4_statement_6 : ch_ck cX4_statement 96 [0, 76, 154, 0, 21, 42, 18, 227, 182, 0, 76, 154, 0, 12, 42, 18] := ch_ckof (by decide +kernel)
theorem bX4_statement_7 : ch_ck cX4_statement 112 [229, 182, 0, 76, 153, 0, 82, 187, 0, 204, 89, 42, 18, 225, 182, 0] := ch_ckof (by decide +kernel)
theorem bX4_statement_8 : ch_ck cX4_statement 128 [76, 153, 0, 7, 8, 167, 0, 19, 42, 18, 227, 182, 0, 76, 153, 0] := ch_ckof (by decide +kernel)
theorem bX4_statement_9 : ch_ck cX4_statement 144 [8, 16, 6, 167, 0, 5, 16, 8, 27, 183, 0, 231, 77, 42, 182, 0] := ch_ckof (by decide +kernel)
theorem bX4_statement_10 : ch_ck cX4_statement 160 [79, 44, 44, 180, 0, 232, 8, 160, 0, 16, 42, 18, 164, 182, 0, 76] := ch_ckof (by decide +kernel)
theorem bX4_statement_11 : ch_ck cX4_statement 176 [153, 0, 7, 1, 167, 0, 7, 42, 182, 0, 233, 181, 0, 237, 42, 18] := ch_ckof (by decide +kernel)
theorem bX4_statement_12 : ch_ck cX4_statement 192 [164, 182, 0, 116, 44, 176, 42, 182, 0, 233, 77, 187, 0, 204, 89, 42] := ch_ckof (by decide +kernel)
theorem bX4_statement_13 : ch_ck cX4_statement 208 [18, 240, 182, 0, 76, 153, 0, 7, 4, 167, 0, 4, 5, 27, 183, 0] := ch_ckof (by decide +kernel)
theorem bX4_statement_14 : ch_ck cX4_statement 224 [231, 78, 45, 180, 0, 232, 4, 160, 0, 31, 42, 44, 182, 0, 242, 182] := ch_ckof (by decide +kernel)
theorem bX4_statement_15 : ch_ck cX4_statement 240 [0, 58, 42, 182, 0, 79, 45, 44, 181, 0, 247, 45, 42, 182, 0, 233] := ch_ckof (by decide +kernel)
theorem bX4_statement_16 : ch_ck cX4_statement 256 [181, 0, 237, 167, 0, 33, 42, 42, 18, 164, 182, 0, 76, 153, 0, 10] := ch_ckof (by decide +kernel)
theorem bX4_statement_17 : ch_ck cX4_statement 272 [44, 182, 0, 250, 153, 0, 7, 4, 167, 0, 4, 3, 182, 0, 58, 45] := ch_ckof (by decide +kernel)
theorem bX4_statement_18 : ch_ck cX4_statement 288 [44, 181, 0, 237, 42, 18, 164, 182, 0, 116, 45, 176] := ch_ckof (by decide +kernel)
theorem dX4_statement_0 : decode cX4_statement 0 = .ok (.aload_n 0, 1) := dz_42 (bX4_statement_0 0 _ rfl)
theorem dX4_statement_1 : decode cX4_statement 1 = .ok (.getfield 31, 3) := dz_180 (bX4_statement_0 1 _ rfl) (bX4_statement_0 2 _ rfl) (bX4_statement_0 3 _ rfl)
theorem dX4_statement_4 : decode cX4_statement 4 = .ok (.istore_n 1, 1) := dz_60 (bX4_statement_0 4 _ rfl)
theorem dX4_statement_5 : decode cX4_statement 5 = .ok (.aload_n 0, 1) := dz_42 (bX4_statement_0 5 _ rfl)
theorem dX4_statement_6 : decode cX4_statement 6 = .ok (.ldc 149, 2) := dz_18 (bX4_statement_0 6 _ rfl) (bX4_statement_0 7 _ rfl)
theorem dX4_statement_8 : decode cX4_statement 8 = .ok (.invokevirtual 76, 3) := dz_182 (bX4_statement_0 8 _ rfl) (bX4_statement_0 9 _ rfl) (bX4_statement_0 10 _ rfl)
theorem dX4_statement_11 : decode cX4_statement 11 = .ok (.ifCond .ne 36, 3) := dz_154 (bX4_statement_0 11 _ rfl) (bX4_statement_0 12 _ rfl) (bX4_statement_0 13 _ rfl)
theorem dX4_statement_14 : decode cX4_statement 14 = .ok (.aload_n 0, 1) := dz_42 (bX4_statement_0 14 _ rfl)
theorem dX4_statement_15 : decode cX4_statement 15 = .ok (.ldc 151, 2) := dz_18 (bX4_statement_0 15 _ rfl) (bX4_statement_1 0 _ rfl)
theorem dX4_statement_17 : decode cX4_statement 17 = .ok (.invokevirtual 76, 3) := dz_182 (bX4_statement_1 1 _ rfl) (bX4_statement_1 2 _ rfl) (bX4_statement_1 3 _ rfl)
theorem dX4_statement_20 : decode cX4_statement 20 = .ok (.ifCond .ne 27, 3) := dz_154 (bX4_statement_1 4 _ rfl) (bX4_statement_1 5 _ rfl) (bX4_statement_1 6 _ rfl)
theorem dX4_statement_23 : decode cX4_statement 23 = .ok (.aload_n 0, 1) := dz_42 (bX4_statement_1 7 _ rfl)
theorem dX4_statement_24 : decode cX4_statement 24 = .ok (.ldc 153, 2) := dz_18 (bX4_statement_1 8 _ rfl) (bX4_statement_1 9 _ rfl)
theorem dX4_statement_26 : decode cX4_statement 26 = .ok (.invokevirtual 76, 3) := dz_182 (bX4_statement_1 10 _ rfl) (bX4_statement_1 11 _ rfl) (bX4_statement_1 12 _ rfl)
theorem dX4_statement_29 : decode cX4_statement 29 = .ok (.ifCond .ne 18, 3) := dz_154 (bX4_statement_1 13 _ rfl) (bX4_statement_1 14 _ rfl) (bX4_statement_1 15 _ rfl)
theorem dX4_statement_32 : decode cX4_statement 32 = .ok (.aload_n 0, 1) := dz_42 (bX4_statement_2 0 _ rfl)
theorem dX4_statement_33 : decode cX4_statement 33 = .ok (.getfield 40, 3) := dz_180 (bX4_statement_2 1 _ rfl) (bX4_statement_2 2 _ rfl) (bX4_statement_2 3 _ rfl)
theorem dX4_statement_36 : decode cX4_statement 36 = .ok (.iconst 1, 1) := dz_4 (bX4_statement_2 4 _ rfl)
theorem dX4_statement_37 : decode cX4_statement 37 = .ok (.if_icmp .ne 16, 3) := dz_160 (bX4_statement_2 5 _ rfl) (bX4_statement_2 6 _ rfl) (bX4_statement_2 7 _ rfl)
theorem dX4_statement_40 : decode cX4_statement 40 = .ok (.aload_n 0, 1) := dz_42 (bX4_statement_2 8 _ rfl)
theorem dX4_statement_41 : decode cX4_statement 41 = .ok (.invokevirtual 206, 3) := dz_182 (bX4_statement_2 9 _ rfl) (bX4_statement_2 10 _ rfl) (bX4_statement_2 11 _ rfl)
theorem dX4_statement_44 : decode cX4_statement 44 = .ok (.ifCond .eq 9, 3) := dz_153 (bX4_statement_2 12 _ rfl) (bX4_statement_2 13 _ rfl) (bX4_statement_2 14 _ rfl)
theorem dX4_statement_47 : decode cX4_statement 47 = .ok (.aload_n 0, 1) := dz_42 (bX4_statement_2 15 _ rfl)
theorem dX4_statement_48 : decode cX4_statement 48 = .ok (.iload_n 1, 1) := dz_27 (bX4_statement_3 0 _ rfl)
theorem dX4_statement_49 : decode cX4_statement 49 = .ok (.invokevirtual 209, 3) := dz_182 (bX4_statement_3 1 _ rfl) (bX4_statement_3 2 _ rfl) (bX4_statement_3 3 _ rfl)
theorem dX4_statement_52 : decode cX4_statement 52 = .ok (.areturn, 1) := dz_176 (bX4_statement_3 4 _ rfl)
theorem dX4_statement_53 : decode cX4_statement 53 = .ok (.aload_n 0, 1) := dz_42 (bX4_statement_3 5 _ rfl)
theorem dX4_statement_54 : decode cX4_statement 54 = .ok (.ldc 213, 2) := dz_18 (bX4_statement_3 6 _ rfl) (bX4_statement_3 7 _ rfl)
theorem dX4_statement_56 : decode cX4_statement 56 = .ok (.invokevirtual 76, 3) := dz_182 (bX4_statement_3 8 _ rfl) (bX4_statement_3 9 _ rfl) (bX4_statement_3 10 _ rfl)
theorem dX4_statement_59 : decode cX4_statement 59 = .ok (.ifCond .ne 12, 3) := dz_154 (bX4_statement_3 11 _ rfl) (bX4_statement_3 12 _ rfl) (bX4_statement_3 13 _ rfl)
theorem dX4_statement_62 : decode cX4_statement 62 = .ok (.aload_n 0, 1) := dz_42 (bX4_statement_3 14 _ rfl)
theorem dX4_statement_63 : decode cX4_statement 63 = .ok (.ldc 215, 2) := dz_18 (bX4_statement_3 15 _ rfl) (bX4_statement_4 0 _ rfl)
theorem dX4_statement_65 : decode cX4_statement 65 = .ok (.invokevirtual 76, 3) := dz_182 (bX4_statement_4 1 _ rfl) (bX4_statement_4 2 _ rfl) (bX4_statement_4 3 _ rfl)
theorem dX4_statement_68 : decode cX4_statement 68 = .ok (.ifCond .eq 9, 3) := dz_153 (bX4_statement_4 4 _ rfl) (bX4_statement_4 5 _ rfl) (bX4_statement_4 6 _ rfl)
theorem dX4_statement_71 : decode cX4_statement 71 = .ok (.aload_n 0, 1) := dz_42 (bX4_statement_4 7 _ rfl)
theorem dX4_statement_72 : decode cX4_statement 72 = .ok (.iload_n 1, 1) := dz_27 (bX4_statement_4 8 _ rfl)
theorem dX4_statement_73 : decode cX4_statement 73 = .ok (.invokevirtual 217, 3) := dz_182 (bX4_statement_4 9 _ rfl) (bX4_statement_4 10 _ rfl) (bX4_statement_4 11 _ rfl)
theorem dX4_statement_76 : decode cX4_statement 76 = .ok (.areturn, 1) := dz_176 (bX4_statement_4 12 _ rfl)
theorem dX4_statement_77 : decode cX4_statement 77 = .ok (.aload_n 0, 1) := dz_42 (bX4_statement_4 13 _ rfl)
theorem dX4_statement_78 : decode cX4_statement 78 = .ok (.ldc 220, 2) := dz_18 (bX4_statement_4 14 _ rfl) (bX4_statement_4 15 _ rfl)
theorem dX4_statement_80 : decode cX4_statement 80 = .ok (.invokevirtual 76, 3) := dz_182 (bX4_statement_5 0 _ rfl) (bX4_statement_5 1 _ rfl) (bX4_statement_5 2 _ rfl)
theorem dX4_statement_83 : decode cX4_statement 83 = .ok (.ifCond .eq 9, 3) := dz_153 (bX4_statement_5 3 _ rfl) (bX4_statement_5 4 _ rfl) (bX4_statement_5 5 _ rfl)
theorem dX4_statement_86 : decode cX4_statement 86 = .ok (.aload_n 0, 1) := dz_42 (bX4_statement_5 6 _ rfl)
theorem dX4_statement_87 : decode cX4_statement 87 = .ok (.iload_n 1, 1) := dz_27 (bX4_statement_5 7 _ rfl)
theorem dX4_statement_88 : decode cX4_statement 88 = .ok (.invokevirtual 222, 3) := dz_182 (bX4_statement_5 8 _ rfl) (bX4_statement_5 9 _ rfl) (bX4_statement_5 10 _ rfl)
theorem dX4_statement_91 : decode cX4_statement 91 = .ok (.areturn, 1) := dz_176 (bX4_statement_5 11 _ rfl)
theorem dX4_statement_92 : decode cX4_statement 92 = .ok (.aload_n 0, 1) := dz_42 (bX4_statement_5 12 _ rfl)
theorem dX4_statement_93 : decode cX4_statement 93 = .ok (.ldc 225, 2) := dz_18 (bX4_statement_5 13 _ rfl) (bX4_statement_5 14 _ rfl)
theorem dX4_statement_95 : decode cX4_statement 95 = .ok (.invokevirtual 76, 3) := dz_182 (bX4_statement_5 15 _ rfl) (bX4_statement_6 0 _ rfl) (bX4_statement_6 1 _ rfl)
theorem dX4_statement_98 : decode cX4_statement 98 = .ok (.ifCond .ne 21, 3) := dz_154 (bX4_statement_6 2 _ rfl) (bX4_statement_6 3 _ rfl) (bX4_statement_6 4 _ rfl)
theorem dX4_statement_101 : decode cX4_statement 101 = .ok (.aload_n 0, 1) := dz_42 (bX4_statement_6 5 _ rfl)
theorem dX4_statement_102 : decode cX4_statement 102 = .ok (.ldc 227, 2) := dz_18 (bX4_statement_6 6 _ rfl) (bX4_statement_6 7 _ rfl)
theorem dX4_statement_104 : decode cX4_statement 104 = .ok (.invokevirtual 76, 3) := dz_182 (bX4_statement_6 8 _ rfl) (bX4_statement_6 9 _ rfl) (bX4_statement_6 10 _ rfl)
theorem dX4_statement_107 : decode cX4_statement 107 = .ok (.ifCond .ne 12, 3) := dz_154 (bX4_statement_6 11 _ rfl) (bX4_statement_6 12 _ rfl) (bX4_statement_6 13 _ rfl)
theorem dX4_statement_110 : decode cX4_statement 110 = .ok (.aload_n 0, 1) := dz_42 (bX4_statement_6 14 _ rfl)
theorem dX4_statement_111 : decode cX4_statement 111 = .ok (.ldc 229, 2) := dz_18 (bX4_statement_6 15 _ rfl) (bX4_statement_7 0 _ rfl)
theorem dX4_statement_113 : decode cX4_statement 113 = .ok (.invokevirtual 76, 3) := dz_182 (bX4_statement_7 1 _ rfl) (bX4_statement_7 2 _ rfl) (bX4_statement_7 3 _ rfl)
theorem dX4_statement_116 : decode cX4_statement 116 = .ok (.ifCond .eq 82, 3) := dz_153 (bX4_statement_7 4 _ rfl) (bX4_statement_7 5 _ rfl) (bX4_statement_7 6 _ rfl)
theorem dX4_statement_119 : decode cX4_statement 119 = .ok (.new 204, 3) := dz_187 (bX4_statement_7 7 _ rfl) (bX4_statement_7 8 _ rfl) (bX4_statement_7 9 _ rfl)
theorem dX4_statement_122 : decode cX4_statement 122 = .ok (.dup, 1) := dz_89 (bX4_statement_7 10 _ rfl)
theorem dX4_statement_123 : decode cX4_statement 123 = .ok (.aload_n 0, 1) := dz_42 (bX4_statement_7 11 _ rfl)
theorem dX4_statement_124 : decode cX4_statement 124 = .ok (.ldc 225, 2) := dz_18 (bX4_statement_7 12 _ rfl) (bX4_statement_7 13 _ rfl)
theorem dX4_statement_126 : decode cX4_statement 126 = .ok (.invokevirtual 76, 3) := dz_182 (bX4_statement_7 14 _ rfl) (bX4_statement_7 15 _ rfl) (bX4_statement_8 0 _ rfl)
theorem dX4_statement_129 : decode cX4_statement 129 = .ok (.ifCond .eq 7, 3) := dz_153 (bX4_statement_8 1 _ rfl) (bX4_statement_8 2 _ rfl) (bX4_statement_8 3 _ rfl)
theorem dX4_statement_132 : decode cX4_statement 132 = .ok (.iconst 5, 1) := dz_8 (bX4_statement_8 4 _ rfl)
theorem dX4_statement_133 : decode cX4_statement 133 = .ok (.goto 19, 3) := dz_167 (bX4_statement_8 5 _ rfl) (bX4_statement_8 6 _ rfl) (bX4_statement_8 7 _ rfl)
theorem dX4_statement_136 : decode cX4_statement 136 = .ok (.aload_n 0, 1) := dz_42 (bX4_statement_8 8 _ rfl)
theorem dX4_statement_137 : decode cX4_statement 137 = .ok (.ldc 227, 2) := dz_18 (bX4_statement_8 9 _ rfl) (bX4_statement_8 10 _ rfl)
theorem dX4_statement_139 : decode cX4_statement 139 = .ok (.invokevirtual 76, 3) := dz_182 (bX4_statement_8 11 _ rfl) (bX4_statement_8 12 _ rfl) (bX4_statement_8 13 _ rfl)
theorem dX4_statement_142 : decode cX4_statement 142 = .ok (.ifCond .eq 8, 3) := dz_153 (bX4_statement_8 14 _ rfl) (bX4_statement_8 15 _ rfl) (bX4_statement_9 0 _ rfl)
theorem dX4_statement_145 : decode cX4_statement 145 = .ok (.bipush 6, 2) := dz_16 (bX4_statement_9 1 _ rfl) (bX4_statement_9 2 _ rfl)
theorem dX4_statement_147 : decode cX4_statement 147 = .ok (.goto 5, 3) := dz_167 (bX4_statement_9 3 _ rfl) (bX4_statement_9 4 _ rfl) (bX4_statement_9 5 _ rfl)
theorem dX4_statement_150 : decode cX4_statement 150 = .ok (.bipush 8, 2) := dz_16 (bX4_statement_9 6 _ rfl) (bX4_statement_9 7 _ rfl)
theorem dX4_statement_152 : decode cX4_statement 152 = .ok (.iload_n 1, 1) := dz_27 (bX4_statement_9 8 _ rfl)
theorem dX4_statement_153 : decode cX4_statement 153 = .ok (.invokespecial 231, 3) := dz_183 (bX4_statement_9 9 _ rfl) (bX4_statement_9 10 _ rfl) (bX4_statement_9 11 _ rfl)
theorem dX4_statement_156 : decode cX4_statement 156 = .ok (.astore_n 2, 1) := dz_77 (bX4_statement_9 12 _ rfl)
theorem dX4_statement_157 : decode cX4_statement 157 = .ok (.aload_n 0, 1) := dz_42 (bX4_statement_9 13 _ rfl)
theorem dX4_statement_158 : decode cX4_statement 158 = .ok (.invokevirtual 79, 3) := dz_182 (bX4_statement_9 14 _ rfl) (bX4_statement_9 15 _ rfl) (bX4_statement_10 0 _ rfl)
theorem dX4_statement_161 : decode cX4_statement 161 = .ok (.aload_n 2, 1) := dz_44 (bX4_statement_10 1 _ rfl)
theorem dX4_statement_162 : decode cX4_statement 162 = .ok (.aload_n 2, 1) := dz_44 (bX4_statement_10 2 _ rfl)
theorem dX4_statement_163 : decode cX4_statement 163 = .ok (.getfield 232, 3) := dz_180 (bX4_statement_10 3 _ rfl) (bX4_statement_10 4 _ rfl) (bX4_statement_10 5 _ rfl)
theorem dX4_statement_166 : decode cX4_statement 166 = .ok (.iconst 5, 1) := dz_8 (bX4_statement_10 6 _ rfl)
theorem dX4_statement_167 : decode cX4_statement 167 = .ok (.if_icmp .ne 16, 3) := dz_160 (bX4_statement_10 7 _ rfl) (bX4_statement_10 8 _ rfl) (bX4_statement_10 9 _ rfl)
theorem dX4_statement_170 : decode cX4_statement 170 = .ok (.aload_n 0, 1) := dz_42 (bX4_statement_10 10 _ rfl)
theorem dX4_statement_171 : decode cX4_statement 171 = .ok (.ldc 164, 2) := dz_18 (bX4_statement_10 11 _ rfl) (bX4_statement_10 12 _ rfl)
theorem dX4_statement_173 : decode cX4_statement 173 = .ok (.invokevirtual 76, 3) := dz_182 (bX4_statement_10 13 _ rfl) (bX4_statement_10 14 _ rfl) (bX4_statement_10 15 _ rfl)
theorem dX4_statement_176 : decode cX4_statement 176 = .ok (.ifCond .eq 7, 3) := dz_153 (bX4_statement_11 0 _ rfl) (bX4_statement_11 1 _ rfl) (bX4_statement_11 2 _ rfl)
theorem dX4_statement_179 : decode cX4_statement 179 = .ok (.aconst_null, 1) := dz_1 (bX4_statement_11 3 _ rfl)
theorem dX4_statement_180 : decode cX4_statement 180 = .ok (.goto 7, 3) := dz_167 (bX4_statement_11 4 _ rfl) (bX4_statement_11 5 _ rfl) (bX4_statement_11 6 _ rfl)
theorem dX4_statement_183 : decode cX4_statement 183 = .ok (.aload_n 0, 1) := dz_42 (bX4_statement_11 7 _ rfl)
theorem dX4_statement_184 : decode cX4_statement 184 = .ok (.invokevirtual 233, 3) := dz_182 (bX4_statement_11 8 _ rfl) (bX4_statement_11 9 _ rfl) (bX4_statement_11 10 _ rfl)
theorem dX4_statement_187 : decode cX4_statement 187 = .ok (.putfield 237, 3) := dz_181 (bX4_statement_11 11 _ rfl) (bX4_statement_11 12 _ rfl) (bX4_statement_11 13 _ rfl)
theorem dX4_statement_190 : decode cX4_statement 190 = .ok (.aload_n 0, 1) := dz_42 (bX4_statement_11 14 _ rfl)
theorem dX4_statement_191 : decode cX4_statement 191 = .ok (.ldc 164, 2) := dz_18 (bX4_statement_11 15 _ rfl) (bX4_statement_12 0 _ rfl)
theorem dX4_statement_193 : decode cX4_statement 193 = .ok (.invokevirtual 116, 3) := dz_182 (bX4_statement_12 1 _ rfl) (bX4_statement_12 2 _ rfl) (bX4_statement_12 3 _ rfl)
theorem dX4_statement_196 : decode cX4_statement 196 = .ok (.aload_n 2, 1) := dz_44 (bX4_statement_12 4 _ rfl)
theorem dX4_statement_197 : decode cX4_statement 197 = .ok (.areturn, 1) := dz_176 (bX4_statement_12 5 _ rfl)
theorem dX4_statement_198 : decode cX4_statement 198 = .ok (.aload_n 0, 1) := dz_42 (bX4_statement_12 6 _ rfl)
theorem dX4_statement_199 : decode cX4_statement 199 = .ok (.invokevirtual 233, 3) := dz_182 (bX4_statement_12 7 _ rfl) (bX4_statement_12 8 _ rfl) (bX4_statement_12 9 _ rfl)
theorem dX4_statement_202 : decode cX4_statement 202 = .ok (.astore_n 2, 1) := dz_77 (bX4_statement_12 10 _ rfl)
theorem dX4_statement_203 : decode cX4_statement 203 = .ok (.new 204, 3) := dz_187 (bX4_statement_12 11 _ rfl) (bX4_statement_12 12 _ rfl) (bX4_statement_12 13 _ rfl)
theorem dX4_statement_206 : decode cX4_statement 206 = .ok (.dup, 1) := dz_89 (bX4_statement_12 14 _ rfl)
theorem dX4_statement_207 : decode cX4_statement 207 = .ok (.aload_n 0, 1) := dz_42 (bX4_statement_12 15 _ rfl)
theorem dX4_statement_208 : decode cX4_statement 208 = .ok (.ldc 240, 2) := dz_18 (bX4_statement_13 0 _ rfl) (bX4_statement_13 1 _ rfl)
theorem dX4_statement_210 : decode cX4_statement 210 = .ok (.invokevirtual 76, 3) := dz_182 (bX4_statement_13 2 _ rfl) (bX4_statement_13 3 _ rfl) (bX4_statement_13 4 _ rfl)
theorem dX4_statement_213 : decode cX4_statement 213 = .ok (.ifCond .eq 7, 3) := dz_153 (bX4_statement_13 5 _ rfl) (bX4_statement_13 6 _ rfl) (bX4_statement_13 7 _ rfl)
theorem dX4_statement_216 : decode cX4_statement 216 = .ok (.iconst 1, 1) := dz_4 (bX4_statement_13 8 _ rfl)
theorem dX4_statement_217 : decode cX4_statement 217 = .ok (.goto 4, 3) := dz_167 (bX4_statement_13 9 _ rfl) (bX4_statement_13 10 _ rfl) (bX4_statement_13 11 _ rfl)
theorem dX4_statement_220 : decode cX4_statement 220 = .ok (.iconst 2, 1) := dz_5 (bX4_statement_13 12 _ rfl)
theorem dX4_statement_221 : decode cX4_statement 221 = .ok (.iload_n 1, 1) := dz_27 (bX4_statement_13 13 _ rfl)
theorem dX4_statement_222 : decode cX4_statement 222 = .ok (.invokespecial 231, 3) := dz_183 (bX4_statement_13 14 _ rfl) (bX4_statement_13 15 _ rfl) (bX4_statement_14 0 _ rfl)
theorem dX4_statement_225 : decode cX4_statement 225 = .ok (.astore_n 3, 1) := dz_78 (bX4_statement_14 1 _ rfl)
theorem dX4_statement_226 : decode cX4_statement 226 = .ok (.aload_n 3, 1) := dz_45 (bX4_statement_14 2 _ rfl)
theorem dX4_statement_227 : decode cX4_statement 227 = .ok (.getfield 232, 3) := dz_180 (bX4_statement_14 3 _ rfl) (bX4_statement_14 4 _ rfl) (bX4_statement_14 5 _ rfl)
theorem dX4_statement_230 : decode cX4_statement 230 = .ok (.iconst 1, 1) := dz_4 (bX4_statement_14 6 _ rfl)
theorem dX4_statement_231 : decode cX4_statement 231 = .ok (.if_icmp .ne 31, 3) := dz_160 (bX4_statement_14 7 _ rfl) (bX4_statement_14 8 _ rfl) (bX4_statement_14 9 _ rfl)
theorem dX4_statement_234 : decode cX4_statement 234 = .ok (.aload_n 0, 1) := dz_42 (bX4_statement_14 10 _ rfl)
theorem dX4_statement_235 : decode cX4_statement 235 = .ok (.aload_n 2, 1) := dz_44 (bX4_statement_14 11 _ rfl)
theorem dX4_statement_236 : decode cX4_statement 236 = .ok (.invokevirtual 242, 3) := dz_182 (bX4_statement_14 12 _ rfl) (bX4_statement_14 13 _ rfl) (bX4_statement_14 14 _ rfl)
theorem dX4_statement_239 : decode cX4_statement 239 = .ok (.invokevirtual 58, 3) := dz_182 (bX4_statement_14 15 _ rfl) (bX4_statement_15 0 _ rfl) (bX4_statement_15 1 _ rfl)
theorem dX4_statement_242 : decode cX4_statement 242 = .ok (.aload_n 0, 1) := dz_42 (bX4_statement_15 2 _ rfl)
theorem dX4_statement_243 : decode cX4_statement 243 = .ok (.invokevirtual 79, 3) := dz_182 (bX4_statement_15 3 _ rfl) (bX4_statement_15 4 _ rfl) (bX4_statement_15 5 _ rfl)
theorem dX4_statement_246 : decode cX4_statement 246 = .ok (.aload_n 3, 1) := dz_45 (bX4_statement_15 6 _ rfl)
theorem dX4_statement_247 : decode cX4_statement 247 = .ok (.aload_n 2, 1) := dz_44 (bX4_statement_15 7 _ rfl)
theorem dX4_statement_248 : decode cX4_statement 248 = .ok (.putfield 247, 3) := dz_181 (bX4_statement_15 8 _ rfl) (bX4_statement_15 9 _ rfl) (bX4_statement_15 10 _ rfl)
theorem dX4_statement_251 : decode cX4_statement 251 = .ok (.aload_n 3, 1) := dz_45 (bX4_statement_15 11 _ rfl)
theorem dX4_statement_252 : decode cX4_statement 252 = .ok (.aload_n 0, 1) := dz_42 (bX4_statement_15 12 _ rfl)
theorem dX4_statement_253 : decode cX4_statement 253 = .ok (.invokevirtual 233, 3) := dz_182 (bX4_statement_15 13 _ rfl) (bX4_statement_15 14 _ rfl) (bX4_statement_15 15 _ rfl)
theorem dX4_statement_256 : decode cX4_statement 256 = .ok (.putfield 237, 3) := dz_181 (bX4_statement_16 0 _ rfl) (bX4_statement_16 1 _ rfl) (bX4_statement_16 2 _ rfl)
theorem dX4_statement_259 : decode cX4_statement 259 = .ok (.goto 33, 3) := dz_167 (bX4_statement_16 3 _ rfl) (bX4_statement_16 4 _ rfl) (bX4_statement_16 5 _ rfl)
theorem dX4_statement_262 : decode cX4_statement 262 = .ok (.aload_n 0, 1) := dz_42 (bX4_statement_16 6 _ rfl)
theorem dX4_statement_263 : decode cX4_statement 263 = .ok (.aload_n 0, 1) := dz_42 (bX4_statement_16 7 _ rfl)
theorem dX4_statement_264 : decode cX4_statement 264 = .ok (.ldc 164, 2) := dz_18 (bX4_statement_16 8 _ rfl) (bX4_statement_16 9 _ rfl)
theorem dX4_statement_266 : decode cX4_statement 266 = .ok (.invokevirtual 76, 3) := dz_182 (bX4_statement_16 10 _ rfl) (bX4_statement_16 11 _ rfl) (bX4_statement_16 12 _ rfl)
theorem dX4_statement_269 : decode cX4_statement 269 = .ok (.ifCond .eq 10, 3) := dz_153 (bX4_statement_16 13 _ rfl) (bX4_statement_16 14 _ rfl) (bX4_statement_16 15 _ rfl)
theorem dX4_statement_272 : decode cX4_statement 272 = .ok (.aload_n 2, 1) := dz_44 (bX4_statement_17 0 _ rfl)
theorem dX4_statement_273 : decode cX4_statement 273 = .ok (.invokevirtual 250, 3) := dz_182 (bX4_statement_17 1 _ rfl) (bX4_statement_17 2 _ rfl) (bX4_statement_17 3 _ rfl)
theorem dX4_statement_276 : decode cX4_statement 276 = .ok (.ifCond .eq 7, 3) := dz_153 (bX4_statement_17 4 _ rfl) (bX4_statement_17 5 _ rfl) (bX4_statement_17 6 _ rfl)
theorem dX4_statement_279 : decode cX4_statement 279 = .ok (.iconst 1, 1) := dz_4 (bX4_statement_17 7 _ rfl)
theorem dX4_statement_280 : decode cX4_statement 280 = .ok (.goto 4, 3) := dz_167 (bX4_statement_17 8 _ rfl) (bX4_statement_17 9 _ rfl) (bX4_statement_17 10 _ rfl)
theorem dX4_statement_283 : decode cX4_statement 283 = .ok (.iconst 0, 1) := dz_3 (bX4_statement_17 11 _ rfl)
theorem dX4_statement_284 : decode cX4_statement 284 = .ok (.invokevirtual 58, 3) := dz_182 (bX4_statement_17 12 _ rfl) (bX4_statement_17 13 _ rfl) (bX4_statement_17 14 _ rfl)
theorem dX4_statement_287 : decode cX4_statement 287 = .ok (.aload_n 3, 1) := dz_45 (bX4_statement_17 15 _ rfl)
theorem dX4_statement_288 : decode cX4_statement 288 = .ok (.aload_n 2, 1) := dz_44 (bX4_statement_18 0 _ rfl)
theorem dX4_statement_289 : decode cX4_statement 289 = .ok (.putfield 237, 3) := dz_181 (bX4_statement_18 1 _ rfl) (bX4_statement_18 2 _ rfl) (bX4_statement_18 3 _ rfl)
theorem dX4_statement_292 : decode cX4_statement 292 = .ok (.aload_n 0, 1) := dz_42 (bX4_statement_18 4 _ rfl)
theorem dX4_statement_293 : decode cX4_statement 293 = .ok (.ldc 164, 2) := dz_18 (bX4_statement_18 5 _ rfl) (bX4_statement_18 6 _ rfl)
theorem dX4_statement_295 : decode cX4_statement 295 = .ok (.invokevirtual 116, 3) := dz_182 (bX4_statement_18 7 _ rfl) (bX4_statement_18 8 _ rfl) (bX4_statement_18 9 _ rfl)
theorem dX4_statement_298 : decode cX4_statement 298 = .ok (.aload_n 3, 1) := dz_45 (bX4_statement_18 10 _ rfl)
theorem dX4_statement_299 : decode cX4_statement 299 = .ok (.areturn, 1) := dz_176 (bX4_statement_18 11 _ rfl)
def c_X4_statement_47 (rc : Nat → Nat → Int32 → ch_W → Option (Except Nat (Option Nat) × ch_W)) (g : State) (t0 : Nat) (x1 : Int32)  (w : ch_W) : Option (Except Nat (Option Nat) × ch_W) := (ch_rc w (some t0) 5).bind fun _ => ch_tb (c_X4_told g t0 x1 w) (fun a w => (.error a, w)) fun v2 w3 => some ((.ok v2, w3))
theorem s_X4_statement_47 {g : State} {d : Nat} {rc : Nat → Nat → Int32 → ch_W → Option (Except Nat (Option Nat) × ch_W)} (hr2 : ∀ {t0 : Nat} {z0 : Int32} {w : ch_W} {p : Except Nat (Option Nat) × ch_W} {Q : Outcome → ch_W → Prop}, rc 2 t0 z0 w = some p → ch_xR Q p → ch_CT g true yX4_conditional (d + 314) [.ref t0, .int z0] (w) Q) (hr3 : ∀ {t0 : Nat} {z0 : Int32} {w : ch_W} {p : Except Nat (Option Nat) × ch_W} {Q : Outcome → ch_W → Prop}, rc 3 t0 z0 w = some p → ch_xR Q p → ch_CT g true yX4_tried (d + 314) [.ref t0, .int z0] (w) Q)  {t0 : Nat} {x1 : Int32} {w : ch_W} {res : Except Nat (Option Nat) × ch_W} {Q : Outcome → ch_W → Prop} (h : c_X4_statement_47 rc g t0 x1 w = some res) (hk : (ch_xR Q) res) : ch_FT g true mX4_statement (d + 315) 47 [some (va_rf (some t0)), some (.int x1), none, none] [] (w) Q := by
  unfold c_X4_statement_47 at h
  obtain ⟨_, hb1, h⟩ := ch_bd h
  refine ch_aload_n 0 (some t0) dX4_statement_47 rfl (ch_iload_n 1 _ dX4_statement_48 rfl (ch_iv yX4_told prog_7_method_24_code 3 (some (.object "ClassHouse$Statement")) (ci := 4) (q := (RX4, TX4, 9)) (b := t0) (d' := 313) (av := [.int x1]) (rest := []) rfl dX4_statement_49 q863 q865 rfl qs22 q866 can_X4_told (Nat.le_trans (Nat.le_of_ble_eq_true rfl) (Nat.le_add_left 315 d)) (Nat.le_of_ble_eq_true rfl) (ch_rts hb1) (cp_tR h (fun p hp Q' hq => s_X4_told hp hq) (fun v2 w3 h => ?_) (fun a w1 h => ?_))))
  · obtain rfl := Option.some.inj h
    exact ch_areturn v2 dX4_statement_52 rfl (Or.inl ⟨_, rfl⟩) hk
  · subst h
    exact ch_th rfl hk

def c_X4_statement_71 (rc : Nat → Nat → Int32 → ch_W → Option (Except Nat (Option Nat) × ch_W)) (g : State) (t0 : Nat) (x1 : Int32)  (w : ch_W) : Option (Except Nat (Option Nat) × ch_W) := (ch_rc w (some t0) 5).bind fun _ => ch_tb (rc 2 t0 x1 w) (fun a w => (.error a, w)) fun v2 w3 => some ((.ok v2, w3))
theorem s_X4_statement_71 {g : State} {d : Nat} {rc : Nat → Nat → Int32 → ch_W → Option (Except Nat (Option Nat) × ch_W)} (hr2 : ∀ {t0 : Nat} {z0 : Int32} {w : ch_W} {p : Except Nat (Option Nat) × ch_W} {Q : Outcome → ch_W → Prop}, rc 2 t0 z0 w = some p → ch_xR Q p → ch_CT g true yX4_conditional (d + 314) [.ref t0, .int z0] (w) Q) (hr3 : ∀ {t0 : Nat} {z0 : Int32} {w : ch_W} {p : Except Nat (Option Nat) × ch_W} {Q : Outcome → ch_W → Prop}, rc 3 t0 z0 w = some p → ch_xR Q p → ch_CT g true yX4_tried (d + 314) [.ref t0, .int z0] (w) Q)  {t0 : Nat} {x1 : Int32} {w : ch_W} {res : Except Nat (Option Nat) × ch_W} {Q : Outcome → ch_W → Prop} (h : c_X4_statement_71 rc g t0 x1 w = some res) (hk : (ch_xR Q) res) : ch_FT g true mX4_statement (d + 315) 71 [some (va_rf (some t0)), some (.int x1), none, none] [] (w) Q := by
  unfold c_X4_statement_71 at h
  obtain ⟨_, hb1, h⟩ := ch_bd h
  refine ch_aload_n 0 (some t0) dX4_statement_71 rfl (ch_iload_n 1 _ dX4_statement_72 rfl (ch_iv yX4_conditional prog_7_method_25_code 3 (some (.object "ClassHouse$Statement")) (ci := 4) (q := (RX4, TX4, 9)) (b := t0) (d' := (d + 314)) (av := [.int x1]) (rest := []) rfl dX4_statement_73 q1014 q1016 rfl qs33 q1017 can_X4_conditional (Nat.le_refl _) (Nat.le_of_ble_eq_true rfl) (ch_rts hb1) (cp_tR h (fun p hp Q' hq => hr2 hp hq) (fun v2 w3 h => ?_) (fun a w1 h => ?_))))
  · obtain rfl := Option.some.inj h
    exact ch_areturn v2 dX4_statement_76 rfl (Or.inl ⟨_, rfl⟩) hk
  · subst h
    exact ch_th rfl hk

def c_X4_statement_187 (rc : Nat → Nat → Int32 → ch_W → Option (Except Nat (Option Nat) × ch_W)) (g : State) (t0 : Nat) (x2 : Option Nat) (y0 : Option Nat) (y1 : Nat) (w : ch_W) : Option (Except Nat (Option Nat) × ch_W) := (ch_pR w (some y1) 10 fX9_value y0).bind fun w1 => (ch_rc w1 (some t0) 5).bind fun _ => ch_tb (c_X4_want g t0 (some (ch_sa g RX4 164)) w1) (fun a w => (.error a, w)) fun _ w4 => some ((.ok x2, w4))
theorem s_X4_statement_187 {g : State} {d : Nat} {rc : Nat → Nat → Int32 → ch_W → Option (Except Nat (Option Nat) × ch_W)} (hr2 : ∀ {t0 : Nat} {z0 : Int32} {w : ch_W} {p : Except Nat (Option Nat) × ch_W} {Q : Outcome → ch_W → Prop}, rc 2 t0 z0 w = some p → ch_xR Q p → ch_CT g true yX4_conditional (d + 314) [.ref t0, .int z0] (w) Q) (hr3 : ∀ {t0 : Nat} {z0 : Int32} {w : ch_W} {p : Except Nat (Option Nat) × ch_W} {Q : Outcome → ch_W → Prop}, rc 3 t0 z0 w = some p → ch_xR Q p → ch_CT g true yX4_tried (d + 314) [.ref t0, .int z0] (w) Q)  {t0 : Nat} {x2 : Option Nat} {y0 : Option Nat} {y1 : Nat} {w : ch_W} {res : Except Nat (Option Nat) × ch_W} {Q : Outcome → ch_W → Prop} (h : c_X4_statement_187 rc g t0 x2 y0 y1 w = some res) (hk : (ch_xR Q) res) : ch_FT g true mX4_statement (d + 315) 187 [some (va_rf (some t0)), none, some (va_rf x2), none] [va_rf y0, va_rf (some y1)] (w) Q := by
  unfold c_X4_statement_187 at h
  refine cp_pR (ci := 9) (k := 5) dX4_statement_187 fl_X4_237 rfl rfl rfl h (fun w1 h => ?_)
  obtain ⟨_, hb2, h⟩ := ch_bd h
  refine ch_aload_n 0 (some t0) dX4_statement_190 rfl (ch_ldcS q760 dX4_statement_191 (ch_iv yX4_want prog_7_method_9_code 2 none (ci := 4) (q := (RX4, TX4, 9)) (b := t0) (d' := 10) (av := [va_rf (some (ch_sa g RX4 164))]) (rest := []) rfl dX4_statement_193 q589 q591 rfl qs6 q592 can_X4_want (Nat.le_trans (Nat.le_of_ble_eq_true rfl) (Nat.le_add_left 315 d)) (Nat.le_of_ble_eq_true rfl) (ch_rts hb2) (cp_tV h (fun p hp Q' hq => s_X4_want hp hq) (fun w4 h => ?_) (fun a w1 h => ?_))))
  · obtain rfl := Option.some.inj h
    exact ch_aload_n 2 x2 dX4_statement_196 rfl (ch_areturn x2 dX4_statement_197 rfl (Or.inl ⟨_, rfl⟩) hk)
  · subst h
    exact ch_th rfl hk

def c_X4_statement_183 (rc : Nat → Nat → Int32 → ch_W → Option (Except Nat (Option Nat) × ch_W)) (g : State) (t0 : Nat) (x2 : Option Nat) (y0 : Nat) (w : ch_W) : Option (Except Nat (Option Nat) × ch_W) := (ch_rc w (some t0) 5).bind fun _ => ch_tb (cr_PA g 300 0 t0 w) (fun a w => (.error a, w)) fun v2 w3 => c_X4_statement_187 rc g t0 x2 v2 y0 w3
theorem s_X4_statement_183 {g : State} {d : Nat} {rc : Nat → Nat → Int32 → ch_W → Option (Except Nat (Option Nat) × ch_W)} (hr2 : ∀ {t0 : Nat} {z0 : Int32} {w : ch_W} {p : Except Nat (Option Nat) × ch_W} {Q : Outcome → ch_W → Prop}, rc 2 t0 z0 w = some p → ch_xR Q p → ch_CT g true yX4_conditional (d + 314) [.ref t0, .int z0] (w) Q) (hr3 : ∀ {t0 : Nat} {z0 : Int32} {w : ch_W} {p : Except Nat (Option Nat) × ch_W} {Q : Outcome → ch_W → Prop}, rc 3 t0 z0 w = some p → ch_xR Q p → ch_CT g true yX4_tried (d + 314) [.ref t0, .int z0] (w) Q)  {t0 : Nat} {x2 : Option Nat} {y0 : Nat} {w : ch_W} {res : Except Nat (Option Nat) × ch_W} {Q : Outcome → ch_W → Prop} (h : c_X4_statement_183 rc g t0 x2 y0 w = some res) (hk : (ch_xR Q) res) : ch_FT g true mX4_statement (d + 315) 183 [some (va_rf (some t0)), none, some (va_rf x2), none] [va_rf (some y0)] (w) Q := by
  unfold c_X4_statement_183 at h
  obtain ⟨_, hb1, h⟩ := ch_bd h
  refine ch_aload_n 0 (some t0) dX4_statement_183 rfl (ch_iv yX4_value prog_7_method_28_code 2 (some (.object "ClassHouse$Value")) (ci := 4) (q := (RX4, TX4, 9)) (b := t0) (d' := 312) (av := []) (rest := [va_rf (some y0)]) rfl dX4_statement_184 q908 q910 rfl qs23 q911 can_X4_value (Nat.le_trans (Nat.le_of_ble_eq_true rfl) (Nat.le_add_left 315 d)) (ch_hw (Nat.le_of_ble_eq_true rfl)) (ch_rts hb1) (cp_tR h (fun p hp Q' hq => sr_X4_value hp hq) (fun v2 w3 h => ?_) (fun a w1 h => ?_)))
  · exact ch_FT.wk (ch_wS (ch_wN (ch_wS (ch_wN ch_w0)))) (s_X4_statement_187 hr2 hr3 h hk)
  · subst h
    exact ch_th rfl hk

def c_X4_statement_152 (rc : Nat → Nat → Int32 → ch_W → Option (Except Nat (Option Nat) × ch_W)) (g : State) (t0 : Nat) (x1 : Int32) (y0 : Int32) (y1 : Nat) (y2 : Nat) (w : ch_W) : Option (Except Nat (Option Nat) × ch_W) := (c_X9_init y1 y0 x1 w).bind fun p1 => (ch_rc p1 (some t0) 5).bind fun _ => ch_tb (c_X4_next g t0 p1) (fun a w => (.error a, w)) fun _ w5 => (ch_gI w5 (some y2) 10 fX9_kind).bind fun v6 => if v6 = 5 then ((ch_rc w5 (some t0) 5).bind fun _ => (c_X4_isThe g t0 (some (ch_sa g RX4 164)) w5).bind fun v8 => if v8 = 0 then (c_X4_statement_183 rc g t0 (some y2) y2 w5) else (c_X4_statement_187 rc g t0 (some y2) none y2 w5)) else (c_X4_statement_183 rc g t0 (some y2) y2 w5)
theorem s_X4_statement_152 {g : State} {d : Nat} {rc : Nat → Nat → Int32 → ch_W → Option (Except Nat (Option Nat) × ch_W)} (hr2 : ∀ {t0 : Nat} {z0 : Int32} {w : ch_W} {p : Except Nat (Option Nat) × ch_W} {Q : Outcome → ch_W → Prop}, rc 2 t0 z0 w = some p → ch_xR Q p → ch_CT g true yX4_conditional (d + 314) [.ref t0, .int z0] (w) Q) (hr3 : ∀ {t0 : Nat} {z0 : Int32} {w : ch_W} {p : Except Nat (Option Nat) × ch_W} {Q : Outcome → ch_W → Prop}, rc 3 t0 z0 w = some p → ch_xR Q p → ch_CT g true yX4_tried (d + 314) [.ref t0, .int z0] (w) Q)  {t0 : Nat} {x1 : Int32} {y0 : Int32} {y1 : Nat} {y2 : Nat} {w : ch_W} {res : Except Nat (Option Nat) × ch_W} {Q : Outcome → ch_W → Prop} (h : c_X4_statement_152 rc g t0 x1 y0 y1 y2 w = some res) (hk : (ch_xR Q) res) : ch_FT g true mX4_statement (d + 315) 152 [some (va_rf (some t0)), some (.int x1), none, none] [.int y0, va_rf (some y1), va_rf (some y2)] (w) Q := by
  unfold c_X4_statement_152 at h
  obtain ⟨p1, hp2, h⟩ := ch_bd h
  refine ch_iload_n 1 _ dX4_statement_152 rfl (ch_ii yX9_init prog_10_method_1_code 3 (b := y1) (d' := 2) (av := [.int y0, .int x1]) (rest := [va_rf (some y2)]) rfl dX4_statement_153 rfl q869 q870 q871 can_X9_init (Nat.le_trans (Nat.le_of_ble_eq_true rfl) (Nat.le_add_left 315 d)) (ch_hw (Nat.le_of_ble_eq_true rfl)) (cp_kV (w1 := p1) (fun Q' hq => s_X9_init hp2 hq) ?_))
  obtain ⟨_, hb3, h⟩ := ch_bd h
  refine ch_astore_n 2 (some y2) (ls1 := [some (va_rf (some t0)), some (.int x1), some (va_rf (some y2)), none]) dX4_statement_156 (Nat.le_of_ble_eq_true rfl) rfl (ch_aload_n 0 (some t0) dX4_statement_157 rfl (ch_iv yX4_next prog_7_method_5_code 3 none (ci := 4) (q := (RX4, TX4, 9)) (b := t0) (d' := 9) (av := []) (rest := []) rfl dX4_statement_158 q497 q499 rfl qs2 q500 can_X4_next (Nat.le_trans (Nat.le_of_ble_eq_true rfl) (Nat.le_add_left 315 d)) (Nat.le_of_ble_eq_true rfl) (ch_rts hb3) (cp_tV h (fun p hp Q' hq => s_X4_next hp hq) (fun w5 h => ?_) (fun a w1 h => ?_))))
  · refine ch_aload_n 2 (some y2) dX4_statement_161 rfl (ch_aload_n 2 (some y2) dX4_statement_162 rfl (cp_gI (ci := 9) (k := 0) dX4_statement_163 fl_X4_232 rfl h (fun v6 h => ?_)))
    refine ch_iconst _ 5 dX4_statement_166 rfl (cp_icmp_ne _ _ (tgt := 183) dX4_statement_167 rfl h (fun h => ?_) (fun h => ?_))
    · exact ch_FT.wk (ch_wS (ch_wN (ch_wS (ch_wN ch_w0)))) (s_X4_statement_183 hr2 hr3 h hk)
    · obtain ⟨_, hb7, h⟩ := ch_bd h
      obtain ⟨v8, hp9, h⟩ := ch_bd h
      refine ch_aload_n 0 (some t0) dX4_statement_170 rfl (ch_ldcS q760 dX4_statement_171 (ch_iv yX4_isThe prog_7_method_8_code 2 (some .boolean) (ci := 4) (q := (RX4, TX4, 9)) (b := t0) (d' := 7) (av := [va_rf (some (ch_sa g RX4 164))]) (rest := [va_rf (some y2)]) rfl dX4_statement_173 q593 q595 rfl qs7 q596 can_X4_isThe (Nat.le_trans (Nat.le_of_ble_eq_true rfl) (Nat.le_add_left 315 d)) (ch_hw (Nat.le_of_ble_eq_true rfl)) (ch_rts hb7) (cp_kI (v := v8) (w1 := w5) (fun Q' hq => s_X4_isThe hp9 hq) ?_)))
      refine cp_if_eq _ (tgt := 183) dX4_statement_176 rfl h (fun h => ?_) (fun h => ?_)
      · exact ch_FT.wk (ch_wS (ch_wN (ch_wS (ch_wN ch_w0)))) (s_X4_statement_183 hr2 hr3 h hk)
      · exact ch_null dX4_statement_179 (ch_goto 187 dX4_statement_180 rfl (ch_FT.wk (ch_wS (ch_wN (ch_wS (ch_wN ch_w0)))) (s_X4_statement_187 hr2 hr3 h hk)))
  · subst h
    exact ch_th rfl hk

def c_X4_statement_119 (rc : Nat → Nat → Int32 → ch_W → Option (Except Nat (Option Nat) × ch_W)) (g : State) (t0 : Nat) (x1 : Int32)  (w : ch_W) : Option (Except Nat (Option Nat) × ch_W) := (ch_nO w 10 8).bind fun w1 => (ch_rc w1 (some t0) 5).bind fun _ => (c_X4_isThe g t0 (some (ch_sa g RX4 225)) w1).bind fun v3 => if v3 = 0 then ((ch_rc w1 (some t0) 5).bind fun _ => (c_X4_isThe g t0 (some (ch_sa g RX4 227)) w1).bind fun v6 => if v6 = 0 then (c_X4_statement_152 rc g t0 x1 8 (ch_nx w) (ch_nx w) w1) else (c_X4_statement_152 rc g t0 x1 6 (ch_nx w) (ch_nx w) w1)) else (c_X4_statement_152 rc g t0 x1 5 (ch_nx w) (ch_nx w) w1)
theorem s_X4_statement_119 {g : State} {d : Nat} {rc : Nat → Nat → Int32 → ch_W → Option (Except Nat (Option Nat) × ch_W)} (hr2 : ∀ {t0 : Nat} {z0 : Int32} {w : ch_W} {p : Except Nat (Option Nat) × ch_W} {Q : Outcome → ch_W → Prop}, rc 2 t0 z0 w = some p → ch_xR Q p → ch_CT g true yX4_conditional (d + 314) [.ref t0, .int z0] (w) Q) (hr3 : ∀ {t0 : Nat} {z0 : Int32} {w : ch_W} {p : Except Nat (Option Nat) × ch_W} {Q : Outcome → ch_W → Prop}, rc 3 t0 z0 w = some p → ch_xR Q p → ch_CT g true yX4_tried (d + 314) [.ref t0, .int z0] (w) Q)  {t0 : Nat} {x1 : Int32} {w : ch_W} {res : Except Nat (Option Nat) × ch_W} {Q : Outcome → ch_W → Prop} (h : c_X4_statement_119 rc g t0 x1 w = some res) (hk : (ch_xR Q) res) : ch_FT g true mX4_statement (d + 315) 119 [some (va_rf (some t0)), some (.int x1), none, none] [] (w) Q := by
  unfold c_X4_statement_119 at h
  refine cp_new (ci := 9) (n := 8) (q := (RX9, TX9, 8)) dX4_statement_119 rfl q867 q868 q224 h (fun w1 h => ?_)
  obtain ⟨_, hb2, h⟩ := ch_bd h
  obtain ⟨v3, hp4, h⟩ := ch_bd h
  refine ch_dup dX4_statement_122 (ch_cat _) (ch_aload_n 0 (some t0) dX4_statement_123 rfl (ch_ldcS q1025 dX4_statement_124 (ch_iv yX4_isThe prog_7_method_8_code 2 (some .boolean) (ci := 4) (q := (RX4, TX4, 9)) (b := t0) (d' := 7) (av := [va_rf (some (ch_sa g RX4 225))]) (rest := [va_rf (some (ch_nx w)), va_rf (some (ch_nx w))]) rfl dX4_statement_126 q593 q595 rfl qs7 q596 can_X4_isThe (Nat.le_trans (Nat.le_of_ble_eq_true rfl) (Nat.le_add_left 315 d)) (ch_hw (Nat.le_of_ble_eq_true rfl)) (ch_rts hb2) (cp_kI (v := v3) (w1 := w1) (fun Q' hq => s_X4_isThe hp4 hq) ?_))))
  refine cp_if_eq _ (tgt := 136) dX4_statement_129 rfl h (fun h => ?_) (fun h => ?_)
  · obtain ⟨_, hb5, h⟩ := ch_bd h
    obtain ⟨v6, hp7, h⟩ := ch_bd h
    refine ch_aload_n 0 (some t0) dX4_statement_136 rfl (ch_ldcS q1026 dX4_statement_137 (ch_iv yX4_isThe prog_7_method_8_code 2 (some .boolean) (ci := 4) (q := (RX4, TX4, 9)) (b := t0) (d' := 7) (av := [va_rf (some (ch_sa g RX4 227))]) (rest := [va_rf (some (ch_nx w)), va_rf (some (ch_nx w))]) rfl dX4_statement_139 q593 q595 rfl qs7 q596 can_X4_isThe (Nat.le_trans (Nat.le_of_ble_eq_true rfl) (Nat.le_add_left 315 d)) (ch_hw (Nat.le_of_ble_eq_true rfl)) (ch_rts hb5) (cp_kI (v := v6) (w1 := w1) (fun Q' hq => s_X4_isThe hp7 hq) ?_)))
    refine cp_if_eq _ (tgt := 150) dX4_statement_142 rfl h (fun h => ?_) (fun h => ?_)
    · exact ch_bipush _ 8 dX4_statement_150 rfl (ch_FT.wk (ch_wS (ch_wS (ch_wN (ch_wN ch_w0)))) (s_X4_statement_152 hr2 hr3 h hk))
    · exact ch_bipush _ 6 dX4_statement_145 rfl (ch_goto 152 dX4_statement_147 rfl (ch_FT.wk (ch_wS (ch_wS (ch_wN (ch_wN ch_w0)))) (s_X4_statement_152 hr2 hr3 h hk)))
  · exact ch_iconst _ 5 dX4_statement_132 rfl (ch_goto 152 dX4_statement_133 rfl (ch_FT.wk (ch_wS (ch_wS (ch_wN (ch_wN ch_w0)))) (s_X4_statement_152 hr2 hr3 h hk)))

def c_X4_statement_292 (rc : Nat → Nat → Int32 → ch_W → Option (Except Nat (Option Nat) × ch_W)) (g : State) (t0 : Nat) (x3 : Option Nat)  (w : ch_W) : Option (Except Nat (Option Nat) × ch_W) := (ch_rc w (some t0) 5).bind fun _ => ch_tb (c_X4_want g t0 (some (ch_sa g RX4 164)) w) (fun a w => (.error a, w)) fun _ w3 => some ((.ok x3, w3))
theorem s_X4_statement_292 {g : State} {d : Nat} {rc : Nat → Nat → Int32 → ch_W → Option (Except Nat (Option Nat) × ch_W)} (hr2 : ∀ {t0 : Nat} {z0 : Int32} {w : ch_W} {p : Except Nat (Option Nat) × ch_W} {Q : Outcome → ch_W → Prop}, rc 2 t0 z0 w = some p → ch_xR Q p → ch_CT g true yX4_conditional (d + 314) [.ref t0, .int z0] (w) Q) (hr3 : ∀ {t0 : Nat} {z0 : Int32} {w : ch_W} {p : Except Nat (Option Nat) × ch_W} {Q : Outcome → ch_W → Prop}, rc 3 t0 z0 w = some p → ch_xR Q p → ch_CT g true yX4_tried (d + 314) [.ref t0, .int z0] (w) Q)  {t0 : Nat} {x3 : Option Nat} {w : ch_W} {res : Except Nat (Option Nat) × ch_W} {Q : Outcome → ch_W → Prop} (h : c_X4_statement_292 rc g t0 x3 w = some res) (hk : (ch_xR Q) res) : ch_FT g true mX4_statement (d + 315) 292 [some (va_rf (some t0)), none, none, some (va_rf x3)] [] (w) Q := by
  unfold c_X4_statement_292 at h
  obtain ⟨_, hb1, h⟩ := ch_bd h
  refine ch_aload_n 0 (some t0) dX4_statement_292 rfl (ch_ldcS q760 dX4_statement_293 (ch_iv yX4_want prog_7_method_9_code 2 none (ci := 4) (q := (RX4, TX4, 9)) (b := t0) (d' := 10) (av := [va_rf (some (ch_sa g RX4 164))]) (rest := []) rfl dX4_statement_295 q589 q591 rfl qs6 q592 can_X4_want (Nat.le_trans (Nat.le_of_ble_eq_true rfl) (Nat.le_add_left 315 d)) (Nat.le_of_ble_eq_true rfl) (ch_rts hb1) (cp_tV h (fun p hp Q' hq => s_X4_want hp hq) (fun w3 h => ?_) (fun a w1 h => ?_))))
  · obtain rfl := Option.some.inj h
    exact ch_aload_n 3 x3 dX4_statement_298 rfl (ch_areturn x3 dX4_statement_299 rfl (Or.inl ⟨_, rfl⟩) hk)
  · subst h
    exact ch_th rfl hk

def c_X4_statement_284 (rc : Nat → Nat → Int32 → ch_W → Option (Except Nat (Option Nat) × ch_W)) (g : State) (t0 : Nat) (x2 : Option Nat) (x3 : Option Nat) (y0 : Int32) (y1 : Nat) (w : ch_W) : Option (Except Nat (Option Nat) × ch_W) := (ch_rc w (some y1) 5).bind fun _ => ch_tb (c_X4_must g y1 y0 w) (fun a w => (.error a, w)) fun _ w3 => (ch_pR w3 x3 10 fX9_value x2).bind fun w4 => c_X4_statement_292 rc g t0 x3 w4
theorem s_X4_statement_284 {g : State} {d : Nat} {rc : Nat → Nat → Int32 → ch_W → Option (Except Nat (Option Nat) × ch_W)} (hr2 : ∀ {t0 : Nat} {z0 : Int32} {w : ch_W} {p : Except Nat (Option Nat) × ch_W} {Q : Outcome → ch_W → Prop}, rc 2 t0 z0 w = some p → ch_xR Q p → ch_CT g true yX4_conditional (d + 314) [.ref t0, .int z0] (w) Q) (hr3 : ∀ {t0 : Nat} {z0 : Int32} {w : ch_W} {p : Except Nat (Option Nat) × ch_W} {Q : Outcome → ch_W → Prop}, rc 3 t0 z0 w = some p → ch_xR Q p → ch_CT g true yX4_tried (d + 314) [.ref t0, .int z0] (w) Q)  {t0 : Nat} {x2 : Option Nat} {x3 : Option Nat} {y0 : Int32} {y1 : Nat} {w : ch_W} {res : Except Nat (Option Nat) × ch_W} {Q : Outcome → ch_W → Prop} (h : c_X4_statement_284 rc g t0 x2 x3 y0 y1 w = some res) (hk : (ch_xR Q) res) : ch_FT g true mX4_statement (d + 315) 284 [some (va_rf (some t0)), none, some (va_rf x2), some (va_rf x3)] [.int y0, va_rf (some y1)] (w) Q := by
  unfold c_X4_statement_284 at h
  obtain ⟨_, hb1, h⟩ := ch_bd h
  refine ch_iv yX4_must prog_7_method_2_code 2 none (ci := 4) (q := (RX4, TX4, 9)) (b := y1) (d' := 7) (av := [.int y0]) (rest := []) rfl dX4_statement_284 q561 q563 rfl qs4 q564 can_X4_must (Nat.le_trans (Nat.le_of_ble_eq_true rfl) (Nat.le_add_left 315 d)) (Nat.le_of_ble_eq_true rfl) (ch_rts hb1) (cp_tV h (fun p hp Q' hq => s_X4_must hp hq) (fun w3 h => ?_) (fun a w1 h => ?_))
  · refine ch_aload_n 3 x3 dX4_statement_287 rfl (ch_aload_n 2 x2 dX4_statement_288 rfl (cp_pR (ci := 9) (k := 5) dX4_statement_289 fl_X4_237 rfl rfl rfl h (fun w4 h => ?_)))
    exact ch_FT.wk (ch_wS (ch_wN (ch_wN (ch_wS ch_w0)))) (s_X4_statement_292 hr2 hr3 h hk)
  · subst h
    exact ch_th rfl hk

def c_X4_statement_279 (rc : Nat → Nat → Int32 → ch_W → Option (Except Nat (Option Nat) × ch_W)) (g : State) (t0 : Nat) (x2 : Option Nat) (x3 : Option Nat) (y0 : Nat) (w : ch_W) : Option (Except Nat (Option Nat) × ch_W) := c_X4_statement_284 rc g t0 x2 x3 1 y0 w
theorem s_X4_statement_279 {g : State} {d : Nat} {rc : Nat → Nat → Int32 → ch_W → Option (Except Nat (Option Nat) × ch_W)} (hr2 : ∀ {t0 : Nat} {z0 : Int32} {w : ch_W} {p : Except Nat (Option Nat) × ch_W} {Q : Outcome → ch_W → Prop}, rc 2 t0 z0 w = some p → ch_xR Q p → ch_CT g true yX4_conditional (d + 314) [.ref t0, .int z0] (w) Q) (hr3 : ∀ {t0 : Nat} {z0 : Int32} {w : ch_W} {p : Except Nat (Option Nat) × ch_W} {Q : Outcome → ch_W → Prop}, rc 3 t0 z0 w = some p → ch_xR Q p → ch_CT g true yX4_tried (d + 314) [.ref t0, .int z0] (w) Q)  {t0 : Nat} {x2 : Option Nat} {x3 : Option Nat} {y0 : Nat} {w : ch_W} {res : Except Nat (Option Nat) × ch_W} {Q : Outcome → ch_W → Prop} (h : c_X4_statement_279 rc g t0 x2 x3 y0 w = some res) (hk : (ch_xR Q) res) : ch_FT g true mX4_statement (d + 315) 279 [some (va_rf (some t0)), none, some (va_rf x2), some (va_rf x3)] [va_rf (some y0)] (w) Q := by
  unfold c_X4_statement_279 at h
  exact ch_iconst _ 1 dX4_statement_279 rfl (ch_goto 284 dX4_statement_280 rfl (ch_FT.wk (ch_wS (ch_wN (ch_wS (ch_wS ch_w0)))) (s_X4_statement_284 hr2 hr3 h hk)))

def c_X4_statement_221 (rc : Nat → Nat → Int32 → ch_W → Option (Except Nat (Option Nat) × ch_W)) (g : State) (t0 : Nat) (x1 : Int32) (x2 : Option Nat) (y0 : Int32) (y1 : Nat) (y2 : Nat) (w : ch_W) : Option (Except Nat (Option Nat) × ch_W) := (c_X9_init y1 y0 x1 w).bind fun p1 => (ch_gI p1 (some y2) 10 fX9_kind).bind fun v3 => if v3 = 1 then ((ch_rc p1 x2 11).bind fun b12 => (c_X10_isPlace b12 p1).bind fun v13 => (ch_rc p1 (some t0) 5).bind fun _ => ch_tb (c_X4_must g t0 v13 p1) (fun a w => (.error a, w)) fun _ w17 => (ch_rc w17 (some t0) 5).bind fun _ => ch_tb (c_X4_next g t0 w17) (fun a w => (.error a, w)) fun _ w20 => (ch_pR w20 (some y2) 10 fX9_place0 x2).bind fun w21 => (ch_rc w21 (some t0) 5).bind fun _ => ch_tb (cr_PA g 300 0 t0 w21) (fun a w => (.error a, w)) fun v23 w24 => (ch_pR w24 (some y2) 10 fX9_value v23).bind fun w25 => c_X4_statement_292 rc g t0 (some y2) w25) else ((ch_rc p1 (some t0) 5).bind fun _ => (c_X4_isThe g t0 (some (ch_sa g RX4 164)) p1).bind fun v5 => if v5 = 0 then (c_X4_statement_279 rc g t0 x2 (some y2) t0 p1) else ((ch_rc p1 x2 11).bind fun b8 => (c_X10_isCall b8 p1).bind fun v9 => if v9 = 0 then (c_X4_statement_284 rc g t0 x2 (some y2) 0 t0 p1) else (c_X4_statement_279 rc g t0 x2 (some y2) t0 p1)))
theorem s_X4_statement_221 {g : State} {d : Nat} {rc : Nat → Nat → Int32 → ch_W → Option (Except Nat (Option Nat) × ch_W)} (hr2 : ∀ {t0 : Nat} {z0 : Int32} {w : ch_W} {p : Except Nat (Option Nat) × ch_W} {Q : Outcome → ch_W → Prop}, rc 2 t0 z0 w = some p → ch_xR Q p → ch_CT g true yX4_conditional (d + 314) [.ref t0, .int z0] (w) Q) (hr3 : ∀ {t0 : Nat} {z0 : Int32} {w : ch_W} {p : Except Nat (Option Nat) × ch_W} {Q : Outcome → ch_W → Prop}, rc 3 t0 z0 w = some p → ch_xR Q p → ch_CT g true yX4_tried (d + 314) [.ref t0, .int z0] (w) Q)  {t0 : Nat} {x1 : Int32} {x2 : Option Nat} {y0 : Int32} {y1 : Nat} {y2 : Nat} {w : ch_W} {res : Except Nat (Option Nat) × ch_W} {Q : Outcome → ch_W → Prop} (h : c_X4_statement_221 rc g t0 x1 x2 y0 y1 y2 w = some res) (hk : (ch_xR Q) res) : ch_FT g true mX4_statement (d + 315) 221 [some (va_rf (some t0)), some (.int x1), some (va_rf x2), none] [.int y0, va_rf (some y1), va_rf (some y2)] (w) Q := by
  unfold c_X4_statement_221 at h
  obtain ⟨p1, hp2, h⟩ := ch_bd h
  refine ch_iload_n 1 _ dX4_statement_221 rfl (ch_ii yX9_init prog_10_method_1_code 3 (b := y1) (d' := 2) (av := [.int y0, .int x1]) (rest := [va_rf (some y2)]) rfl dX4_statement_222 rfl q869 q870 q871 can_X9_init (Nat.le_trans (Nat.le_of_ble_eq_true rfl) (Nat.le_add_left 315 d)) (ch_hw (Nat.le_of_ble_eq_true rfl)) (cp_kV (w1 := p1) (fun Q' hq => s_X9_init hp2 hq) ?_))
  refine ch_astore_n 3 (some y2) (ls1 := [some (va_rf (some t0)), some (.int x1), some (va_rf x2), some (va_rf (some y2))]) dX4_statement_225 (Nat.le_of_ble_eq_true rfl) (ch_s1o rfl rfl) (ch_aload_n 3 (some y2) dX4_statement_226 rfl (cp_gI (ci := 9) (k := 0) dX4_statement_227 fl_X4_232 rfl h (fun v3 h => ?_)))
  refine ch_iconst _ 1 dX4_statement_230 rfl (cp_icmp_ne _ _ (tgt := 262) dX4_statement_231 rfl h (fun h => ?_) (fun h => ?_))
  · obtain ⟨_, hb4, h⟩ := ch_bd h
    obtain ⟨v5, hp6, h⟩ := ch_bd h
    refine ch_aload_n 0 (some t0) dX4_statement_262 rfl (ch_aload_n 0 (some t0) dX4_statement_263 rfl (ch_ldcS q760 dX4_statement_264 (ch_iv yX4_isThe prog_7_method_8_code 2 (some .boolean) (ci := 4) (q := (RX4, TX4, 9)) (b := t0) (d' := 7) (av := [va_rf (some (ch_sa g RX4 164))]) (rest := [va_rf (some t0)]) rfl dX4_statement_266 q593 q595 rfl qs7 q596 can_X4_isThe (Nat.le_trans (Nat.le_of_ble_eq_true rfl) (Nat.le_add_left 315 d)) (ch_hw (Nat.le_of_ble_eq_true rfl)) (ch_rts hb4) (cp_kI (v := v5) (w1 := p1) (fun Q' hq => s_X4_isThe hp6 hq) ?_))))
    refine cp_if_eq _ (tgt := 279) dX4_statement_269 rfl h (fun h => ?_) (fun h => ?_)
    · exact ch_FT.wk (ch_wS (ch_wN (ch_wS (ch_wS ch_w0)))) (s_X4_statement_279 hr2 hr3 h hk)
    · obtain ⟨b8, hb7, h⟩ := ch_bd h
      obtain ⟨v9, hp10, h⟩ := ch_bd h
      refine ch_aload_n 2 x2 dX4_statement_272 rfl (ch_iv yX10_isCall prog_12_method_3_code 1 (some .boolean) (ci := 10) (q := (RX10, TX10, 6)) (b := b8) (d' := 2) (av := []) (rest := [va_rf (some t0)]) (by rw [ch_rs hb7]; rfl) dX4_statement_273 q1032 q1033 rfl q1034 q1035 can_X10_isCall (Nat.le_trans (Nat.le_of_ble_eq_true rfl) (Nat.le_add_left 315 d)) (ch_hw (Nat.le_of_ble_eq_true rfl)) (ch_rtg hb7) (cp_kI (v := v9) (w1 := p1) (fun Q' hq => s_X10_isCall hp10 hq) ?_))
      refine cp_if_eq _ (tgt := 283) dX4_statement_276 rfl h (fun h => ?_) (fun h => ?_)
      · exact ch_iconst _ 0 dX4_statement_283 rfl (ch_FT.wk (ch_wS (ch_wN (ch_wS (ch_wS ch_w0)))) (s_X4_statement_284 hr2 hr3 h hk))
      · exact ch_FT.wk (ch_wS (ch_wN (ch_wS (ch_wS ch_w0)))) (s_X4_statement_279 hr2 hr3 h hk)
  · obtain ⟨b12, hb11, h⟩ := ch_bd h
    obtain ⟨v13, hp14, h⟩ := ch_bd h
    refine ch_aload_n 0 (some t0) dX4_statement_234 rfl (ch_aload_n 2 x2 dX4_statement_235 rfl (ch_iv yX10_isPlace prog_12_method_2_code 1 (some .boolean) (ci := 10) (q := (RX10, TX10, 6)) (b := b12) (d' := 2) (av := []) (rest := [va_rf (some t0)]) (by rw [ch_rs hb11]; rfl) dX4_statement_236 q1028 q1029 rfl q1030 q1031 can_X10_isPlace (Nat.le_trans (Nat.le_of_ble_eq_true rfl) (Nat.le_add_left 315 d)) (ch_hw (Nat.le_of_ble_eq_true rfl)) (ch_rtg hb11) (cp_kI (v := v13) (w1 := p1) (fun Q' hq => s_X10_isPlace hp14 hq) ?_)))
    obtain ⟨_, hb15, h⟩ := ch_bd h
    refine ch_iv yX4_must prog_7_method_2_code 2 none (ci := 4) (q := (RX4, TX4, 9)) (b := t0) (d' := 7) (av := [.int v13]) (rest := []) rfl dX4_statement_239 q561 q563 rfl qs4 q564 can_X4_must (Nat.le_trans (Nat.le_of_ble_eq_true rfl) (Nat.le_add_left 315 d)) (Nat.le_of_ble_eq_true rfl) (ch_rts hb15) (cp_tV h (fun p hp Q' hq => s_X4_must hp hq) (fun w17 h => ?_) (fun a w1 h => ?_))
    · obtain ⟨_, hb18, h⟩ := ch_bd h
      refine ch_aload_n 0 (some t0) dX4_statement_242 rfl (ch_iv yX4_next prog_7_method_5_code 3 none (ci := 4) (q := (RX4, TX4, 9)) (b := t0) (d' := 9) (av := []) (rest := []) rfl dX4_statement_243 q497 q499 rfl qs2 q500 can_X4_next (Nat.le_trans (Nat.le_of_ble_eq_true rfl) (Nat.le_add_left 315 d)) (Nat.le_of_ble_eq_true rfl) (ch_rts hb18) (cp_tV h (fun p hp Q' hq => s_X4_next hp hq) (fun w20 h => ?_) (fun a w1 h => ?_)))
      · refine ch_aload_n 3 (some y2) dX4_statement_246 rfl (ch_aload_n 2 x2 dX4_statement_247 rfl (cp_pR (ci := 9) (k := 4) dX4_statement_248 fl_X4_247 rfl rfl rfl h (fun w21 h => ?_)))
        obtain ⟨_, hb22, h⟩ := ch_bd h
        refine ch_aload_n 3 (some y2) dX4_statement_251 rfl (ch_aload_n 0 (some t0) dX4_statement_252 rfl (ch_iv yX4_value prog_7_method_28_code 2 (some (.object "ClassHouse$Value")) (ci := 4) (q := (RX4, TX4, 9)) (b := t0) (d' := 312) (av := []) (rest := [va_rf (some y2)]) rfl dX4_statement_253 q908 q910 rfl qs23 q911 can_X4_value (Nat.le_trans (Nat.le_of_ble_eq_true rfl) (Nat.le_add_left 315 d)) (ch_hw (Nat.le_of_ble_eq_true rfl)) (ch_rts hb22) (cp_tR h (fun p hp Q' hq => sr_X4_value hp hq) (fun v23 w24 h => ?_) (fun a w1 h => ?_))))
        · refine cp_pR (ci := 9) (k := 5) dX4_statement_256 fl_X4_237 rfl rfl rfl h (fun w25 h => ?_)
          exact ch_goto 292 dX4_statement_259 rfl (ch_FT.wk (ch_wS (ch_wN (ch_wN (ch_wS ch_w0)))) (s_X4_statement_292 hr2 hr3 h hk))
        · subst h
          exact ch_th rfl hk
      · subst h
        exact ch_th rfl hk
    · subst h
      exact ch_th rfl hk

def c_X4_statement_53 (rc : Nat → Nat → Int32 → ch_W → Option (Except Nat (Option Nat) × ch_W)) (g : State) (t0 : Nat) (x1 : Int32)  (w : ch_W) : Option (Except Nat (Option Nat) × ch_W) := (ch_rc w (some t0) 5).bind fun _ => (c_X4_isThe g t0 (some (ch_sa g RX4 213)) w).bind fun v2 => if v2 = 0 then ((ch_rc w (some t0) 5).bind fun _ => (c_X4_isThe g t0 (some (ch_sa g RX4 215)) w).bind fun v5 => if v5 = 0 then ((ch_rc w (some t0) 5).bind fun _ => (c_X4_isThe g t0 (some (ch_sa g RX4 220)) w).bind fun v8 => if v8 = 0 then ((ch_rc w (some t0) 5).bind fun _ => (c_X4_isThe g t0 (some (ch_sa g RX4 225)) w).bind fun v11 => if v11 = 0 then ((ch_rc w (some t0) 5).bind fun _ => (c_X4_isThe g t0 (some (ch_sa g RX4 227)) w).bind fun v14 => if v14 = 0 then ((ch_rc w (some t0) 5).bind fun _ => (c_X4_isThe g t0 (some (ch_sa g RX4 229)) w).bind fun v17 => if v17 = 0 then ((ch_rc w (some t0) 5).bind fun _ => ch_tb (cr_PA g 300 0 t0 w) (fun a w => (.error a, w)) fun v20 w21 => (ch_nO w21 10 8).bind fun w22 => (ch_rc w22 (some t0) 5).bind fun _ => (c_X4_isThe g t0 (some (ch_sa g RX4 240)) w22).bind fun v24 => if v24 = 0 then (c_X4_statement_221 rc g t0 x1 v20 2 (ch_nx w21) (ch_nx w21) w22) else (c_X4_statement_221 rc g t0 x1 v20 1 (ch_nx w21) (ch_nx w21) w22)) else (c_X4_statement_119 rc g t0 x1 w)) else (c_X4_statement_119 rc g t0 x1 w)) else (c_X4_statement_119 rc g t0 x1 w)) else ((ch_rc w (some t0) 5).bind fun _ => ch_tb (rc 3 t0 x1 w) (fun a w => (.error a, w)) fun v27 w28 => some ((.ok v27, w28)))) else (c_X4_statement_71 rc g t0 x1 w)) else (c_X4_statement_71 rc g t0 x1 w)
theorem s_X4_statement_53 {g : State} {d : Nat} {rc : Nat → Nat → Int32 → ch_W → Option (Except Nat (Option Nat) × ch_W)} (hr2 : ∀ {t0 : Nat} {z0 : Int32} {w : ch_W} {p : Except Nat (Option Nat) × ch_W} {Q : Outcome → ch_W → Prop}, rc 2 t0 z0 w = some p → ch_xR Q p → ch_CT g true yX4_conditional (d + 314) [.ref t0, .int z0] (w) Q) (hr3 : ∀ {t0 : Nat} {z0 : Int32} {w : ch_W} {p : Except Nat (Option Nat) × ch_W} {Q : Outcome → ch_W → Prop}, rc 3 t0 z0 w = some p → ch_xR Q p → ch_CT g true yX4_tried (d + 314) [.ref t0, .int z0] (w) Q)  {t0 : Nat} {x1 : Int32} {w : ch_W} {res : Except Nat (Option Nat) × ch_W} {Q : Outcome → ch_W → Prop} (h : c_X4_statement_53 rc g t0 x1 w = some res) (hk : (ch_xR Q) res) : ch_FT g true mX4_statement (d + 315) 53 [some (va_rf (some t0)), some (.int x1), none, none] [] (w) Q := by
  unfold c_X4_statement_53 at h
  obtain ⟨_, hb1, h⟩ := ch_bd h
  obtain ⟨v2, hp3, h⟩ := ch_bd h
  refine ch_aload_n 0 (some t0) dX4_statement_53 rfl (ch_ldcS q1012 dX4_statement_54 (ch_iv yX4_isThe prog_7_method_8_code 2 (some .boolean) (ci := 4) (q := (RX4, TX4, 9)) (b := t0) (d' := 7) (av := [va_rf (some (ch_sa g RX4 213))]) (rest := []) rfl dX4_statement_56 q593 q595 rfl qs7 q596 can_X4_isThe (Nat.le_trans (Nat.le_of_ble_eq_true rfl) (Nat.le_add_left 315 d)) (Nat.le_of_ble_eq_true rfl) (ch_rts hb1) (cp_kI (v := v2) (w1 := w) (fun Q' hq => s_X4_isThe hp3 hq) ?_)))
  refine cp_if_ne _ (tgt := 71) dX4_statement_59 rfl h (fun h => ?_) (fun h => ?_)
  · exact ch_FT.wk (ch_wS (ch_wS (ch_wN (ch_wN ch_w0)))) (s_X4_statement_71 hr2 hr3 h hk)
  · obtain ⟨_, hb4, h⟩ := ch_bd h
    obtain ⟨v5, hp6, h⟩ := ch_bd h
    refine ch_aload_n 0 (some t0) dX4_statement_62 rfl (ch_ldcS q1013 dX4_statement_63 (ch_iv yX4_isThe prog_7_method_8_code 2 (some .boolean) (ci := 4) (q := (RX4, TX4, 9)) (b := t0) (d' := 7) (av := [va_rf (some (ch_sa g RX4 215))]) (rest := []) rfl dX4_statement_65 q593 q595 rfl qs7 q596 can_X4_isThe (Nat.le_trans (Nat.le_of_ble_eq_true rfl) (Nat.le_add_left 315 d)) (Nat.le_of_ble_eq_true rfl) (ch_rts hb4) (cp_kI (v := v5) (w1 := w) (fun Q' hq => s_X4_isThe hp6 hq) ?_)))
    refine cp_if_eq _ (tgt := 77) dX4_statement_68 rfl h (fun h => ?_) (fun h => ?_)
    · obtain ⟨_, hb7, h⟩ := ch_bd h
      obtain ⟨v8, hp9, h⟩ := ch_bd h
      refine ch_aload_n 0 (some t0) dX4_statement_77 rfl (ch_ldcS q1019 dX4_statement_78 (ch_iv yX4_isThe prog_7_method_8_code 2 (some .boolean) (ci := 4) (q := (RX4, TX4, 9)) (b := t0) (d' := 7) (av := [va_rf (some (ch_sa g RX4 220))]) (rest := []) rfl dX4_statement_80 q593 q595 rfl qs7 q596 can_X4_isThe (Nat.le_trans (Nat.le_of_ble_eq_true rfl) (Nat.le_add_left 315 d)) (Nat.le_of_ble_eq_true rfl) (ch_rts hb7) (cp_kI (v := v8) (w1 := w) (fun Q' hq => s_X4_isThe hp9 hq) ?_)))
      refine cp_if_eq _ (tgt := 92) dX4_statement_83 rfl h (fun h => ?_) (fun h => ?_)
      · obtain ⟨_, hb10, h⟩ := ch_bd h
        obtain ⟨v11, hp12, h⟩ := ch_bd h
        refine ch_aload_n 0 (some t0) dX4_statement_92 rfl (ch_ldcS q1025 dX4_statement_93 (ch_iv yX4_isThe prog_7_method_8_code 2 (some .boolean) (ci := 4) (q := (RX4, TX4, 9)) (b := t0) (d' := 7) (av := [va_rf (some (ch_sa g RX4 225))]) (rest := []) rfl dX4_statement_95 q593 q595 rfl qs7 q596 can_X4_isThe (Nat.le_trans (Nat.le_of_ble_eq_true rfl) (Nat.le_add_left 315 d)) (Nat.le_of_ble_eq_true rfl) (ch_rts hb10) (cp_kI (v := v11) (w1 := w) (fun Q' hq => s_X4_isThe hp12 hq) ?_)))
        refine cp_if_ne _ (tgt := 119) dX4_statement_98 rfl h (fun h => ?_) (fun h => ?_)
        · exact ch_FT.wk (ch_wS (ch_wS (ch_wN (ch_wN ch_w0)))) (s_X4_statement_119 hr2 hr3 h hk)
        · obtain ⟨_, hb13, h⟩ := ch_bd h
          obtain ⟨v14, hp15, h⟩ := ch_bd h
          refine ch_aload_n 0 (some t0) dX4_statement_101 rfl (ch_ldcS q1026 dX4_statement_102 (ch_iv yX4_isThe prog_7_method_8_code 2 (some .boolean) (ci := 4) (q := (RX4, TX4, 9)) (b := t0) (d' := 7) (av := [va_rf (some (ch_sa g RX4 227))]) (rest := []) rfl dX4_statement_104 q593 q595 rfl qs7 q596 can_X4_isThe (Nat.le_trans (Nat.le_of_ble_eq_true rfl) (Nat.le_add_left 315 d)) (Nat.le_of_ble_eq_true rfl) (ch_rts hb13) (cp_kI (v := v14) (w1 := w) (fun Q' hq => s_X4_isThe hp15 hq) ?_)))
          refine cp_if_ne _ (tgt := 119) dX4_statement_107 rfl h (fun h => ?_) (fun h => ?_)
          · exact ch_FT.wk (ch_wS (ch_wS (ch_wN (ch_wN ch_w0)))) (s_X4_statement_119 hr2 hr3 h hk)
          · obtain ⟨_, hb16, h⟩ := ch_bd h
            obtain ⟨v17, hp18, h⟩ := ch_bd h
            refine ch_aload_n 0 (some t0) dX4_statement_110 rfl (ch_ldcS q1027 dX4_statement_111 (ch_iv yX4_isThe prog_7_method_8_code 2 (some .boolean) (ci := 4) (q := (RX4, TX4, 9)) (b := t0) (d' := 7) (av := [va_rf (some (ch_sa g RX4 229))]) (rest := []) rfl dX4_statement_113 q593 q595 rfl qs7 q596 can_X4_isThe (Nat.le_trans (Nat.le_of_ble_eq_true rfl) (Nat.le_add_left 315 d)) (Nat.le_of_ble_eq_true rfl) (ch_rts hb16) (cp_kI (v := v17) (w1 := w) (fun Q' hq => s_X4_isThe hp18 hq) ?_)))
            refine cp_if_eq _ (tgt := 198) dX4_statement_116 rfl h (fun h => ?_) (fun h => ?_)
            · obtain ⟨_, hb19, h⟩ := ch_bd h
              refine ch_aload_n 0 (some t0) dX4_statement_198 rfl (ch_iv yX4_value prog_7_method_28_code 2 (some (.object "ClassHouse$Value")) (ci := 4) (q := (RX4, TX4, 9)) (b := t0) (d' := 312) (av := []) (rest := []) rfl dX4_statement_199 q908 q910 rfl qs23 q911 can_X4_value (Nat.le_trans (Nat.le_of_ble_eq_true rfl) (Nat.le_add_left 315 d)) (Nat.le_of_ble_eq_true rfl) (ch_rts hb19) (cp_tR h (fun p hp Q' hq => sr_X4_value hp hq) (fun v20 w21 h => ?_) (fun a w1 h => ?_)))
              · refine ch_astore_n 2 v20 (ls1 := [some (va_rf (some t0)), some (.int x1), some (va_rf v20), none]) dX4_statement_202 (Nat.le_of_ble_eq_true rfl) rfl (cp_new (ci := 9) (n := 8) (q := (RX9, TX9, 8)) dX4_statement_203 rfl q867 q868 q224 h (fun w22 h => ?_))
                obtain ⟨_, hb23, h⟩ := ch_bd h
                obtain ⟨v24, hp25, h⟩ := ch_bd h
                refine ch_dup dX4_statement_206 (ch_cat _) (ch_aload_n 0 (some t0) dX4_statement_207 rfl (ch_ldcS q907 dX4_statement_208 (ch_iv yX4_isThe prog_7_method_8_code 2 (some .boolean) (ci := 4) (q := (RX4, TX4, 9)) (b := t0) (d' := 7) (av := [va_rf (some (ch_sa g RX4 240))]) (rest := [va_rf (some (ch_nx w21)), va_rf (some (ch_nx w21))]) rfl dX4_statement_210 q593 q595 rfl qs7 q596 can_X4_isThe (Nat.le_trans (Nat.le_of_ble_eq_true rfl) (Nat.le_add_left 315 d)) (ch_hw (Nat.le_of_ble_eq_true rfl)) (ch_rts hb23) (cp_kI (v := v24) (w1 := w22) (fun Q' hq => s_X4_isThe hp25 hq) ?_))))
                refine cp_if_eq _ (tgt := 220) dX4_statement_213 rfl h (fun h => ?_) (fun h => ?_)
                · exact ch_iconst _ 2 dX4_statement_220 rfl (ch_FT.wk (ch_wS (ch_wS (ch_wS (ch_wN ch_w0)))) (s_X4_statement_221 hr2 hr3 h hk))
                · exact ch_iconst _ 1 dX4_statement_216 rfl (ch_goto 221 dX4_statement_217 rfl (ch_FT.wk (ch_wS (ch_wS (ch_wS (ch_wN ch_w0)))) (s_X4_statement_221 hr2 hr3 h hk)))
              · subst h
                exact ch_th rfl hk
            · exact ch_FT.wk (ch_wS (ch_wS (ch_wN (ch_wN ch_w0)))) (s_X4_statement_119 hr2 hr3 h hk)
      · obtain ⟨_, hb26, h⟩ := ch_bd h
        refine ch_aload_n 0 (some t0) dX4_statement_86 rfl (ch_iload_n 1 _ dX4_statement_87 rfl (ch_iv yX4_tried prog_7_method_26_code 3 (some (.object "ClassHouse$Statement")) (ci := 4) (q := (RX4, TX4, 9)) (b := t0) (d' := (d + 314)) (av := [.int x1]) (rest := []) rfl dX4_statement_88 q1020 q1022 rfl qs34 q1023 can_X4_tried (Nat.le_refl _) (Nat.le_of_ble_eq_true rfl) (ch_rts hb26) (cp_tR h (fun p hp Q' hq => hr3 hp hq) (fun v27 w28 h => ?_) (fun a w1 h => ?_))))
        · obtain rfl := Option.some.inj h
          exact ch_areturn v27 dX4_statement_91 rfl (Or.inl ⟨_, rfl⟩) hk
        · subst h
          exact ch_th rfl hk
    · exact ch_FT.wk (ch_wS (ch_wS (ch_wN (ch_wN ch_w0)))) (s_X4_statement_71 hr2 hr3 h hk)

def c_X4_statement (rc : Nat → Nat → Int32 → ch_W → Option (Except Nat (Option Nat) × ch_W)) (g : State) (t0 : Nat)  (w : ch_W) : Option (Except Nat (Option Nat) × ch_W) := (ch_gI w (some t0) 5 fX4_from).bind fun v1 => (ch_rc w (some t0) 5).bind fun _ => (c_X4_isThe g t0 (some (ch_sa g RX4 149)) w).bind fun v3 => if v3 = 0 then ((ch_rc w (some t0) 5).bind fun _ => (c_X4_isThe g t0 (some (ch_sa g RX4 151)) w).bind fun v6 => if v6 = 0 then ((ch_rc w (some t0) 5).bind fun _ => (c_X4_isThe g t0 (some (ch_sa g RX4 153)) w).bind fun v9 => if v9 = 0 then ((ch_gI w (some t0) 5 fX4_kind).bind fun v11 => if v11 = 1 then ((ch_rc w (some t0) 5).bind fun _ => ch_tb (c_X4_isNameBehind g t0 w) (fun a w => (.error a, w)) fun v13 w14 => if v13 = 0 then (c_X4_statement_53 rc g t0 v1 w14) else (c_X4_statement_47 rc g t0 v1 w14)) else (c_X4_statement_53 rc g t0 v1 w)) else (c_X4_statement_47 rc g t0 v1 w)) else (c_X4_statement_47 rc g t0 v1 w)) else (c_X4_statement_47 rc g t0 v1 w)
theorem s_X4_statement {g : State} {d : Nat} {rc : Nat → Nat → Int32 → ch_W → Option (Except Nat (Option Nat) × ch_W)} (hr2 : ∀ {t0 : Nat} {z0 : Int32} {w : ch_W} {p : Except Nat (Option Nat) × ch_W} {Q : Outcome → ch_W → Prop}, rc 2 t0 z0 w = some p → ch_xR Q p → ch_CT g true yX4_conditional (d + 314) [.ref t0, .int z0] (w) Q) (hr3 : ∀ {t0 : Nat} {z0 : Int32} {w : ch_W} {p : Except Nat (Option Nat) × ch_W} {Q : Outcome → ch_W → Prop}, rc 3 t0 z0 w = some p → ch_xR Q p → ch_CT g true yX4_tried (d + 314) [.ref t0, .int z0] (w) Q)  {t0 : Nat} {w : ch_W} {res : Except Nat (Option Nat) × ch_W} {Q : Outcome → ch_W → Prop} (h : c_X4_statement rc g t0 w = some res) (hk : (ch_xR Q) res) : ch_CT g true yX4_statement (d + 315) [.ref t0] (w) Q := by
  unfold c_X4_statement at h
  refine ch_ctL mX4_statement (ls := [some (va_rf (some t0)), none, none, none]) q858 rfl (ch_lyr (r := some t0) ch_ly0) (Nat.le_of_ble_eq_true rfl) rfl ?_
  refine ch_aload_n 0 (some t0) dX4_statement_0 rfl (cp_gI (ci := 4) (k := 3) dX4_statement_1 fl_X4_31 rfl h (fun v1 h => ?_))
  obtain ⟨_, hb2, h⟩ := ch_bd h
  obtain ⟨v3, hp4, h⟩ := ch_bd h
  refine ch_istore_n 1 _ (ls1 := [some (va_rf (some t0)), some (.int v1), none, none]) dX4_statement_4 (Nat.le_of_ble_eq_true rfl) rfl (ch_aload_n 0 (some t0) dX4_statement_5 rfl (ch_ldcS q757 dX4_statement_6 (ch_iv yX4_isThe prog_7_method_8_code 2 (some .boolean) (ci := 4) (q := (RX4, TX4, 9)) (b := t0) (d' := 7) (av := [va_rf (some (ch_sa g RX4 149))]) (rest := []) rfl dX4_statement_8 q593 q595 rfl qs7 q596 can_X4_isThe (Nat.le_trans (Nat.le_of_ble_eq_true rfl) (Nat.le_add_left 315 d)) (Nat.le_of_ble_eq_true rfl) (ch_rts hb2) (cp_kI (v := v3) (w1 := w) (fun Q' hq => s_X4_isThe hp4 hq) ?_))))
  refine cp_if_ne _ (tgt := 47) dX4_statement_11 rfl h (fun h => ?_) (fun h => ?_)
  · exact ch_FT.wk (ch_wS (ch_wS (ch_wN (ch_wN ch_w0)))) (s_X4_statement_47 hr2 hr3 h hk)
  · obtain ⟨_, hb5, h⟩ := ch_bd h
    obtain ⟨v6, hp7, h⟩ := ch_bd h
    refine ch_aload_n 0 (some t0) dX4_statement_14 rfl (ch_ldcS q758 dX4_statement_15 (ch_iv yX4_isThe prog_7_method_8_code 2 (some .boolean) (ci := 4) (q := (RX4, TX4, 9)) (b := t0) (d' := 7) (av := [va_rf (some (ch_sa g RX4 151))]) (rest := []) rfl dX4_statement_17 q593 q595 rfl qs7 q596 can_X4_isThe (Nat.le_trans (Nat.le_of_ble_eq_true rfl) (Nat.le_add_left 315 d)) (Nat.le_of_ble_eq_true rfl) (ch_rts hb5) (cp_kI (v := v6) (w1 := w) (fun Q' hq => s_X4_isThe hp7 hq) ?_)))
    refine cp_if_ne _ (tgt := 47) dX4_statement_20 rfl h (fun h => ?_) (fun h => ?_)
    · exact ch_FT.wk (ch_wS (ch_wS (ch_wN (ch_wN ch_w0)))) (s_X4_statement_47 hr2 hr3 h hk)
    · obtain ⟨_, hb8, h⟩ := ch_bd h
      obtain ⟨v9, hp10, h⟩ := ch_bd h
      refine ch_aload_n 0 (some t0) dX4_statement_23 rfl (ch_ldcS q759 dX4_statement_24 (ch_iv yX4_isThe prog_7_method_8_code 2 (some .boolean) (ci := 4) (q := (RX4, TX4, 9)) (b := t0) (d' := 7) (av := [va_rf (some (ch_sa g RX4 153))]) (rest := []) rfl dX4_statement_26 q593 q595 rfl qs7 q596 can_X4_isThe (Nat.le_trans (Nat.le_of_ble_eq_true rfl) (Nat.le_add_left 315 d)) (Nat.le_of_ble_eq_true rfl) (ch_rts hb8) (cp_kI (v := v9) (w1 := w) (fun Q' hq => s_X4_isThe hp10 hq) ?_)))
      refine cp_if_ne _ (tgt := 47) dX4_statement_29 rfl h (fun h => ?_) (fun h => ?_)
      · exact ch_FT.wk (ch_wS (ch_wS (ch_wN (ch_wN ch_w0)))) (s_X4_statement_47 hr2 hr3 h hk)
      · refine ch_aload_n 0 (some t0) dX4_statement_32 rfl (cp_gI (ci := 4) (k := 2) dX4_statement_33 fl_X4_40 rfl h (fun v11 h => ?_))
        refine ch_iconst _ 1 dX4_statement_36 rfl (cp_icmp_ne _ _ (tgt := 53) dX4_statement_37 rfl h (fun h => ?_) (fun h => ?_))
        · exact ch_FT.wk (ch_wS (ch_wS (ch_wN (ch_wN ch_w0)))) (s_X4_statement_53 hr2 hr3 h hk)
        · obtain ⟨_, hb12, h⟩ := ch_bd h
          refine ch_aload_n 0 (some t0) dX4_statement_40 rfl (ch_iv yX4_isNameBehind prog_7_method_22_code 6 (some .boolean) (ci := 4) (q := (RX4, TX4, 9)) (b := t0) (d' := 10) (av := []) (rest := []) rfl dX4_statement_41 q859 q861 rfl qs21 q862 can_X4_isNameBehind (Nat.le_trans (Nat.le_of_ble_eq_true rfl) (Nat.le_add_left 315 d)) (Nat.le_of_ble_eq_true rfl) (ch_rts hb12) (cp_tI h (fun p hp Q' hq => s_X4_isNameBehind hp hq) (fun v13 w14 h => ?_) (fun a w1 h => ?_)))
          · refine cp_if_eq _ (tgt := 53) dX4_statement_44 rfl h (fun h => ?_) (fun h => ?_)
            · exact ch_FT.wk (ch_wS (ch_wS (ch_wN (ch_wN ch_w0)))) (s_X4_statement_53 hr2 hr3 h hk)
            · exact ch_FT.wk (ch_wS (ch_wS (ch_wN (ch_wN ch_w0)))) (s_X4_statement_47 hr2 hr3 h hk)
          · subst h
            exact ch_th rfl hk

theorem bX4_conditional_0 : ch_ck cX4_conditional 0 [187, 0, 204, 89, 42, 18, 213, 182, 0, 76, 153, 0, 7, 6, 167, 0] := ch_ckof (by decide +kernel)
theorem bX4_conditional_1 : ch_ck cX4_conditional 16 [4, 7, 27, 183, 0, 231, 77, 42, 182, 0, 79, 42, 18, 171, 182, 0] := ch_ckof (by decide +kernel)
theorem bX4_conditional_2 : ch_ck cX4_conditional 32 [134, 44, 42, 182, 0, 233, 181, 0, 237, 42, 18, 173, 182, 0, 146, 44] := ch_ckof (by decide +kernel)
theorem bX4_conditional_3 : ch_ck cX4_conditional 48 [42, 182, 0, 189, 181, 1, 1, 44, 180, 0, 232, 6, 160, 0, 25, 42] := ch_ckof (by decide +kernel)
theorem bX4_conditional_4 : ch_ck cX4_conditional 64 [19, 1, 4, 182, 0, 76, 153, 0, 15, 42, 182, 0, 79, 44, 42, 182] := ch_ckof (by decide +kernel)
theorem bX4_conditional_5 : ch_ck cX4_conditional 80 [0, 189, 181, 1, 6, 44, 176] := ch_ckof (by decide +kernel)
theorem dX4_conditional_0 : decode cX4_conditional 0 = .ok (.new 204, 3) := dz_187 (bX4_conditional_0 0 _ rfl) (bX4_conditional_0 1 _ rfl) (bX4_conditional_0 2 _ rfl)
theorem dX4_conditional_3 : decode cX4_conditional 3 = .ok (.dup, 1) := dz_89 (bX4_conditional_0 3 _ rfl)
theorem dX4_conditional_4 : decode cX4_conditional 4 = .ok (.aload_n 0, 1) := dz_42 (bX4_conditional_0 4 _ rfl)
theorem dX4_conditional_5 : decode cX4_conditional 5 = .ok (.ldc 213, 2) := dz_18 (bX4_conditional_0 5 _ rfl) (bX4_conditional_0 6 _ rfl)
theorem dX4_conditional_7 : decode cX4_conditional 7 = .ok (.invokevirtual 76, 3) := dz_182 (bX4_conditional_0 7 _ rfl) (bX4_conditional_0 8 _ rfl) (bX4_conditional_0 9 _ rfl)
theorem dX4_conditional_10 : decode cX4_conditional 10 = .ok (.ifCond .eq 7, 3) := dz_153 (bX4_conditional_0 10 _ rfl) (bX4_conditional_0 11 _ rfl) (bX4_conditional_0 12 _ rfl)
theorem dX4_conditional_13 : decode cX4_conditional 13 = .ok (.iconst 3, 1) := dz_6 (bX4_conditional_0 13 _ rfl)
theorem dX4_conditional_14 : decode cX4_conditional 14 = .ok (.goto 4, 3) := dz_167 (bX4_conditional_0 14 _ rfl) (bX4_conditional_0 15 _ rfl) (bX4_conditional_1 0 _ rfl)
theorem dX4_conditional_17 : decode cX4_conditional 17 = .ok (.iconst 4, 1) := dz_7 (bX4_conditional_1 1 _ rfl)
theorem dX4_conditional_18 : decode cX4_conditional 18 = .ok (.iload_n 1, 1) := dz_27 (bX4_conditional_1 2 _ rfl)
theorem dX4_conditional_19 : decode cX4_conditional 19 = .ok (.invokespecial 231, 3) := dz_183 (bX4_conditional_1 3 _ rfl) (bX4_conditional_1 4 _ rfl) (bX4_conditional_1 5 _ rfl)
theorem dX4_conditional_22 : decode cX4_conditional 22 = .ok (.astore_n 2, 1) := dz_77 (bX4_conditional_1 6 _ rfl)
theorem dX4_conditional_23 : decode cX4_conditional 23 = .ok (.aload_n 0, 1) := dz_42 (bX4_conditional_1 7 _ rfl)
theorem dX4_conditional_24 : decode cX4_conditional 24 = .ok (.invokevirtual 79, 3) := dz_182 (bX4_conditional_1 8 _ rfl) (bX4_conditional_1 9 _ rfl) (bX4_conditional_1 10 _ rfl)
theorem dX4_conditional_27 : decode cX4_conditional 27 = .ok (.aload_n 0, 1) := dz_42 (bX4_conditional_1 11 _ rfl)
theorem dX4_conditional_28 : decode cX4_conditional 28 = .ok (.ldc 171, 2) := dz_18 (bX4_conditional_1 12 _ rfl) (bX4_conditional_1 13 _ rfl)
theorem dX4_conditional_30 : decode cX4_conditional 30 = .ok (.invokevirtual 134, 3) := dz_182 (bX4_conditional_1 14 _ rfl) (bX4_conditional_1 15 _ rfl) (bX4_conditional_2 0 _ rfl)
theorem dX4_conditional_33 : decode cX4_conditional 33 = .ok (.aload_n 2, 1) := dz_44 (bX4_conditional_2 1 _ rfl)
theorem dX4_conditional_34 : decode cX4_conditional 34 = .ok (.aload_n 0, 1) := dz_42 (bX4_conditional_2 2 _ rfl)
theorem dX4_conditional_35 : decode cX4_conditional 35 = .ok (.invokevirtual 233, 3) := dz_182 (bX4_conditional_2 3 _ rfl) (bX4_conditional_2 4 _ rfl) (bX4_conditional_2 5 _ rfl)
theorem dX4_conditional_38 : decode cX4_conditional 38 = .ok (.putfield 237, 3) := dz_181 (bX4_conditional_2 6 _ rfl) (bX4_conditional_2 7 _ rfl) (bX4_conditional_2 8 _ rfl)
theorem dX4_conditional_41 : decode cX4_conditional 41 = .ok (.aload_n 0, 1) := dz_42 (bX4_conditional_2 9 _ rfl)
theorem dX4_conditional_42 : decode cX4_conditional 42 = .ok (.ldc 173, 2) := dz_18 (bX4_conditional_2 10 _ rfl) (bX4_conditional_2 11 _ rfl)
theorem dX4_conditional_44 : decode cX4_conditional 44 = .ok (.invokevirtual 146, 3) := dz_182 (bX4_conditional_2 12 _ rfl) (bX4_conditional_2 13 _ rfl) (bX4_conditional_2 14 _ rfl)
theorem dX4_conditional_47 : decode cX4_conditional 47 = .ok (.aload_n 2, 1) := dz_44 (bX4_conditional_2 15 _ rfl)
theorem dX4_conditional_48 : decode cX4_conditional 48 = .ok (.aload_n 0, 1) := dz_42 (bX4_conditional_3 0 _ rfl)
theorem dX4_conditional_49 : decode cX4_conditional 49 = .ok (.invokevirtual 189, 3) := dz_182 (bX4_conditional_3 1 _ rfl) (bX4_conditional_3 2 _ rfl) (bX4_conditional_3 3 _ rfl)
theorem dX4_conditional_52 : decode cX4_conditional 52 = .ok (.putfield 257, 3) := dz_181 (bX4_conditional_3 4 _ rfl) (bX4_conditional_3 5 _ rfl) (bX4_conditional_3 6 _ rfl)
theorem dX4_conditional_55 : decode cX4_conditional 55 = .ok (.aload_n 2, 1) := dz_44 (bX4_conditional_3 7 _ rfl)
theorem dX4_conditional_56 : decode cX4_conditional 56 = .ok (.getfield 232, 3) := dz_180 (bX4_conditional_3 8 _ rfl) (bX4_conditional_3 9 _ rfl) (bX4_conditional_3 10 _ rfl)
theorem dX4_conditional_59 : decode cX4_conditional 59 = .ok (.iconst 3, 1) := dz_6 (bX4_conditional_3 11 _ rfl)
theorem dX4_conditional_60 : decode cX4_conditional 60 = .ok (.if_icmp .ne 25, 3) := dz_160 (bX4_conditional_3 12 _ rfl) (bX4_conditional_3 13 _ rfl) (bX4_conditional_3 14 _ rfl)
theorem dX4_conditional_63 : decode cX4_conditional 63 = .ok (.aload_n 0, 1) := dz_42 (bX4_conditional_3 15 _ rfl)
theorem dX4_conditional_64 : decode cX4_conditional 64 = .ok (.ldc_w 260, 3) := dz_19 (bX4_conditional_4 0 _ rfl) (bX4_conditional_4 1 _ rfl) (bX4_conditional_4 2 _ rfl)
theorem dX4_conditional_67 : decode cX4_conditional 67 = .ok (.invokevirtual 76, 3) := dz_182 (bX4_conditional_4 3 _ rfl) (bX4_conditional_4 4 _ rfl) (bX4_conditional_4 5 _ rfl)
theorem dX4_conditional_70 : decode cX4_conditional 70 = .ok (.ifCond .eq 15, 3) := dz_153 (bX4_conditional_4 6 _ rfl) (bX4_conditional_4 7 _ rfl) (bX4_conditional_4 8 _ rfl)
theorem dX4_conditional_73 : decode cX4_conditional 73 = .ok (.aload_n 0, 1) := dz_42 (bX4_conditional_4 9 _ rfl)
theorem dX4_conditional_74 : decode cX4_conditional 74 = .ok (.invokevirtual 79, 3) := dz_182 (bX4_conditional_4 10 _ rfl) (bX4_conditional_4 11 _ rfl) (bX4_conditional_4 12 _ rfl)
theorem dX4_conditional_77 : decode cX4_conditional 77 = .ok (.aload_n 2, 1) := dz_44 (bX4_conditional_4 13 _ rfl)
theorem dX4_conditional_78 : decode cX4_conditional 78 = .ok (.aload_n 0, 1) := dz_42 (bX4_conditional_4 14 _ rfl)
theorem dX4_conditional_79 : decode cX4_conditional 79 = .ok (.invokevirtual 189, 3) := dz_182 (bX4_conditional_4 15 _ rfl) (bX4_conditional_5 0 _ rfl) (bX4_conditional_5 1 _ rfl)
theorem dX4_conditional_82 : decode cX4_conditional 82 = .ok (.putfield 262, 3) := dz_181 (bX4_conditional_5 2 _ rfl) (bX4_conditional_5 3 _ rfl) (bX4_conditional_5 4 _ rfl)
theorem dX4_conditional_85 : decode cX4_conditional 85 = .ok (.aload_n 2, 1) := dz_44 (bX4_conditional_5 5 _ rfl)
theorem dX4_conditional_86 : decode cX4_conditional 86 = .ok (.areturn, 1) := dz_176 (bX4_conditional_5 6 _ rfl)
def c_X4_conditional_18 (rc : Nat → Nat → Int32 → ch_W → Option (Except Nat (Option Nat) × ch_W)) (g : State) (t0 : Nat) (x1 : Int32) (y0 : Int32) (y1 : Nat) (y2 : Nat) (w : ch_W) : Option (Except Nat (Option Nat) × ch_W) := (c_X9_init y1 y0 x1 w).bind fun p1 => (ch_rc p1 (some t0) 5).bind fun _ => ch_tb (c_X4_next g t0 p1) (fun a w => (.error a, w)) fun _ w5 => (ch_rc w5 (some t0) 5).bind fun _ => ch_tb (c_X4_opens g t0 (some (ch_sa g RX4 171)) w5) (fun a w => (.error a, w)) fun _ w8 => (ch_rc w8 (some t0) 5).bind fun _ => ch_tb (cr_PA g 300 0 t0 w8) (fun a w => (.error a, w)) fun v10 w11 => (ch_pR w11 (some y2) 10 fX9_value v10).bind fun w12 => (ch_rc w12 (some t0) 5).bind fun _ => ch_tb (c_X4_closes g t0 (some (ch_sa g RX4 173)) w12) (fun a w => (.error a, w)) fun _ w15 => (ch_rc w15 (some t0) 5).bind fun _ => ch_tb (rc 0 t0 0 w15) (fun a w => (.error a, w)) fun v17 w18 => (ch_pR w18 (some y2) 10 fX9_first v17).bind fun w19 => (ch_gI w19 (some y2) 10 fX9_kind).bind fun v20 => if v20 = 3 then ((ch_rc w19 (some t0) 5).bind fun _ => (c_X4_isThe g t0 (some (ch_sa g RX4 260)) w19).bind fun v22 => if v22 = 0 then (some ((.ok (some y2), w19))) else ((ch_rc w19 (some t0) 5).bind fun _ => ch_tb (c_X4_next g t0 w19) (fun a w => (.error a, w)) fun _ w26 => (ch_rc w26 (some t0) 5).bind fun _ => ch_tb (rc 0 t0 0 w26) (fun a w => (.error a, w)) fun v28 w29 => (ch_pR w29 (some y2) 10 fX9_second v28).bind fun w30 => some ((.ok (some y2), w30)))) else (some ((.ok (some y2), w19)))
theorem s_X4_conditional_18 {g : State} {d : Nat} {rc : Nat → Nat → Int32 → ch_W → Option (Except Nat (Option Nat) × ch_W)} (hr0 : ∀ {t0 : Nat} {w : ch_W} {p : Except Nat (Option Nat) × ch_W} {Q : Outcome → ch_W → Prop}, rc 0 t0 0 w = some p → ch_xR Q p → ch_CT g true yX4_block (d + 314) [.ref t0] (w) Q)  {t0 : Nat} {x1 : Int32} {y0 : Int32} {y1 : Nat} {y2 : Nat} {w : ch_W} {res : Except Nat (Option Nat) × ch_W} {Q : Outcome → ch_W → Prop} (h : c_X4_conditional_18 rc g t0 x1 y0 y1 y2 w = some res) (hk : (ch_xR Q) res) : ch_FT g true mX4_conditional (d + 315) 18 [some (va_rf (some t0)), some (.int x1), none] [.int y0, va_rf (some y1), va_rf (some y2)] (w) Q := by
  unfold c_X4_conditional_18 at h
  obtain ⟨p1, hp2, h⟩ := ch_bd h
  refine ch_iload_n 1 _ dX4_conditional_18 rfl (ch_ii yX9_init prog_10_method_1_code 3 (b := y1) (d' := 2) (av := [.int y0, .int x1]) (rest := [va_rf (some y2)]) rfl dX4_conditional_19 rfl q869 q870 q871 can_X9_init (Nat.le_trans (Nat.le_of_ble_eq_true rfl) (Nat.le_add_left 315 d)) (ch_hw (Nat.le_of_ble_eq_true rfl)) (cp_kV (w1 := p1) (fun Q' hq => s_X9_init hp2 hq) ?_))
  obtain ⟨_, hb3, h⟩ := ch_bd h
  refine ch_astore_n 2 (some y2) (ls1 := [some (va_rf (some t0)), some (.int x1), some (va_rf (some y2))]) dX4_conditional_22 (Nat.le_of_ble_eq_true rfl) rfl (ch_aload_n 0 (some t0) dX4_conditional_23 rfl (ch_iv yX4_next prog_7_method_5_code 3 none (ci := 4) (q := (RX4, TX4, 9)) (b := t0) (d' := 9) (av := []) (rest := []) rfl dX4_conditional_24 q497 q499 rfl qs2 q500 can_X4_next (Nat.le_trans (Nat.le_of_ble_eq_true rfl) (Nat.le_add_left 315 d)) (Nat.le_of_ble_eq_true rfl) (ch_rts hb3) (cp_tV h (fun p hp Q' hq => s_X4_next hp hq) (fun w5 h => ?_) (fun a w1 h => ?_))))
  · obtain ⟨_, hb6, h⟩ := ch_bd h
    refine ch_aload_n 0 (some t0) dX4_conditional_27 rfl (ch_ldcS q839 dX4_conditional_28 (ch_iv yX4_opens prog_7_method_10_code 2 none (ci := 4) (q := (RX4, TX4, 9)) (b := t0) (d' := 10) (av := [va_rf (some (ch_sa g RX4 171))]) (rest := []) rfl dX4_conditional_30 q739 q741 rfl qs14 q742 can_X4_opens (Nat.le_trans (Nat.le_of_ble_eq_true rfl) (Nat.le_add_left 315 d)) (Nat.le_of_ble_eq_true rfl) (ch_rts hb6) (cp_tV h (fun p hp Q' hq => s_X4_opens hp hq) (fun w8 h => ?_) (fun a w1 h => ?_))))
    · obtain ⟨_, hb9, h⟩ := ch_bd h
      refine ch_aload_n 2 (some y2) dX4_conditional_33 rfl (ch_aload_n 0 (some t0) dX4_conditional_34 rfl (ch_iv yX4_value prog_7_method_28_code 2 (some (.object "ClassHouse$Value")) (ci := 4) (q := (RX4, TX4, 9)) (b := t0) (d' := 312) (av := []) (rest := [va_rf (some y2)]) rfl dX4_conditional_35 q908 q910 rfl qs23 q911 can_X4_value (Nat.le_trans (Nat.le_of_ble_eq_true rfl) (Nat.le_add_left 315 d)) (ch_hw (Nat.le_of_ble_eq_true rfl)) (ch_rts hb9) (cp_tR h (fun p hp Q' hq => sr_X4_value hp hq) (fun v10 w11 h => ?_) (fun a w1 h => ?_))))
      · refine cp_pR (ci := 9) (k := 5) dX4_conditional_38 fl_X4_237 rfl rfl rfl h (fun w12 h => ?_)
        obtain ⟨_, hb13, h⟩ := ch_bd h
        refine ch_aload_n 0 (some t0) dX4_conditional_41 rfl (ch_ldcS q840 dX4_conditional_42 (ch_iv yX4_closes prog_7_method_11_code 2 none (ci := 4) (q := (RX4, TX4, 9)) (b := t0) (d' := 10) (av := [va_rf (some (ch_sa g RX4 173))]) (rest := []) rfl dX4_conditional_44 q847 q849 rfl qs18 q850 can_X4_closes (Nat.le_trans (Nat.le_of_ble_eq_true rfl) (Nat.le_add_left 315 d)) (Nat.le_of_ble_eq_true rfl) (ch_rts hb13) (cp_tV h (fun p hp Q' hq => s_X4_closes hp hq) (fun w15 h => ?_) (fun a w1 h => ?_))))
        · obtain ⟨_, hb16, h⟩ := ch_bd h
          refine ch_aload_n 2 (some y2) dX4_conditional_47 rfl (ch_aload_n 0 (some t0) dX4_conditional_48 rfl (ch_iv yX4_block prog_7_method_21_code 4 (some (.array (.object "ClassHouse$Statement"))) (ci := 4) (q := (RX4, TX4, 9)) (b := t0) (d' := (d + 314)) (av := []) (rest := [va_rf (some y2)]) rfl dX4_conditional_49 q851 q853 rfl qs19 q854 can_X4_block (Nat.le_refl _) (ch_hw (Nat.le_of_ble_eq_true rfl)) (ch_rts hb16) (cp_tR h (fun p hp Q' hq => hr0 hp hq) (fun v17 w18 h => ?_) (fun a w1 h => ?_))))
          · refine cp_pR (ci := 9) (k := 6) dX4_conditional_52 fl_X4_257 rfl rfl rfl h (fun w19 h => ?_)
            refine ch_aload_n 2 (some y2) dX4_conditional_55 rfl (cp_gI (ci := 9) (k := 0) dX4_conditional_56 fl_X4_232 rfl h (fun v20 h => ?_))
            refine ch_iconst _ 3 dX4_conditional_59 rfl (cp_icmp_ne _ _ (tgt := 85) dX4_conditional_60 rfl h (fun h => ?_) (fun h => ?_))
            · obtain rfl := Option.some.inj h
              exact ch_aload_n 2 (some y2) dX4_conditional_85 rfl (ch_areturn (some y2) dX4_conditional_86 rfl (Or.inl ⟨_, rfl⟩) hk)
            · obtain ⟨_, hb21, h⟩ := ch_bd h
              obtain ⟨v22, hp23, h⟩ := ch_bd h
              refine ch_aload_n 0 (some t0) dX4_conditional_63 rfl (ch_ldcSw q1018 dX4_conditional_64 (ch_iv yX4_isThe prog_7_method_8_code 2 (some .boolean) (ci := 4) (q := (RX4, TX4, 9)) (b := t0) (d' := 7) (av := [va_rf (some (ch_sa g RX4 260))]) (rest := []) rfl dX4_conditional_67 q593 q595 rfl qs7 q596 can_X4_isThe (Nat.le_trans (Nat.le_of_ble_eq_true rfl) (Nat.le_add_left 315 d)) (Nat.le_of_ble_eq_true rfl) (ch_rts hb21) (cp_kI (v := v22) (w1 := w19) (fun Q' hq => s_X4_isThe hp23 hq) ?_)))
              refine cp_if_eq _ (tgt := 85) dX4_conditional_70 rfl h (fun h => ?_) (fun h => ?_)
              · obtain rfl := Option.some.inj h
                exact ch_aload_n 2 (some y2) dX4_conditional_85 rfl (ch_areturn (some y2) dX4_conditional_86 rfl (Or.inl ⟨_, rfl⟩) hk)
              · obtain ⟨_, hb24, h⟩ := ch_bd h
                refine ch_aload_n 0 (some t0) dX4_conditional_73 rfl (ch_iv yX4_next prog_7_method_5_code 3 none (ci := 4) (q := (RX4, TX4, 9)) (b := t0) (d' := 9) (av := []) (rest := []) rfl dX4_conditional_74 q497 q499 rfl qs2 q500 can_X4_next (Nat.le_trans (Nat.le_of_ble_eq_true rfl) (Nat.le_add_left 315 d)) (Nat.le_of_ble_eq_true rfl) (ch_rts hb24) (cp_tV h (fun p hp Q' hq => s_X4_next hp hq) (fun w26 h => ?_) (fun a w1 h => ?_)))
                · obtain ⟨_, hb27, h⟩ := ch_bd h
                  refine ch_aload_n 2 (some y2) dX4_conditional_77 rfl (ch_aload_n 0 (some t0) dX4_conditional_78 rfl (ch_iv yX4_block prog_7_method_21_code 4 (some (.array (.object "ClassHouse$Statement"))) (ci := 4) (q := (RX4, TX4, 9)) (b := t0) (d' := (d + 314)) (av := []) (rest := [va_rf (some y2)]) rfl dX4_conditional_79 q851 q853 rfl qs19 q854 can_X4_block (Nat.le_refl _) (ch_hw (Nat.le_of_ble_eq_true rfl)) (ch_rts hb27) (cp_tR h (fun p hp Q' hq => hr0 hp hq) (fun v28 w29 h => ?_) (fun a w1 h => ?_))))
                  · refine cp_pR (ci := 9) (k := 7) dX4_conditional_82 fl_X4_262 rfl rfl rfl h (fun w30 h => ?_)
                    obtain rfl := Option.some.inj h
                    exact ch_aload_n 2 (some y2) dX4_conditional_85 rfl (ch_areturn (some y2) dX4_conditional_86 rfl (Or.inl ⟨_, rfl⟩) hk)
                  · subst h
                    exact ch_th rfl hk
                · subst h
                  exact ch_th rfl hk
          · subst h
            exact ch_th rfl hk
        · subst h
          exact ch_th rfl hk
      · subst h
        exact ch_th rfl hk
    · subst h
      exact ch_th rfl hk
  · subst h
    exact ch_th rfl hk

def c_X4_conditional (rc : Nat → Nat → Int32 → ch_W → Option (Except Nat (Option Nat) × ch_W)) (g : State) (t0 : Nat) (x1 : Int32) (w : ch_W) : Option (Except Nat (Option Nat) × ch_W) := (ch_nO w 10 8).bind fun w1 => (ch_rc w1 (some t0) 5).bind fun _ => (c_X4_isThe g t0 (some (ch_sa g RX4 213)) w1).bind fun v3 => if v3 = 0 then (c_X4_conditional_18 rc g t0 x1 4 (ch_nx w) (ch_nx w) w1) else (c_X4_conditional_18 rc g t0 x1 3 (ch_nx w) (ch_nx w) w1)
theorem s_X4_conditional {g : State} {d : Nat} {rc : Nat → Nat → Int32 → ch_W → Option (Except Nat (Option Nat) × ch_W)} (hr0 : ∀ {t0 : Nat} {w : ch_W} {p : Except Nat (Option Nat) × ch_W} {Q : Outcome → ch_W → Prop}, rc 0 t0 0 w = some p → ch_xR Q p → ch_CT g true yX4_block (d + 314) [.ref t0] (w) Q)  {t0 : Nat} {x1 : Int32} {w : ch_W} {res : Except Nat (Option Nat) × ch_W} {Q : Outcome → ch_W → Prop} (h : c_X4_conditional rc g t0 x1 w = some res) (hk : (ch_xR Q) res) : ch_CT g true yX4_conditional (d + 315) [.ref t0, .int x1] (w) Q := by
  unfold c_X4_conditional at h
  refine ch_ctL mX4_conditional (ls := [some (va_rf (some t0)), some (.int x1), none]) q1017 rfl (ch_lyr (r := some t0) (ch_lyi ch_ly0)) (Nat.le_of_ble_eq_true rfl) rfl ?_
  refine cp_new (ci := 9) (n := 8) (q := (RX9, TX9, 8)) dX4_conditional_0 rfl q867 q868 q224 h (fun w1 h => ?_)
  obtain ⟨_, hb2, h⟩ := ch_bd h
  obtain ⟨v3, hp4, h⟩ := ch_bd h
  refine ch_dup dX4_conditional_3 (ch_cat _) (ch_aload_n 0 (some t0) dX4_conditional_4 rfl (ch_ldcS q1012 dX4_conditional_5 (ch_iv yX4_isThe prog_7_method_8_code 2 (some .boolean) (ci := 4) (q := (RX4, TX4, 9)) (b := t0) (d' := 7) (av := [va_rf (some (ch_sa g RX4 213))]) (rest := [va_rf (some (ch_nx w)), va_rf (some (ch_nx w))]) rfl dX4_conditional_7 q593 q595 rfl qs7 q596 can_X4_isThe (Nat.le_trans (Nat.le_of_ble_eq_true rfl) (Nat.le_add_left 315 d)) (ch_hw (Nat.le_of_ble_eq_true rfl)) (ch_rts hb2) (cp_kI (v := v3) (w1 := w1) (fun Q' hq => s_X4_isThe hp4 hq) ?_))))
  refine cp_if_eq _ (tgt := 17) dX4_conditional_10 rfl h (fun h => ?_) (fun h => ?_)
  · exact ch_iconst _ 4 dX4_conditional_17 rfl (ch_FT.wk (ch_wS (ch_wS (ch_wN ch_w0))) (s_X4_conditional_18 hr0 h hk))
  · exact ch_iconst _ 3 dX4_conditional_13 rfl (ch_goto 18 dX4_conditional_14 rfl (ch_FT.wk (ch_wS (ch_wS (ch_wN ch_w0))) (s_X4_conditional_18 hr0 h hk)))

