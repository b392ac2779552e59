/-! printed by tools/dec.py -/
set_option maxRecDepth 100000
theorem bX11_declare_0 : ch_ck cX11_declare 0 [42, 180, 0, 21, 27, 182, 0, 197, 42, 180, 0, 25, 28, 182, 0, 197] := ch_ckof (by decide +kernel)
theorem bX11_declare_1 : ch_ck cX11_declare 16 [42, 180, 0, 21, 180, 0, 173, 42, 180, 0, 28, 190, 164, 0, 36, 5] := ch_ckof (by decide +kernel)
theorem bX11_declare_2 : ch_ck cX11_declare 32 [42, 180, 0, 28, 190, 104, 188, 4, 58, 4, 42, 180, 0, 28, 3, 25] := ch_ckof (by decide +kernel)
theorem bX11_declare_3 : ch_ck cX11_declare 48 [4, 3, 42, 180, 0, 28, 190, 184, 0, 222, 42, 25, 4, 181, 0, 28] := ch_ckof (by decide +kernel)
theorem bX11_declare_4 : ch_ck cX11_declare 64 [42, 180, 0, 28, 42, 180, 0, 21, 180, 0, 173, 4, 100, 29, 84, 42] := ch_ckof (by decide +kernel)
theorem bX11_declare_5 : ch_ck cX11_declare 80 [180, 0, 201, 42, 180, 0, 201, 180, 0, 228, 42, 180, 0, 21, 180, 0] := ch_ckof (by decide +kernel)
theorem bX11_declare_6 : ch_ck cX11_declare 96 [173, 184, 0, 231, 181, 0, 228, 177] := ch_ckof (by decide +kernel)
theorem dX11_declare_0 : decode cX11_declare 0 = .ok (.aload_n 0, 1) := dz_42 (bX11_declare_0 0 _ rfl)
theorem dX11_declare_1 : decode cX11_declare 1 = .ok (.getfield 21, 3) := dz_180 (bX11_declare_0 1 _ rfl) (bX11_declare_0 2 _ rfl) (bX11_declare_0 3 _ rfl)
theorem dX11_declare_4 : decode cX11_declare 4 = .ok (.iload_n 1, 1) := dz_27 (bX11_declare_0 4 _ rfl)
theorem dX11_declare_5 : decode cX11_declare 5 = .ok (.invokevirtual 197, 3) := dz_182 (bX11_declare_0 5 _ rfl) (bX11_declare_0 6 _ rfl) (bX11_declare_0 7 _ rfl)
theorem dX11_declare_8 : decode cX11_declare 8 = .ok (.aload_n 0, 1) := dz_42 (bX11_declare_0 8 _ rfl)
theorem dX11_declare_9 : decode cX11_declare 9 = .ok (.getfield 25, 3) := dz_180 (bX11_declare_0 9 _ rfl) (bX11_declare_0 10 _ rfl) (bX11_declare_0 11 _ rfl)
theorem dX11_declare_12 : decode cX11_declare 12 = .ok (.iload_n 2, 1) := dz_28 (bX11_declare_0 12 _ rfl)
theorem dX11_declare_13 : decode cX11_declare 13 = .ok (.invokevirtual 197, 3) := dz_182 (bX11_declare_0 13 _ rfl) (bX11_declare_0 14 _ rfl) (bX11_declare_0 15 _ rfl)
theorem dX11_declare_16 : decode cX11_declare 16 = .ok (.aload_n 0, 1) := dz_42 (bX11_declare_1 0 _ rfl)
theorem dX11_declare_17 : decode cX11_declare 17 = .ok (.getfield 21, 3) := dz_180 (bX11_declare_1 1 _ rfl) (bX11_declare_1 2 _ rfl) (bX11_declare_1 3 _ rfl)
theorem dX11_declare_20 : decode cX11_declare 20 = .ok (.getfield 173, 3) := dz_180 (bX11_declare_1 4 _ rfl) (bX11_declare_1 5 _ rfl) (bX11_declare_1 6 _ rfl)
theorem dX11_declare_23 : decode cX11_declare 23 = .ok (.aload_n 0, 1) := dz_42 (bX11_declare_1 7 _ rfl)
theorem dX11_declare_24 : decode cX11_declare 24 = .ok (.getfield 28, 3) := dz_180 (bX11_declare_1 8 _ rfl) (bX11_declare_1 9 _ rfl) (bX11_declare_1 10 _ rfl)
theorem dX11_declare_27 : decode cX11_declare 27 = .ok (.arraylength, 1) := dz_190 (bX11_declare_1 11 _ rfl)
theorem dX11_declare_28 : decode cX11_declare 28 = .ok (.if_icmp .le 36, 3) := dz_164 (bX11_declare_1 12 _ rfl) (bX11_declare_1 13 _ rfl) (bX11_declare_1 14 _ rfl)
theorem dX11_declare_31 : decode cX11_declare 31 = .ok (.iconst 2, 1) := dz_5 (bX11_declare_1 15 _ rfl)
theorem dX11_declare_32 : decode cX11_declare 32 = .ok (.aload_n 0, 1) := dz_42 (bX11_declare_2 0 _ rfl)
theorem dX11_declare_33 : decode cX11_declare 33 = .ok (.getfield 28, 3) := dz_180 (bX11_declare_2 1 _ rfl) (bX11_declare_2 2 _ rfl) (bX11_declare_2 3 _ rfl)
theorem dX11_declare_36 : decode cX11_declare 36 = .ok (.arraylength, 1) := dz_190 (bX11_declare_2 4 _ rfl)
theorem dX11_declare_37 : decode cX11_declare 37 = .ok (.imul, 1) := dz_104 (bX11_declare_2 5 _ rfl)
theorem dX11_declare_38 : decode cX11_declare 38 = .ok (.newarray .boolean, 2) := dz_188_4 (bX11_declare_2 6 _ rfl) (bX11_declare_2 7 _ rfl)
theorem dX11_declare_40 : decode cX11_declare 40 = .ok (.astore 4, 2) := dz_58 (bX11_declare_2 8 _ rfl) (bX11_declare_2 9 _ rfl)
theorem dX11_declare_42 : decode cX11_declare 42 = .ok (.aload_n 0, 1) := dz_42 (bX11_declare_2 10 _ rfl)
theorem dX11_declare_43 : decode cX11_declare 43 = .ok (.getfield 28, 3) := dz_180 (bX11_declare_2 11 _ rfl) (bX11_declare_2 12 _ rfl) (bX11_declare_2 13 _ rfl)
theorem dX11_declare_46 : decode cX11_declare 46 = .ok (.iconst 0, 1) := dz_3 (bX11_declare_2 14 _ rfl)
theorem dX11_declare_47 : decode cX11_declare 47 = .ok (.aload 4, 2) := dz_25 (bX11_declare_2 15 _ rfl) (bX11_declare_3 0 _ rfl)
theorem dX11_declare_49 : decode cX11_declare 49 = .ok (.iconst 0, 1) := dz_3 (bX11_declare_3 1 _ rfl)
theorem dX11_declare_50 : decode cX11_declare 50 = .ok (.aload_n 0, 1) := dz_42 (bX11_declare_3 2 _ rfl)
theorem dX11_declare_51 : decode cX11_declare 51 = .ok (.getfield 28, 3) := dz_180 (bX11_declare_3 3 _ rfl) (bX11_declare_3 4 _ rfl) (bX11_declare_3 5 _ rfl)
theorem dX11_declare_54 : decode cX11_declare 54 = .ok (.arraylength, 1) := dz_190 (bX11_declare_3 6 _ rfl)
theorem dX11_declare_55 : decode cX11_declare 55 = .ok (.invokestatic 222, 3) := dz_184 (bX11_declare_3 7 _ rfl) (bX11_declare_3 8 _ rfl) (bX11_declare_3 9 _ rfl)
theorem dX11_declare_58 : decode cX11_declare 58 = .ok (.aload_n 0, 1) := dz_42 (bX11_declare_3 10 _ rfl)
theorem dX11_declare_59 : decode cX11_declare 59 = .ok (.aload 4, 2) := dz_25 (bX11_declare_3 11 _ rfl) (bX11_declare_3 12 _ rfl)
theorem dX11_declare_61 : decode cX11_declare 61 = .ok (.putfield 28, 3) := dz_181 (bX11_declare_3 13 _ rfl) (bX11_declare_3 14 _ rfl) (bX11_declare_3 15 _ rfl)
theorem dX11_declare_64 : decode cX11_declare 64 = .ok (.aload_n 0, 1) := dz_42 (bX11_declare_4 0 _ rfl)
theorem dX11_declare_65 : decode cX11_declare 65 = .ok (.getfield 28, 3) := dz_180 (bX11_declare_4 1 _ rfl) (bX11_declare_4 2 _ rfl) (bX11_declare_4 3 _ rfl)
theorem dX11_declare_68 : decode cX11_declare 68 = .ok (.aload_n 0, 1) := dz_42 (bX11_declare_4 4 _ rfl)
theorem dX11_declare_69 : decode cX11_declare 69 = .ok (.getfield 21, 3) := dz_180 (bX11_declare_4 5 _ rfl) (bX11_declare_4 6 _ rfl) (bX11_declare_4 7 _ rfl)
theorem dX11_declare_72 : decode cX11_declare 72 = .ok (.getfield 173, 3) := dz_180 (bX11_declare_4 8 _ rfl) (bX11_declare_4 9 _ rfl) (bX11_declare_4 10 _ rfl)
theorem dX11_declare_75 : decode cX11_declare 75 = .ok (.iconst 1, 1) := dz_4 (bX11_declare_4 11 _ rfl)
theorem dX11_declare_76 : decode cX11_declare 76 = .ok (.isub, 1) := dz_100 (bX11_declare_4 12 _ rfl)
theorem dX11_declare_77 : decode cX11_declare 77 = .ok (.iload_n 3, 1) := dz_29 (bX11_declare_4 13 _ rfl)
theorem dX11_declare_78 : decode cX11_declare 78 = .ok (.bastore, 1) := dz_84 (bX11_declare_4 14 _ rfl)
theorem dX11_declare_79 : decode cX11_declare 79 = .ok (.aload_n 0, 1) := dz_42 (bX11_declare_4 15 _ rfl)
theorem dX11_declare_80 : decode cX11_declare 80 = .ok (.getfield 201, 3) := dz_180 (bX11_declare_5 0 _ rfl) (bX11_declare_5 1 _ rfl) (bX11_declare_5 2 _ rfl)
theorem dX11_declare_83 : decode cX11_declare 83 = .ok (.aload_n 0, 1) := dz_42 (bX11_declare_5 3 _ rfl)
theorem dX11_declare_84 : decode cX11_declare 84 = .ok (.getfield 201, 3) := dz_180 (bX11_declare_5 4 _ rfl) (bX11_declare_5 5 _ rfl) (bX11_declare_5 6 _ rfl)
theorem dX11_declare_87 : decode cX11_declare 87 = .ok (.getfield 228, 3) := dz_180 (bX11_declare_5 7 _ rfl) (bX11_declare_5 8 _ rfl) (bX11_declare_5 9 _ rfl)
theorem dX11_declare_90 : decode cX11_declare 90 = .ok (.aload_n 0, 1) := dz_42 (bX11_declare_5 10 _ rfl)
theorem dX11_declare_91 : decode cX11_declare 91 = .ok (.getfield 21, 3) := dz_180 (bX11_declare_5 11 _ rfl) (bX11_declare_5 12 _ rfl) (bX11_declare_5 13 _ rfl)
theorem dX11_declare_94 : decode cX11_declare 94 = .ok (.getfield 173, 3) := dz_180 (bX11_declare_5 14 _ rfl) (bX11_declare_5 15 _ rfl) (bX11_declare_6 0 _ rfl)
theorem dX11_declare_97 : decode cX11_declare 97 = .ok (.invokestatic 231, 3) := dz_184 (bX11_declare_6 1 _ rfl) (bX11_declare_6 2 _ rfl) (bX11_declare_6 3 _ rfl)
theorem dX11_declare_100 : decode cX11_declare 100 = .ok (.putfield 228, 3) := dz_181 (bX11_declare_6 4 _ rfl) (bX11_declare_6 5 _ rfl) (bX11_declare_6 6 _ rfl)
theorem dX11_declare_103 : decode cX11_declare 103 = .ok (.return_, 1) := dz_177 (bX11_declare_6 7 _ rfl)
def c_X11_declare_64 (t0 : Nat) (x3 : Int32)  (w : ch_W) : Option (ch_W) := (ch_gR w (some t0) 12 fX11_set).bind fun v1 => (ch_gR w (some t0) 12 fX11_names).bind fun v2 => (ch_gI w v2 9 fX8_size).bind fun v3 => (ch_bit x3).bind fun _ => (ch_wI w v1 23 (v3 - 1) x3).bind fun w4 => (ch_gR w4 (some t0) 12 fX11_method).bind fun v5 => (ch_gR w4 (some t0) 12 fX11_method).bind fun v6 => (ch_gI w4 v6 8 fX7_slots).bind fun v7 => (ch_gR w4 (some t0) 12 fX11_names).bind fun v8 => (ch_gI w4 v8 9 fX8_size).bind fun v9 => (c_J12_max v7 v9 ).bind fun v10 => (ch_pI w4 v5 8 fX7_slots v10).bind fun w12 => some (w12)
theorem s_X11_declare_64 {g : State} {t0 : Nat} {x3 : Int32} {w : ch_W} {res : ch_W} {Q : Outcome → ch_W → Prop} (h : c_X11_declare_64 t0 x3 w = some res) (hk : (ch_eV Q) res) : ch_FT g true mX11_declare 3 64 [some (va_rf (some t0)), none, none, some (.int x3), none] [] (w) Q := by
  unfold c_X11_declare_64 at h
  refine ch_aload_n 0 (some t0) dX11_declare_64 rfl (cp_gR (ci := 11) (k := 9) dX11_declare_65 fl_X11_28 rfl h (fun v1 h => ?_))
  refine ch_aload_n 0 (some t0) dX11_declare_68 rfl (cp_gR (ci := 11) (k := 7) dX11_declare_69 fl_X11_21 rfl h (fun v2 h => ?_))
  refine cp_gI (ci := 8) (k := 1) dX11_declare_72 fl_X11_173 rfl h (fun v3 h => ?_)
  refine ch_iconst _ 1 dX11_declare_75 rfl (ch_isub _ _ dX11_declare_76 (ch_iload_n 3 _ dX11_declare_77 rfl (cp_zast (t := 23) dX11_declare_78 rfl (Nat.le_of_ble_eq_true rfl) rfl h (fun w4 h => ?_))))
  refine ch_aload_n 0 (some t0) dX11_declare_79 rfl (cp_gR (ci := 11) (k := 4) dX11_declare_80 fl_X11_201 rfl h (fun v5 h => ?_))
  refine ch_aload_n 0 (some t0) dX11_declare_83 rfl (cp_gR (ci := 11) (k := 4) dX11_declare_84 fl_X11_201 rfl h (fun v6 h => ?_))
  refine cp_gI (ci := 7) (k := 9) dX11_declare_87 fl_X11_228 rfl h (fun v7 h => ?_)
  refine ch_aload_n 0 (some t0) dX11_declare_90 rfl (cp_gR (ci := 11) (k := 7) dX11_declare_91 fl_X11_21 rfl h (fun v8 h => ?_))
  refine cp_gI (ci := 8) (k := 1) dX11_declare_94 fl_X11_173 rfl h (fun v9 h => ?_)
  obtain ⟨v10, hp11, h⟩ := ch_bd h
  refine ch_is yJ12_max prog_21_method_65_code 2 (some .int) (d' := 2) (av := [.int v7, .int v9]) (rest := [va_rf v5]) rfl dX11_declare_97 q1184 q650 q220 q651 can_J12_max (Nat.le_of_ble_eq_true rfl) (ch_hw (Nat.le_of_ble_eq_true rfl)) (cp_kI (v := v10) (w1 := w4) (fun Q' hq => s_J12_max hp11 hq) ?_)
  refine cp_pI (ci := 7) (k := 9) dX11_declare_100 fl_X11_228 rfl rfl rfl h (fun w12 h => ?_)
  obtain rfl := Option.some.inj h
  exact ch_return dX11_declare_103 rfl hk

def c_X11_declare (t0 : Nat) (x1 : Int32) (x2 : Int32) (x3 : Int32) (w : ch_W) : Option (ch_W) := (ch_gR w (some t0) 12 fX11_names).bind fun v1 => (ch_rc w v1 9).bind fun b3 => (c_X8_add b3 x1 w).bind fun p4 => (ch_gR p4 (some t0) 12 fX11_types).bind fun v6 => (ch_rc p4 v6 9).bind fun b8 => (c_X8_add b8 x2 p4).bind fun p9 => (ch_gR p9 (some t0) 12 fX11_names).bind fun v11 => (ch_gI p9 v11 9 fX8_size).bind fun v12 => (ch_gR p9 (some t0) 12 fX11_set).bind fun v13 => (ch_le p9 v13 23).bind fun v14 => if v14 < v12 then ((ch_gR p9 (some t0) 12 fX11_set).bind fun v15 => (ch_le p9 v15 23).bind fun v16 => (ch_nA p9 23 (2 * v16)).bind fun w17 => (ch_gR w17 (some t0) 12 fX11_set).bind fun v18 => (ch_gR w17 (some t0) 12 fX11_set).bind fun v19 => (ch_le w17 v19 23).bind fun v20 => (ch_cp w17 23 v18 0 (some (ch_nx p9)) 0 v20).bind fun w21 => (ch_pR w21 (some t0) 12 fX11_set (some (ch_nx p9))).bind fun w22 => c_X11_declare_64 t0 x3 w22) else (c_X11_declare_64 t0 x3 p9)
theorem s_X11_declare {g : State} {t0 : Nat} {x1 : Int32} {x2 : Int32} {x3 : Int32} {w : ch_W} {res : ch_W} {Q : Outcome → ch_W → Prop} (h : c_X11_declare t0 x1 x2 x3 w = some res) (hk : (ch_eV Q) res) : ch_CT g true yX11_declare 3 [.ref t0, .int x1, .int x2, .int x3] (w) Q := by
  unfold c_X11_declare at h
  refine ch_ctL mX11_declare (ls := [some (va_rf (some t0)), some (.int x1), some (.int x2), some (.int x3), none]) q1181 rfl (ch_lyr (r := some t0) (ch_lyi (ch_lyi (ch_lyi ch_ly0)))) (Nat.le_of_ble_eq_true rfl) rfl ?_
  refine ch_aload_n 0 (some t0) dX11_declare_0 rfl (cp_gR (ci := 11) (k := 7) dX11_declare_1 fl_X11_21 rfl h (fun v1 h => ?_))
  obtain ⟨b3, hb2, h⟩ := ch_bd h
  obtain ⟨p4, hp5, h⟩ := ch_bd h
  refine ch_iload_n 1 _ dX11_declare_4 rfl (ch_iv yX8_add prog_9_method_2_code 3 none (ci := 8) (q := (RX8, TX8, 2)) (b := b3) (d' := 2) (av := [.int x1]) (rest := []) (by rw [ch_rs hb2]; rfl) dX11_declare_5 q1182 q843 rfl q844 q845 can_X8_add (Nat.le_of_ble_eq_true rfl) (Nat.le_of_ble_eq_true rfl) (ch_rtg hb2) (cp_kV (w1 := p4) (fun Q' hq => s_X8_add hp5 hq) ?_))
  refine ch_aload_n 0 (some t0) dX11_declare_8 rfl (cp_gR (ci := 11) (k := 8) dX11_declare_9 fl_X11_25 rfl h (fun v6 h => ?_))
  obtain ⟨b8, hb7, h⟩ := ch_bd h
  obtain ⟨p9, hp10, h⟩ := ch_bd h
  refine ch_iload_n 2 _ dX11_declare_12 rfl (ch_iv yX8_add prog_9_method_2_code 3 none (ci := 8) (q := (RX8, TX8, 2)) (b := b8) (d' := 2) (av := [.int x2]) (rest := []) (by rw [ch_rs hb7]; rfl) dX11_declare_13 q1182 q843 rfl q844 q845 can_X8_add (Nat.le_of_ble_eq_true rfl) (Nat.le_of_ble_eq_true rfl) (ch_rtg hb7) (cp_kV (w1 := p9) (fun Q' hq => s_X8_add hp10 hq) ?_))
  refine ch_aload_n 0 (some t0) dX11_declare_16 rfl (cp_gR (ci := 11) (k := 7) dX11_declare_17 fl_X11_21 rfl h (fun v11 h => ?_))
  refine cp_gI (ci := 8) (k := 1) dX11_declare_20 fl_X11_173 rfl h (fun v12 h => ?_)
  refine ch_aload_n 0 (some t0) dX11_declare_23 rfl (cp_gR (ci := 11) (k := 9) dX11_declare_24 fl_X11_28 rfl h (fun v13 h => ?_))
  refine cp_alen (t := 23) dX11_declare_27 rfl rfl h (fun v14 h => ?_)
  refine cp_icmp_le _ _ (tgt := 64) dX11_declare_28 rfl h (fun h => ?_) (fun h => ?_)
  · exact ch_FT.wk (ch_wS (ch_wN (ch_wN (ch_wS (ch_wN ch_w0))))) (s_X11_declare_64  h hk)
  · refine ch_iconst _ 2 dX11_declare_31 rfl (ch_aload_n 0 (some t0) dX11_declare_32 rfl (cp_gR (ci := 11) (k := 9) dX11_declare_33 fl_X11_28 rfl h (fun v15 h => ?_)))
    refine cp_alen (t := 23) dX11_declare_36 rfl rfl h (fun v16 h => ?_)
    refine ch_imul _ _ dX11_declare_37 (cp_newA (t := 23) (ty := .boolean) dX11_declare_38 rfl rfl (Nat.le_of_ble_eq_true rfl) rfl (Nat.le_of_ble_eq_true rfl) q1110 h (fun w17 h => ?_))
    refine ch_astore 4 (some (ch_nx p9)) (ls1 := [some (va_rf (some t0)), some (.int x1), some (.int x2), some (.int x3), some (va_rf (some (ch_nx p9)))]) dX11_declare_40 (Nat.le_of_ble_eq_true rfl) rfl (ch_aload_n 0 (some t0) dX11_declare_42 rfl (cp_gR (ci := 11) (k := 9) dX11_declare_43 fl_X11_28 rfl h (fun v18 h => ?_)))
    refine ch_iconst _ 0 dX11_declare_46 rfl (ch_aload 4 (some (ch_nx p9)) dX11_declare_47 rfl (ch_iconst _ 0 dX11_declare_49 rfl (ch_aload_n 0 (some t0) dX11_declare_50 rfl (cp_gR (ci := 11) (k := 9) dX11_declare_51 fl_X11_28 rfl h (fun v19 h => ?_)))))
    refine cp_alen (t := 23) dX11_declare_54 rfl rfl h (fun v20 h => ?_)
    refine cp_copy (t := 23) dX11_declare_55 rfl (Nat.le_of_ble_eq_true rfl) ft_23 rfl rfl q1183 (Nat.le_of_ble_eq_true rfl) (Nat.le_of_ble_eq_true rfl) h (fun w21 h => ?_)
    refine ch_aload_n 0 (some t0) dX11_declare_58 rfl (ch_aload 4 (some (ch_nx p9)) dX11_declare_59 rfl (cp_pR (ci := 11) (k := 9) dX11_declare_61 fl_X11_28 rfl rfl rfl h (fun w22 h => ?_)))
    exact ch_FT.wk (ch_wS (ch_wN (ch_wN (ch_wS (ch_wN ch_w0))))) (s_X11_declare_64  h hk)

theorem bX11_add_0 : ch_ck cX11_add 0 [42, 180, 0, 194, 27, 182, 0, 197, 42, 180, 0, 194, 28, 182, 0, 197] := ch_ckof (by decide +kernel)
theorem bX11_add_1 : ch_ck cX11_add 16 [177] := ch_ckof (by decide +kernel)
theorem dX11_add_0 : decode cX11_add 0 = .ok (.aload_n 0, 1) := dz_42 (bX11_add_0 0 _ rfl)
theorem dX11_add_1 : decode cX11_add 1 = .ok (.getfield 194, 3) := dz_180 (bX11_add_0 1 _ rfl) (bX11_add_0 2 _ rfl) (bX11_add_0 3 _ rfl)
theorem dX11_add_4 : decode cX11_add 4 = .ok (.iload_n 1, 1) := dz_27 (bX11_add_0 4 _ rfl)
theorem dX11_add_5 : decode cX11_add 5 = .ok (.invokevirtual 197, 3) := dz_182 (bX11_add_0 5 _ rfl) (bX11_add_0 6 _ rfl) (bX11_add_0 7 _ rfl)
theorem dX11_add_8 : decode cX11_add 8 = .ok (.aload_n 0, 1) := dz_42 (bX11_add_0 8 _ rfl)
theorem dX11_add_9 : decode cX11_add 9 = .ok (.getfield 194, 3) := dz_180 (bX11_add_0 9 _ rfl) (bX11_add_0 10 _ rfl) (bX11_add_0 11 _ rfl)
theorem dX11_add_12 : decode cX11_add 12 = .ok (.iload_n 2, 1) := dz_28 (bX11_add_0 12 _ rfl)
theorem dX11_add_13 : decode cX11_add 13 = .ok (.invokevirtual 197, 3) := dz_182 (bX11_add_0 13 _ rfl) (bX11_add_0 14 _ rfl) (bX11_add_0 15 _ rfl)
theorem dX11_add_16 : decode cX11_add 16 = .ok (.return_, 1) := dz_177 (bX11_add_1 0 _ rfl)
def c_X11_add (t0 : Nat) (x1 : Int32) (x2 : Int32) (w : ch_W) : Option (ch_W) := (ch_gR w (some t0) 12 fX11_code).bind fun v1 => (ch_rc w v1 9).bind fun b3 => (c_X8_add b3 x1 w).bind fun p4 => (ch_gR p4 (some t0) 12 fX11_code).bind fun v6 => (ch_rc p4 v6 9).bind fun b8 => (c_X8_add b8 x2 p4).bind fun p9 => some (p9)
theorem s_X11_add {g : State} {t0 : Nat} {x1 : Int32} {x2 : Int32} {w : ch_W} {res : ch_W} {Q : Outcome → ch_W → Prop} (h : c_X11_add t0 x1 x2 w = some res) (hk : (ch_eV Q) res) : ch_CT g true yX11_add 3 [.ref t0, .int x1, .int x2] (w) Q := by
  unfold c_X11_add at h
  refine ch_ctL mX11_add (ls := [some (va_rf (some t0)), some (.int x1), some (.int x2)]) q1217 rfl (ch_lyr (r := some t0) (ch_lyi (ch_lyi ch_ly0))) (Nat.le_of_ble_eq_true rfl) rfl ?_
  refine ch_aload_n 0 (some t0) dX11_add_0 rfl (cp_gR (ci := 11) (k := 5) dX11_add_1 fl_X11_194 rfl h (fun v1 h => ?_))
  obtain ⟨b3, hb2, h⟩ := ch_bd h
  obtain ⟨p4, hp5, h⟩ := ch_bd h
  refine ch_iload_n 1 _ dX11_add_4 rfl (ch_iv yX8_add prog_9_method_2_code 3 none (ci := 8) (q := (RX8, TX8, 2)) (b := b3) (d' := 2) (av := [.int x1]) (rest := []) (by rw [ch_rs hb2]; rfl) dX11_add_5 q1182 q843 rfl q844 q845 can_X8_add (Nat.le_of_ble_eq_true rfl) (Nat.le_of_ble_eq_true rfl) (ch_rtg hb2) (cp_kV (w1 := p4) (fun Q' hq => s_X8_add hp5 hq) ?_))
  refine ch_aload_n 0 (some t0) dX11_add_8 rfl (cp_gR (ci := 11) (k := 5) dX11_add_9 fl_X11_194 rfl h (fun v6 h => ?_))
  obtain ⟨b8, hb7, h⟩ := ch_bd h
  obtain ⟨p9, hp10, h⟩ := ch_bd h
  refine ch_iload_n 2 _ dX11_add_12 rfl (ch_iv yX8_add prog_9_method_2_code 3 none (ci := 8) (q := (RX8, TX8, 2)) (b := b8) (d' := 2) (av := [.int x2]) (rest := []) (by rw [ch_rs hb7]; rfl) dX11_add_13 q1182 q843 rfl q844 q845 can_X8_add (Nat.le_of_ble_eq_true rfl) (Nat.le_of_ble_eq_true rfl) (ch_rtg hb7) (cp_kV (w1 := p9) (fun Q' hq => s_X8_add hp10 hq) ?_))
  obtain rfl := Option.some.inj h
  exact ch_return dX11_add_16 rfl hk

theorem bX11_drop_0 : ch_ck cX11_drop 0 [42, 180, 0, 21, 180, 0, 173, 27, 164, 0, 44, 42, 16, 29, 27, 4] := ch_ckof (by decide +kernel)
theorem bX11_drop_1 : ch_ck cX11_drop 16 [96, 182, 0, 247, 42, 180, 0, 194, 42, 180, 0, 21, 180, 0, 173, 4] := ch_ckof (by decide +kernel)
theorem bX11_drop_2 : ch_ck cX11_drop 32 [96, 182, 0, 197, 42, 180, 0, 21, 27, 181, 0, 173, 42, 180, 0, 25] := ch_ckof (by decide +kernel)
theorem bX11_drop_3 : ch_ck cX11_drop 48 [27, 181, 0, 173, 177] := ch_ckof (by decide +kernel)
theorem dX11_drop_0 : decode cX11_drop 0 = .ok (.aload_n 0, 1) := dz_42 (bX11_drop_0 0 _ rfl)
theorem dX11_drop_1 : decode cX11_drop 1 = .ok (.getfield 21, 3) := dz_180 (bX11_drop_0 1 _ rfl) (bX11_drop_0 2 _ rfl) (bX11_drop_0 3 _ rfl)
theorem dX11_drop_4 : decode cX11_drop 4 = .ok (.getfield 173, 3) := dz_180 (bX11_drop_0 4 _ rfl) (bX11_drop_0 5 _ rfl) (bX11_drop_0 6 _ rfl)
theorem dX11_drop_7 : decode cX11_drop 7 = .ok (.iload_n 1, 1) := dz_27 (bX11_drop_0 7 _ rfl)
theorem dX11_drop_8 : decode cX11_drop 8 = .ok (.if_icmp .le 44, 3) := dz_164 (bX11_drop_0 8 _ rfl) (bX11_drop_0 9 _ rfl) (bX11_drop_0 10 _ rfl)
theorem dX11_drop_11 : decode cX11_drop 11 = .ok (.aload_n 0, 1) := dz_42 (bX11_drop_0 11 _ rfl)
theorem dX11_drop_12 : decode cX11_drop 12 = .ok (.bipush 29, 2) := dz_16 (bX11_drop_0 12 _ rfl) (bX11_drop_0 13 _ rfl)
theorem dX11_drop_14 : decode cX11_drop 14 = .ok (.iload_n 1, 1) := dz_27 (bX11_drop_0 14 _ rfl)
theorem dX11_drop_15 : decode cX11_drop 15 = .ok (.iconst 1, 1) := dz_4 (bX11_drop_0 15 _ rfl)
theorem dX11_drop_16 : decode cX11_drop 16 = .ok (.iadd, 1) := dz_96 (bX11_drop_1 0 _ rfl)
theorem dX11_drop_17 : decode cX11_drop 17 = .ok (.invokevirtual 247, 3) := dz_182 (bX11_drop_1 1 _ rfl) (bX11_drop_1 2 _ rfl) (bX11_drop_1 3 _ rfl)
theorem dX11_drop_20 : decode cX11_drop 20 = .ok (.aload_n 0, 1) := dz_42 (bX11_drop_1 4 _ rfl)
theorem dX11_drop_21 : decode cX11_drop 21 = .ok (.getfield 194, 3) := dz_180 (bX11_drop_1 5 _ rfl) (bX11_drop_1 6 _ rfl) (bX11_drop_1 7 _ rfl)
theorem dX11_drop_24 : decode cX11_drop 24 = .ok (.aload_n 0, 1) := dz_42 (bX11_drop_1 8 _ rfl)
theorem dX11_drop_25 : decode cX11_drop 25 = .ok (.getfield 21, 3) := dz_180 (bX11_drop_1 9 _ rfl) (bX11_drop_1 10 _ rfl) (bX11_drop_1 11 _ rfl)
theorem dX11_drop_28 : decode cX11_drop 28 = .ok (.getfield 173, 3) := dz_180 (bX11_drop_1 12 _ rfl) (bX11_drop_1 13 _ rfl) (bX11_drop_1 14 _ rfl)
theorem dX11_drop_31 : decode cX11_drop 31 = .ok (.iconst 1, 1) := dz_4 (bX11_drop_1 15 _ rfl)
theorem dX11_drop_32 : decode cX11_drop 32 = .ok (.iadd, 1) := dz_96 (bX11_drop_2 0 _ rfl)
theorem dX11_drop_33 : decode cX11_drop 33 = .ok (.invokevirtual 197, 3) := dz_182 (bX11_drop_2 1 _ rfl) (bX11_drop_2 2 _ rfl) (bX11_drop_2 3 _ rfl)
theorem dX11_drop_36 : decode cX11_drop 36 = .ok (.aload_n 0, 1) := dz_42 (bX11_drop_2 4 _ rfl)
theorem dX11_drop_37 : decode cX11_drop 37 = .ok (.getfield 21, 3) := dz_180 (bX11_drop_2 5 _ rfl) (bX11_drop_2 6 _ rfl) (bX11_drop_2 7 _ rfl)
theorem dX11_drop_40 : decode cX11_drop 40 = .ok (.iload_n 1, 1) := dz_27 (bX11_drop_2 8 _ rfl)
theorem dX11_drop_41 : decode cX11_drop 41 = .ok (.putfield 173, 3) := dz_181 (bX11_drop_2 9 _ rfl) (bX11_drop_2 10 _ rfl) (bX11_drop_2 11 _ rfl)
theorem dX11_drop_44 : decode cX11_drop 44 = .ok (.aload_n 0, 1) := dz_42 (bX11_drop_2 12 _ rfl)
theorem dX11_drop_45 : decode cX11_drop 45 = .ok (.getfield 25, 3) := dz_180 (bX11_drop_2 13 _ rfl) (bX11_drop_2 14 _ rfl) (bX11_drop_2 15 _ rfl)
theorem dX11_drop_48 : decode cX11_drop 48 = .ok (.iload_n 1, 1) := dz_27 (bX11_drop_3 0 _ rfl)
theorem dX11_drop_49 : decode cX11_drop 49 = .ok (.putfield 173, 3) := dz_181 (bX11_drop_3 1 _ rfl) (bX11_drop_3 2 _ rfl) (bX11_drop_3 3 _ rfl)
theorem dX11_drop_52 : decode cX11_drop 52 = .ok (.return_, 1) := dz_177 (bX11_drop_3 4 _ rfl)
def c_X11_drop (t0 : Nat) (x1 : Int32) (w : ch_W) : Option (ch_W) := (ch_gR w (some t0) 12 fX11_names).bind fun v1 => (ch_gI w v1 9 fX8_size).bind fun v2 => if x1 < v2 then ((ch_rc w (some t0) 12).bind fun _ => (c_X11_add t0 29 (x1 + 1) w).bind fun p4 => (ch_gR p4 (some t0) 12 fX11_code).bind fun v6 => (ch_gR p4 (some t0) 12 fX11_names).bind fun v7 => (ch_gI p4 v7 9 fX8_size).bind fun v8 => (ch_rc p4 v6 9).bind fun b10 => (c_X8_add b10 (v8 + 1) p4).bind fun p11 => (ch_gR p11 (some t0) 12 fX11_names).bind fun v13 => (ch_pI p11 v13 9 fX8_size x1).bind fun w14 => (ch_gR w14 (some t0) 12 fX11_types).bind fun v15 => (ch_pI w14 v15 9 fX8_size x1).bind fun w16 => some (w16)) else (some (w))
theorem s_X11_drop {g : State} {t0 : Nat} {x1 : Int32} {w : ch_W} {res : ch_W} {Q : Outcome → ch_W → Prop} (h : c_X11_drop t0 x1 w = some res) (hk : (ch_eV Q) res) : ch_CT g true yX11_drop 4 [.ref t0, .int x1] (w) Q := by
  unfold c_X11_drop at h
  refine ch_ctL mX11_drop (ls := [some (va_rf (some t0)), some (.int x1)]) q1293 rfl (ch_lyr (r := some t0) (ch_lyi ch_ly0)) (Nat.le_of_ble_eq_true rfl) rfl ?_
  refine ch_aload_n 0 (some t0) dX11_drop_0 rfl (cp_gR (ci := 11) (k := 7) dX11_drop_1 fl_X11_21 rfl h (fun v1 h => ?_))
  refine cp_gI (ci := 8) (k := 1) dX11_drop_4 fl_X11_173 rfl h (fun v2 h => ?_)
  refine ch_iload_n 1 _ dX11_drop_7 rfl (cp_icmp_le _ _ (tgt := 52) dX11_drop_8 rfl h (fun h => ?_) (fun h => ?_))
  · obtain rfl := Option.some.inj h
    exact ch_return dX11_drop_52 rfl hk
  · obtain ⟨_, hb3, h⟩ := ch_bd h
    obtain ⟨p4, hp5, h⟩ := ch_bd h
    refine ch_aload_n 0 (some t0) dX11_drop_11 rfl (ch_bipush _ 29 dX11_drop_12 rfl (ch_iload_n 1 _ dX11_drop_14 rfl (ch_iconst _ 1 dX11_drop_15 rfl (ch_iadd _ _ dX11_drop_16 (ch_iv yX11_add prog_2_method_14_code 3 none (ci := 11) (q := (RX11, TX11, 14)) (b := t0) (d' := 3) (av := [.int 29, .int (x1 + 1)]) (rest := []) rfl dX11_drop_17 q1214 q1216 rfl qs50 q1217 can_X11_add (Nat.le_of_ble_eq_true rfl) (Nat.le_of_ble_eq_true rfl) (ch_rts hb3) (cp_kV (w1 := p4) (fun Q' hq => s_X11_add hp5 hq) ?_))))))
    refine ch_aload_n 0 (some t0) dX11_drop_20 rfl (cp_gR (ci := 11) (k := 5) dX11_drop_21 fl_X11_194 rfl h (fun v6 h => ?_))
    refine ch_aload_n 0 (some t0) dX11_drop_24 rfl (cp_gR (ci := 11) (k := 7) dX11_drop_25 fl_X11_21 rfl h (fun v7 h => ?_))
    refine cp_gI (ci := 8) (k := 1) dX11_drop_28 fl_X11_173 rfl h (fun v8 h => ?_)
    obtain ⟨b10, hb9, h⟩ := ch_bd h
    obtain ⟨p11, hp12, h⟩ := ch_bd h
    refine ch_iconst _ 1 dX11_drop_31 rfl (ch_iadd _ _ dX11_drop_32 (ch_iv yX8_add prog_9_method_2_code 3 none (ci := 8) (q := (RX8, TX8, 2)) (b := b10) (d' := 2) (av := [.int (v8 + 1)]) (rest := []) (by rw [ch_rs hb9]; rfl) dX11_drop_33 q1182 q843 rfl q844 q845 can_X8_add (Nat.le_of_ble_eq_true rfl) (Nat.le_of_ble_eq_true rfl) (ch_rtg hb9) (cp_kV (w1 := p11) (fun Q' hq => s_X8_add hp12 hq) ?_)))
    refine ch_aload_n 0 (some t0) dX11_drop_36 rfl (cp_gR (ci := 11) (k := 7) dX11_drop_37 fl_X11_21 rfl h (fun v13 h => ?_))
    refine ch_iload_n 1 _ dX11_drop_40 rfl (cp_pI (ci := 8) (k := 1) dX11_drop_41 fl_X11_173 rfl rfl rfl h (fun w14 h => ?_))
    refine ch_aload_n 0 (some t0) dX11_drop_44 rfl (cp_gR (ci := 11) (k := 8) dX11_drop_45 fl_X11_25 rfl h (fun v15 h => ?_))
    refine ch_iload_n 1 _ dX11_drop_48 rfl (cp_pI (ci := 8) (k := 1) dX11_drop_49 fl_X11_173 rfl rfl rfl h (fun w16 h => ?_))
    obtain rfl := Option.some.inj h
    exact ch_return dX11_drop_52 rfl hk

theorem bX8_has_0 : ch_ck cX8_has 0 [42, 27, 182, 0, 23, 155, 0, 7, 4, 167, 0, 4, 3, 172] := ch_ckof (by decide +kernel)
theorem dX8_has_0 : decode cX8_has 0 = .ok (.aload_n 0, 1) := dz_42 (bX8_has_0 0 _ rfl)
theorem dX8_has_1 : decode cX8_has 1 = .ok (.iload_n 1, 1) := dz_27 (bX8_has_0 1 _ rfl)
theorem dX8_has_2 : decode cX8_has 2 = .ok (.invokevirtual 23, 3) := dz_182 (bX8_has_0 2 _ rfl) (bX8_has_0 3 _ rfl) (bX8_has_0 4 _ rfl)
theorem dX8_has_5 : decode cX8_has 5 = .ok (.ifCond .lt 7, 3) := dz_155 (bX8_has_0 5 _ rfl) (bX8_has_0 6 _ rfl) (bX8_has_0 7 _ rfl)
theorem dX8_has_8 : decode cX8_has 8 = .ok (.iconst 1, 1) := dz_4 (bX8_has_0 8 _ rfl)
theorem dX8_has_9 : decode cX8_has 9 = .ok (.goto 4, 3) := dz_167 (bX8_has_0 9 _ rfl) (bX8_has_0 10 _ rfl) (bX8_has_0 11 _ rfl)
theorem dX8_has_12 : decode cX8_has 12 = .ok (.iconst 0, 1) := dz_3 (bX8_has_0 12 _ rfl)
theorem dX8_has_13 : decode cX8_has 13 = .ok (.ireturn, 1) := dz_172 (bX8_has_0 13 _ rfl)
def c_X8_has (t0 : Nat) (x1 : Int32) (w : ch_W) : Option (Int32) := (ch_rc w (some t0) 9).bind fun _ => (c_X8_find t0 x1 w).bind fun v2 => if v2 < 0 then (some (0)) else (some (1))
theorem s_X8_has {g : State} {kb : Bool} {t0 : Nat} {x1 : Int32} {w : ch_W} {res : Int32} {Q : Outcome → ch_W → Prop} (h : c_X8_has t0 x1 w = some res) (hk : (fun r => ch_eI Q (r, w)) res) : ch_CT g kb yX8_has 3 [.ref t0, .int x1] (w) Q := by
  unfold c_X8_has at h
  refine ch_ctL mX8_has (ls := [some (va_rf (some t0)), some (.int x1)]) q1200 rfl (ch_lyr (r := some t0) (ch_lyi ch_ly0)) (Nat.le_of_ble_eq_true rfl) rfl ?_
  obtain ⟨_, hb1, h⟩ := ch_bd h
  obtain ⟨v2, hp3, h⟩ := ch_bd h
  refine ch_aload_n 0 (some t0) dX8_has_0 rfl (ch_iload_n 1 _ dX8_has_1 rfl (ch_iv yX8_find prog_9_method_4_code 3 (some .int) (ci := 8) (q := (RX8, TX8, 2)) (b := t0) (d' := 2) (av := [.int x1]) (rest := []) rfl dX8_has_2 q1201 q1156 rfl q1157 q1158 can_X8_find (Nat.le_of_ble_eq_true rfl) (Nat.le_of_ble_eq_true rfl) (ch_rts hb1) (cp_kI (v := v2) (w1 := w) (fun Q' hq => s_X8_find hp3 hq) ?_)))
  refine cp_if_lt _ (tgt := 12) dX8_has_5 rfl h (fun h => ?_) (fun h => ?_)
  · obtain rfl := Option.some.inj h
    exact ch_iconst _ 0 dX8_has_12 rfl (ch_ireturn _ dX8_has_13 rfl rfl hk)
  · obtain rfl := Option.some.inj h
    exact ch_iconst _ 1 dX8_has_8 rfl (ch_goto 13 dX8_has_9 rfl (ch_ireturn _ dX8_has_13 rfl rfl hk))

theorem bX11_must_2_0 : ch_ck cX11_must_2 0 [27, 42, 180, 0, 88, 184, 0, 91, 177] := ch_ckof (by decide +kernel)
theorem dX11_must_2_0 : decode cX11_must_2 0 = .ok (.iload_n 1, 1) := dz_27 (bX11_must_2_0 0 _ rfl)
theorem dX11_must_2_1 : decode cX11_must_2 1 = .ok (.aload_n 0, 1) := dz_42 (bX11_must_2_0 1 _ rfl)
theorem dX11_must_2_2 : decode cX11_must_2 2 = .ok (.getfield 88, 3) := dz_180 (bX11_must_2_0 2 _ rfl) (bX11_must_2_0 3 _ rfl) (bX11_must_2_0 4 _ rfl)
theorem dX11_must_2_5 : decode cX11_must_2 5 = .ok (.invokestatic 91, 3) := dz_184 (bX11_must_2_0 5 _ rfl) (bX11_must_2_0 6 _ rfl) (bX11_must_2_0 7 _ rfl)
theorem dX11_must_2_8 : decode cX11_must_2 8 = .ok (.return_, 1) := dz_177 (bX11_must_2_0 8 _ rfl)
def c_X11_must_2 (g : State) (t0 : Nat) (x1 : Int32) (w : ch_W) : Option (Except Nat Unit × ch_W) := (ch_gI w (some t0) 12 fX11_here).bind fun v1 => ch_tb (c_X11_must g x1 v1 w) (fun a w => (.error a, w)) fun _ w3 => some ((.ok (), w3))
theorem s_X11_must_2 {g : State} {t0 : Nat} {x1 : Int32} {w : ch_W} {res : Except Nat Unit × ch_W} {Q : Outcome → ch_W → Prop} (h : c_X11_must_2 g t0 x1 w = some res) (hk : (ch_xV Q) res) : ch_CT g true yX11_must_2 8 [.ref t0, .int x1] (w) Q := by
  unfold c_X11_must_2 at h
  refine ch_ctL mX11_must_2 (ls := [some (va_rf (some t0)), some (.int x1)]) q1205 rfl (ch_lyr (r := some t0) (ch_lyi ch_ly0)) (Nat.le_of_ble_eq_true rfl) rfl ?_
  refine ch_iload_n 1 _ dX11_must_2_0 rfl (ch_aload_n 0 (some t0) dX11_must_2_1 rfl (cp_gI (ci := 11) (k := 6) dX11_must_2_2 fl_X11_88 rfl h (fun v1 h => ?_)))
  refine ch_is yX11_must prog_2_method_2_code 2 none (d' := 7) (av := [.int x1, .int v1]) (rest := []) rfl dX11_must_2_5 q1123 q1124 q226 q1125 can_X11_must (Nat.le_of_ble_eq_true rfl) (Nat.le_of_ble_eq_true rfl) (cp_tV h (fun p hp Q' hq => s_X11_must hp hq) (fun w3 h => ?_) (fun a w1 h => ?_))
  · obtain rfl := Option.some.inj h
    exact ch_return dX11_must_2_8 rfl hk
  · subst h
    exact ch_th rfl hk

theorem bX11_add_2_0 : ch_ck cX11_add_2 0 [42, 180, 0, 194, 27, 182, 0, 197, 177] := ch_ckof (by decide +kernel)
theorem dX11_add_2_0 : decode cX11_add_2 0 = .ok (.aload_n 0, 1) := dz_42 (bX11_add_2_0 0 _ rfl)
theorem dX11_add_2_1 : decode cX11_add_2 1 = .ok (.getfield 194, 3) := dz_180 (bX11_add_2_0 1 _ rfl) (bX11_add_2_0 2 _ rfl) (bX11_add_2_0 3 _ rfl)
theorem dX11_add_2_4 : decode cX11_add_2 4 = .ok (.iload_n 1, 1) := dz_27 (bX11_add_2_0 4 _ rfl)
theorem dX11_add_2_5 : decode cX11_add_2 5 = .ok (.invokevirtual 197, 3) := dz_182 (bX11_add_2_0 5 _ rfl) (bX11_add_2_0 6 _ rfl) (bX11_add_2_0 7 _ rfl)
theorem dX11_add_2_8 : decode cX11_add_2 8 = .ok (.return_, 1) := dz_177 (bX11_add_2_0 8 _ rfl)
def c_X11_add_2 (t0 : Nat) (x1 : Int32) (w : ch_W) : Option (ch_W) := (ch_gR w (some t0) 12 fX11_code).bind fun v1 => (ch_rc w v1 9).bind fun b3 => (c_X8_add b3 x1 w).bind fun p4 => some (p4)
theorem s_X11_add_2 {g : State} {t0 : Nat} {x1 : Int32} {w : ch_W} {res : ch_W} {Q : Outcome → ch_W → Prop} (h : c_X11_add_2 t0 x1 w = some res) (hk : (ch_eV Q) res) : ch_CT g true yX11_add_2 3 [.ref t0, .int x1] (w) Q := by
  unfold c_X11_add_2 at h
  refine ch_ctL mX11_add_2 (ls := [some (va_rf (some t0)), some (.int x1)]) q1221 rfl (ch_lyr (r := some t0) (ch_lyi ch_ly0)) (Nat.le_of_ble_eq_true rfl) rfl ?_
  refine ch_aload_n 0 (some t0) dX11_add_2_0 rfl (cp_gR (ci := 11) (k := 5) dX11_add_2_1 fl_X11_194 rfl h (fun v1 h => ?_))
  obtain ⟨b3, hb2, h⟩ := ch_bd h
  obtain ⟨p4, hp5, h⟩ := ch_bd h
  refine ch_iload_n 1 _ dX11_add_2_4 rfl (ch_iv yX8_add prog_9_method_2_code 3 none (ci := 8) (q := (RX8, TX8, 2)) (b := b3) (d' := 2) (av := [.int x1]) (rest := []) (by rw [ch_rs hb2]; rfl) dX11_add_2_5 q1182 q843 rfl q844 q845 can_X8_add (Nat.le_of_ble_eq_true rfl) (Nat.le_of_ble_eq_true rfl) (ch_rtg hb2) (cp_kV (w1 := p4) (fun Q' hq => s_X8_add hp5 hq) ?_))
  obtain rfl := Option.some.inj h
  exact ch_return dX11_add_2_8 rfl hk

theorem bX6_fieldAt_0 : ch_ck cX6_fieldAt 0 [42, 77, 44, 3, 43, 180, 0, 40, 182, 0, 41, 43, 165, 0, 11, 44] := ch_ckof (by decide +kernel)
theorem bX6_fieldAt_1 : ch_ck cX6_fieldAt 16 [180, 0, 45, 77, 167, 255, 238, 44, 180, 0, 49, 62, 3, 54, 4, 44] := ch_ckof (by decide +kernel)
theorem bX6_fieldAt_2 : ch_ck cX6_fieldAt 32 [180, 0, 16, 21, 4, 182, 0, 30, 43, 165, 0, 35, 29, 44, 180, 0] := ch_ckof (by decide +kernel)
theorem bX6_fieldAt_3 : ch_ck cX6_fieldAt 48 [16, 21, 4, 182, 0, 30, 192, 0, 34, 180, 0, 36, 153, 0, 7, 3] := ch_ckof (by decide +kernel)
theorem bX6_fieldAt_4 : ch_ck cX6_fieldAt 64 [167, 0, 4, 4, 96, 62, 132, 4, 1, 167, 255, 214, 29, 172] := ch_ckof (by decide +kernel)
theorem dX6_fieldAt_0 : decode cX6_fieldAt 0 = .ok (.aload_n 0, 1) := dz_42 (bX6_fieldAt_0 0 _ rfl)
theorem dX6_fieldAt_1 : decode cX6_fieldAt 1 = .ok (.astore_n 2, 1) := dz_77 (bX6_fieldAt_0 1 _ rfl)
theorem dX6_fieldAt_2 : decode cX6_fieldAt 2 = .ok (.aload_n 2, 1) := dz_44 (bX6_fieldAt_0 2 _ rfl)
theorem dX6_fieldAt_3 : decode cX6_fieldAt 3 = .ok (.iconst 0, 1) := dz_3 (bX6_fieldAt_0 3 _ rfl)
theorem dX6_fieldAt_4 : decode cX6_fieldAt 4 = .ok (.aload_n 1, 1) := dz_43 (bX6_fieldAt_0 4 _ rfl)
theorem dX6_fieldAt_5 : decode cX6_fieldAt 5 = .ok (.getfield 40, 3) := dz_180 (bX6_fieldAt_0 5 _ rfl) (bX6_fieldAt_0 6 _ rfl) (bX6_fieldAt_0 7 _ rfl)
theorem dX6_fieldAt_8 : decode cX6_fieldAt 8 = .ok (.invokevirtual 41, 3) := dz_182 (bX6_fieldAt_0 8 _ rfl) (bX6_fieldAt_0 9 _ rfl) (bX6_fieldAt_0 10 _ rfl)
theorem dX6_fieldAt_11 : decode cX6_fieldAt 11 = .ok (.aload_n 1, 1) := dz_43 (bX6_fieldAt_0 11 _ rfl)
theorem dX6_fieldAt_12 : decode cX6_fieldAt 12 = .ok (.if_acmp .eq 11, 3) := dz_165 (bX6_fieldAt_0 12 _ rfl) (bX6_fieldAt_0 13 _ rfl) (bX6_fieldAt_0 14 _ rfl)
theorem dX6_fieldAt_15 : decode cX6_fieldAt 15 = .ok (.aload_n 2, 1) := dz_44 (bX6_fieldAt_0 15 _ rfl)
theorem dX6_fieldAt_16 : decode cX6_fieldAt 16 = .ok (.getfield 45, 3) := dz_180 (bX6_fieldAt_1 0 _ rfl) (bX6_fieldAt_1 1 _ rfl) (bX6_fieldAt_1 2 _ rfl)
theorem dX6_fieldAt_19 : decode cX6_fieldAt 19 = .ok (.astore_n 2, 1) := dz_77 (bX6_fieldAt_1 3 _ rfl)
theorem dX6_fieldAt_20 : decode cX6_fieldAt 20 = .ok (.goto (-18), 3) := dz_167 (bX6_fieldAt_1 4 _ rfl) (bX6_fieldAt_1 5 _ rfl) (bX6_fieldAt_1 6 _ rfl)
theorem dX6_fieldAt_23 : decode cX6_fieldAt 23 = .ok (.aload_n 2, 1) := dz_44 (bX6_fieldAt_1 7 _ rfl)
theorem dX6_fieldAt_24 : decode cX6_fieldAt 24 = .ok (.getfield 49, 3) := dz_180 (bX6_fieldAt_1 8 _ rfl) (bX6_fieldAt_1 9 _ rfl) (bX6_fieldAt_1 10 _ rfl)
theorem dX6_fieldAt_27 : decode cX6_fieldAt 27 = .ok (.istore_n 3, 1) := dz_62 (bX6_fieldAt_1 11 _ rfl)
theorem dX6_fieldAt_28 : decode cX6_fieldAt 28 = .ok (.iconst 0, 1) := dz_3 (bX6_fieldAt_1 12 _ rfl)
theorem dX6_fieldAt_29 : decode cX6_fieldAt 29 = .ok (.istore 4, 2) := dz_54 (bX6_fieldAt_1 13 _ rfl) (bX6_fieldAt_1 14 _ rfl)
theorem dX6_fieldAt_31 : decode cX6_fieldAt 31 = .ok (.aload_n 2, 1) := dz_44 (bX6_fieldAt_1 15 _ rfl)
theorem dX6_fieldAt_32 : decode cX6_fieldAt 32 = .ok (.getfield 16, 3) := dz_180 (bX6_fieldAt_2 0 _ rfl) (bX6_fieldAt_2 1 _ rfl) (bX6_fieldAt_2 2 _ rfl)
theorem dX6_fieldAt_35 : decode cX6_fieldAt 35 = .ok (.iload 4, 2) := dz_21 (bX6_fieldAt_2 3 _ rfl) (bX6_fieldAt_2 4 _ rfl)
theorem dX6_fieldAt_37 : decode cX6_fieldAt 37 = .ok (.invokevirtual 30, 3) := dz_182 (bX6_fieldAt_2 5 _ rfl) (bX6_fieldAt_2 6 _ rfl) (bX6_fieldAt_2 7 _ rfl)
theorem dX6_fieldAt_40 : decode cX6_fieldAt 40 = .ok (.aload_n 1, 1) := dz_43 (bX6_fieldAt_2 8 _ rfl)
theorem dX6_fieldAt_41 : decode cX6_fieldAt 41 = .ok (.if_acmp .eq 35, 3) := dz_165 (bX6_fieldAt_2 9 _ rfl) (bX6_fieldAt_2 10 _ rfl) (bX6_fieldAt_2 11 _ rfl)
theorem dX6_fieldAt_44 : decode cX6_fieldAt 44 = .ok (.iload_n 3, 1) := dz_29 (bX6_fieldAt_2 12 _ rfl)
theorem dX6_fieldAt_45 : decode cX6_fieldAt 45 = .ok (.aload_n 2, 1) := dz_44 (bX6_fieldAt_2 13 _ rfl)
theorem dX6_fieldAt_46 : decode cX6_fieldAt 46 = .ok (.getfield 16, 3) := dz_180 (bX6_fieldAt_2 14 _ rfl) (bX6_fieldAt_2 15 _ rfl) (bX6_fieldAt_3 0 _ rfl)
theorem dX6_fieldAt_49 : decode cX6_fieldAt 49 = .ok (.iload 4, 2) := dz_21 (bX6_fieldAt_3 1 _ rfl) (bX6_fieldAt_3 2 _ rfl)
theorem dX6_fieldAt_51 : decode cX6_fieldAt 51 = .ok (.invokevirtual 30, 3) := dz_182 (bX6_fieldAt_3 3 _ rfl) (bX6_fieldAt_3 4 _ rfl) (bX6_fieldAt_3 5 _ rfl)
theorem dX6_fieldAt_54 : decode cX6_fieldAt 54 = .ok (.checkcast 34, 3) := dz_192 (bX6_fieldAt_3 6 _ rfl) (bX6_fieldAt_3 7 _ rfl) (bX6_fieldAt_3 8 _ rfl)
theorem dX6_fieldAt_57 : decode cX6_fieldAt 57 = .ok (.getfield 36, 3) := dz_180 (bX6_fieldAt_3 9 _ rfl) (bX6_fieldAt_3 10 _ rfl) (bX6_fieldAt_3 11 _ rfl)
theorem dX6_fieldAt_60 : decode cX6_fieldAt 60 = .ok (.ifCond .eq 7, 3) := dz_153 (bX6_fieldAt_3 12 _ rfl) (bX6_fieldAt_3 13 _ rfl) (bX6_fieldAt_3 14 _ rfl)
theorem dX6_fieldAt_63 : decode cX6_fieldAt 63 = .ok (.iconst 0, 1) := dz_3 (bX6_fieldAt_3 15 _ rfl)
theorem dX6_fieldAt_64 : decode cX6_fieldAt 64 = .ok (.goto 4, 3) := dz_167 (bX6_fieldAt_4 0 _ rfl) (bX6_fieldAt_4 1 _ rfl) (bX6_fieldAt_4 2 _ rfl)
theorem dX6_fieldAt_67 : decode cX6_fieldAt 67 = .ok (.iconst 1, 1) := dz_4 (bX6_fieldAt_4 3 _ rfl)
theorem dX6_fieldAt_68 : decode cX6_fieldAt 68 = .ok (.iadd, 1) := dz_96 (bX6_fieldAt_4 4 _ rfl)
theorem dX6_fieldAt_69 : decode cX6_fieldAt 69 = .ok (.istore_n 3, 1) := dz_62 (bX6_fieldAt_4 5 _ rfl)
theorem dX6_fieldAt_70 : decode cX6_fieldAt 70 = .ok (.iinc 4 1, 3) := dz_132 (bX6_fieldAt_4 6 _ rfl) (bX6_fieldAt_4 7 _ rfl) (bX6_fieldAt_4 8 _ rfl)
theorem dX6_fieldAt_73 : decode cX6_fieldAt 73 = .ok (.goto (-42), 3) := dz_167 (bX6_fieldAt_4 9 _ rfl) (bX6_fieldAt_4 10 _ rfl) (bX6_fieldAt_4 11 _ rfl)
theorem dX6_fieldAt_76 : decode cX6_fieldAt 76 = .ok (.iload_n 3, 1) := dz_29 (bX6_fieldAt_4 12 _ rfl)
theorem dX6_fieldAt_77 : decode cX6_fieldAt 77 = .ok (.ireturn, 1) := dz_172 (bX6_fieldAt_4 13 _ rfl)
def c_X6_fieldAt_31 (t0 : Nat) (x1 : Option Nat) (x2 : Option Nat) (x3 : Int32) (x4 : Int32)  (w : ch_W) : Option ((Int32 × Int32) ⊕ (Int32)) := (ch_gR w x2 7 fX6_members).bind fun v1 => (ch_rc w v1 14).bind fun b3 => (c_J5_get b3 x4 w).bind fun v4 => if v4 = x1 then (some (.inr (x3))) else ((ch_gR w x2 7 fX6_members).bind fun v6 => (ch_rc w v6 14).bind fun b8 => (c_J5_get b8 x4 w).bind fun v9 => (ch_cast w v9 8).bind fun _ => (ch_gI w v9 8 fX7_isMethod).bind fun v11 => if v11 = 0 then (some (.inl (x3 + 1, x4 + 1))) else (some (.inl (x3 + 0, x4 + 1))))
theorem s_X6_fieldAt_31 {g : State} {kb : Bool} {t0 : Nat} {x1 : Option Nat} {x2 : Option Nat} {x3 : Int32} {x4 : Int32} {w : ch_W} {res : (Int32 × Int32) ⊕ (Int32)} {Q : Outcome → ch_W → Prop} (h : c_X6_fieldAt_31 t0 x1 x2 x3 x4 w = some res) (hk : (ch_sm (fun s => ch_FT g kb mX6_fieldAt 6 31 [none, some (va_rf x1), some (va_rf x2), some (.int s.1), some (.int s.2)] [] (w) Q) (fun r => ch_eI Q (r, w))) res) : ch_FT g kb mX6_fieldAt 6 31 [none, some (va_rf x1), some (va_rf x2), some (.int x3), some (.int x4)] [] (w) Q := by
  unfold c_X6_fieldAt_31 at h
  refine ch_aload_n 2 x2 dX6_fieldAt_31 rfl (cp_gR (ci := 6) (k := 5) dX6_fieldAt_32 fl_X6_16 rfl h (fun v1 h => ?_))
  obtain ⟨b3, hb2, h⟩ := ch_bd h
  obtain ⟨v4, hp5, h⟩ := ch_bd h
  refine ch_iload 4 _ dX6_fieldAt_35 rfl (ch_iv yJ5_get prog_32_method_20_code 2 (some (.object "java/lang/Object")) (ci := 13) (q := (RJ5, TJ5, 3)) (b := b3) (d' := 4) (av := [.int x4]) (rest := []) (by rw [ch_rs hb2]; rfl) dX6_fieldAt_37 q1145 q612 rfl q613 q614 can_J5_get (Nat.le_of_ble_eq_true rfl) (Nat.le_of_ble_eq_true rfl) (ch_rtg hb2) (cp_kR (v := v4) (w1 := w) (fun Q' hq => s_J5_get hp5 hq) ?_))
  refine ch_aload_n 1 x1 dX6_fieldAt_40 rfl (cp_acmp_eq v4 x1 (tgt := 76) dX6_fieldAt_41 rfl h (fun h => ?_) (fun h => ?_))
  · obtain rfl := Option.some.inj h
    exact ch_iload_n 3 _ dX6_fieldAt_76 rfl (ch_ireturn _ dX6_fieldAt_77 rfl rfl hk)
  · refine ch_iload_n 3 _ dX6_fieldAt_44 rfl (ch_aload_n 2 x2 dX6_fieldAt_45 rfl (cp_gR (ci := 6) (k := 5) dX6_fieldAt_46 fl_X6_16 rfl h (fun v6 h => ?_)))
    obtain ⟨b8, hb7, h⟩ := ch_bd h
    obtain ⟨v9, hp10, h⟩ := ch_bd h
    refine ch_iload 4 _ dX6_fieldAt_49 rfl (ch_iv yJ5_get prog_32_method_20_code 2 (some (.object "java/lang/Object")) (ci := 13) (q := (RJ5, TJ5, 3)) (b := b8) (d' := 4) (av := [.int x4]) (rest := [.int x3]) (by rw [ch_rs hb7]; rfl) dX6_fieldAt_51 q1145 q612 rfl q613 q614 can_J5_get (Nat.le_of_ble_eq_true rfl) (ch_hw (Nat.le_of_ble_eq_true rfl)) (ch_rtg hb7) (cp_kR (v := v9) (w1 := w) (fun Q' hq => s_J5_get hp10 hq) ?_))
    refine cp_cast (ci := 7) (q := (RX7, TX7, 12)) dX6_fieldAt_54 rfl q1146 h (fun h => ?_)
    refine cp_gI (ci := 7) (k := 0) dX6_fieldAt_57 fl_X6_36 rfl h (fun v11 h => ?_)
    refine cp_if_eq _ (tgt := 67) dX6_fieldAt_60 rfl h (fun h => ?_) (fun h => ?_)
    · refine ch_iconst _ 1 dX6_fieldAt_67 rfl (ch_iadd _ _ dX6_fieldAt_68 (ch_istore_n 3 _ (ls1 := [none, some (va_rf x1), some (va_rf x2), some (.int (x3 + 1)), some (.int x4)]) dX6_fieldAt_69 (Nat.le_of_ble_eq_true rfl) (ch_s1o rfl rfl) (ch_iinc 4 _ _ (x4 + 1) (ls1 := [none, some (va_rf x1), some (va_rf x2), some (.int (x3 + 1)), some (.int (x4 + 1))]) dX6_fieldAt_70 rfl rfl (Nat.le_of_ble_eq_true rfl) rfl (ch_goto 31 dX6_fieldAt_73 rfl (ch_FT.wk (ch_wN (ch_wS (ch_wS (ch_wS (ch_wS ch_w0))))) ?_)))))
      obtain rfl := Option.some.inj h
      exact hk
    · refine ch_iconst _ 0 dX6_fieldAt_63 rfl (ch_goto 68 dX6_fieldAt_64 rfl (ch_iadd _ _ dX6_fieldAt_68 (ch_istore_n 3 _ (ls1 := [none, some (va_rf x1), some (va_rf x2), some (.int (x3 + 0)), some (.int x4)]) dX6_fieldAt_69 (Nat.le_of_ble_eq_true rfl) (ch_s1o rfl rfl) (ch_iinc 4 _ _ (x4 + 1) (ls1 := [none, some (va_rf x1), some (va_rf x2), some (.int (x3 + 0)), some (.int (x4 + 1))]) dX6_fieldAt_70 rfl rfl (Nat.le_of_ble_eq_true rfl) rfl (ch_goto 31 dX6_fieldAt_73 rfl (ch_FT.wk (ch_wN (ch_wS (ch_wS (ch_wS (ch_wS ch_w0))))) ?_))))))
      obtain rfl := Option.some.inj h
      exact hk
theorem sl_X6_fieldAt_31 {g : State} {kb : Bool} {t0 : Nat} {x1 : Option Nat} {x2 : Option Nat} {w : ch_W} {a : Int32 × Int32} {res : Int32} {Q : Outcome → ch_W → Prop} (h : ch_loop (fun (s : Int32 × Int32) => c_X6_fieldAt_31 t0 x1 x2 s.1 s.2 w) a = some res) (hk : (fun r => ch_eI Q (r, w)) res) : ch_FT g kb mX6_fieldAt 6 31 [none, some (va_rf x1), some (va_rf x2), some (.int a.1), some (.int a.2)] [] (w) Q := by
  refine ch_loop_ind (fun (a : Int32 × Int32) (r : Int32) => (fun r => ch_eI Q (r, w)) r → ch_FT g kb mX6_fieldAt 6 31 [none, some (va_rf x1), some (va_rf x2), some (.int a.1), some (.int a.2)] [] (w) Q) ?_ ?_ a res h hk
  · intro a a2 b h1 ih hk
    exact s_X6_fieldAt_31  h1 (ih hk)
  · intro a b h1 hk
    exact s_X6_fieldAt_31  h1 hk

def c_X6_fieldAt_2 (t0 : Nat) (x1 : Option Nat) (x2 : Option Nat)  (w : ch_W) : Option ((Option Nat) ⊕ (Int32)) := (ch_gI w x1 8 fX7_name).bind fun v1 => (ch_rc w x2 7).bind fun b3 => (c_X6_own b3 0 v1 w).bind fun v4 => if v4 = x1 then ((ch_gI w x2 7 fX6_before).bind fun v6 => (ch_loop (fun (s : Int32 × Int32) => c_X6_fieldAt_31 t0 x1 x2 s.1 s.2 w) (v6, 0)).bind fun r => some (.inr (r))) else ((ch_gR w x2 7 fX6_parent).bind fun v7 => some (.inl (v7)))
theorem s_X6_fieldAt_2 {g : State} {kb : Bool} {t0 : Nat} {x1 : Option Nat} {x2 : Option Nat} {w : ch_W} {res : (Option Nat) ⊕ (Int32)} {Q : Outcome → ch_W → Prop} (h : c_X6_fieldAt_2 t0 x1 x2 w = some res) (hk : (ch_sm (fun s => ch_FT g kb mX6_fieldAt 6 2 [none, some (va_rf x1), some (va_rf s), none, none] [] (w) Q) (fun r => ch_eI Q (r, w))) res) : ch_FT g kb mX6_fieldAt 6 2 [none, some (va_rf x1), some (va_rf x2), none, none] [] (w) Q := by
  unfold c_X6_fieldAt_2 at h
  refine ch_aload_n 2 x2 dX6_fieldAt_2 rfl (ch_iconst _ 0 dX6_fieldAt_3 rfl (ch_aload_n 1 x1 dX6_fieldAt_4 rfl (cp_gI (ci := 7) (k := 2) dX6_fieldAt_5 fl_X6_40 rfl h (fun v1 h => ?_))))
  obtain ⟨b3, hb2, h⟩ := ch_bd h
  obtain ⟨v4, hp5, h⟩ := ch_bd h
  refine ch_iv yX6_own prog_4_method_2_code 5 (some (.object "ClassHouse$Member")) (ci := 6) (q := (RX6, TX6, 8)) (b := b3) (d' := 5) (av := [.int 0, .int v1]) (rest := []) (by rw [ch_rs hb2]; rfl) dX6_fieldAt_8 q1163 q1142 rfl qs39 q1143 can_X6_own (Nat.le_of_ble_eq_true rfl) (Nat.le_of_ble_eq_true rfl) (ch_rtg hb2) (cp_kR (v := v4) (w1 := w) (fun Q' hq => s_X6_own hp5 hq) ?_)
  refine ch_aload_n 1 x1 dX6_fieldAt_11 rfl (cp_acmp_eq v4 x1 (tgt := 23) dX6_fieldAt_12 rfl h (fun h => ?_) (fun h => ?_))
  · refine ch_aload_n 2 x2 dX6_fieldAt_23 rfl (cp_gI (ci := 6) (k := 6) dX6_fieldAt_24 fl_X6_49 rfl h (fun v6 h => ?_))
    obtain ⟨r, hr, h⟩ := ch_bd h
    obtain rfl := Option.some.inj h
    exact ch_istore_n 3 _ (ls1 := [none, some (va_rf x1), some (va_rf x2), some (.int v6), none]) dX6_fieldAt_27 (Nat.le_of_ble_eq_true rfl) (ch_s1o rfl rfl) (ch_iconst _ 0 dX6_fieldAt_28 rfl (ch_istore 4 _ (ls1 := [none, some (va_rf x1), some (va_rf x2), some (.int v6), some (.int 0)]) dX6_fieldAt_29 (Nat.le_of_ble_eq_true rfl) rfl (ch_FT.wk (ch_wN (ch_wS (ch_wS (ch_wS (ch_wS ch_w0))))) (sl_X6_fieldAt_31  hr hk))))
  · refine ch_aload_n 2 x2 dX6_fieldAt_15 rfl (cp_gR (ci := 6) (k := 3) dX6_fieldAt_16 fl_X6_45 rfl h (fun v7 h => ?_))
    refine ch_astore_n 2 v7 (ls1 := [none, some (va_rf x1), some (va_rf v7), none, none]) dX6_fieldAt_19 (Nat.le_of_ble_eq_true rfl) (ch_s1o rfl rfl) (ch_goto 2 dX6_fieldAt_20 rfl (ch_FT.wk (ch_wN (ch_wS (ch_wS (ch_wN (ch_wN ch_w0))))) ?_))
    obtain rfl := Option.some.inj h
    exact hk
theorem sl_X6_fieldAt_2 {g : State} {kb : Bool} {t0 : Nat} {x1 : Option Nat} {w : ch_W} {a : (Option Nat)} {res : Int32} {Q : Outcome → ch_W → Prop} (h : ch_loop (fun (s : (Option Nat)) => c_X6_fieldAt_2 t0 x1 s w) a = some res) (hk : (fun r => ch_eI Q (r, w)) res) : ch_FT g kb mX6_fieldAt 6 2 [none, some (va_rf x1), some (va_rf a), none, none] [] (w) Q := by
  refine ch_loop_ind (fun (a : (Option Nat)) (r : Int32) => (fun r => ch_eI Q (r, w)) r → ch_FT g kb mX6_fieldAt 6 2 [none, some (va_rf x1), some (va_rf a), none, none] [] (w) Q) ?_ ?_ a res h hk
  · intro a a2 b h1 ih hk
    exact s_X6_fieldAt_2  h1 (ih hk)
  · intro a b h1 hk
    exact s_X6_fieldAt_2  h1 hk

def c_X6_fieldAt (t0 : Nat) (x1 : Option Nat) (w : ch_W) : Option (Int32) := ch_loop (fun (s : (Option Nat)) => c_X6_fieldAt_2 t0 x1 s w) (some t0)
theorem s_X6_fieldAt {g : State} {kb : Bool} {t0 : Nat} {x1 : Option Nat} {w : ch_W} {res : Int32} {Q : Outcome → ch_W → Prop} (h : c_X6_fieldAt t0 x1 w = some res) (hk : (fun r => ch_eI Q (r, w)) res) : ch_CT g kb yX6_fieldAt 6 [.ref t0, va_rf x1] (w) Q := by
  unfold c_X6_fieldAt at h
  refine ch_ctL mX6_fieldAt (ls := [some (va_rf (some t0)), some (va_rf x1), none, none, none]) q1229 rfl (ch_lyr (r := some t0) (ch_lyr (r := x1) ch_ly0)) (Nat.le_of_ble_eq_true rfl) rfl ?_
  exact ch_aload_n 0 (some t0) dX6_fieldAt_0 rfl (ch_astore_n 2 (some t0) (ls1 := [some (va_rf (some t0)), some (va_rf x1), some (va_rf (some t0)), none, none]) dX6_fieldAt_1 (Nat.le_of_ble_eq_true rfl) (ch_s1o rfl rfl) (ch_FT.wk (ch_wN (ch_wS (ch_wS (ch_wN (ch_wN ch_w0))))) (sl_X6_fieldAt_2  h hk)))

theorem bX11_named_0 : ch_ck cX11_named 0 [42, 180, 0, 21, 27, 182, 0, 178, 61, 28, 155, 0, 45, 42, 42, 180] := ch_ckof (by decide +kernel)
theorem bX11_named_1 : ch_ck cX11_named 16 [0, 204, 154, 0, 12, 42, 180, 0, 28, 28, 51, 153, 0, 7, 4, 167] := ch_ckof (by decide +kernel)
theorem bX11_named_2 : ch_ck cX11_named 32 [0, 4, 3, 182, 1, 18, 42, 7, 28, 4, 96, 182, 0, 247, 42, 180] := ch_ckof (by decide +kernel)
theorem bX11_named_3 : ch_ck cX11_named 48 [0, 25, 28, 182, 0, 175, 172, 42, 180, 0, 199, 27, 182, 0, 168, 78] := ch_ckof (by decide +kernel)
theorem bX11_named_4 : ch_ck cX11_named 64 [42, 45, 198, 0, 7, 4, 167, 0, 4, 3, 182, 1, 18, 42, 8, 42] := ch_ckof (by decide +kernel)
theorem bX11_named_5 : ch_ck cX11_named 80 [180, 0, 199, 45, 182, 1, 48, 182, 0, 247, 45, 180, 0, 156, 172] := ch_ckof (by decide +kernel)
theorem dX11_named_0 : decode cX11_named 0 = .ok (.aload_n 0, 1) := dz_42 (bX11_named_0 0 _ rfl)
theorem dX11_named_1 : decode cX11_named 1 = .ok (.getfield 21, 3) := dz_180 (bX11_named_0 1 _ rfl) (bX11_named_0 2 _ rfl) (bX11_named_0 3 _ rfl)
theorem dX11_named_4 : decode cX11_named 4 = .ok (.iload_n 1, 1) := dz_27 (bX11_named_0 4 _ rfl)
theorem dX11_named_5 : decode cX11_named 5 = .ok (.invokevirtual 178, 3) := dz_182 (bX11_named_0 5 _ rfl) (bX11_named_0 6 _ rfl) (bX11_named_0 7 _ rfl)
theorem dX11_named_8 : decode cX11_named 8 = .ok (.istore_n 2, 1) := dz_61 (bX11_named_0 8 _ rfl)
theorem dX11_named_9 : decode cX11_named 9 = .ok (.iload_n 2, 1) := dz_28 (bX11_named_0 9 _ rfl)
theorem dX11_named_10 : decode cX11_named 10 = .ok (.ifCond .lt 45, 3) := dz_155 (bX11_named_0 10 _ rfl) (bX11_named_0 11 _ rfl) (bX11_named_0 12 _ rfl)
theorem dX11_named_13 : decode cX11_named 13 = .ok (.aload_n 0, 1) := dz_42 (bX11_named_0 13 _ rfl)
theorem dX11_named_14 : decode cX11_named 14 = .ok (.aload_n 0, 1) := dz_42 (bX11_named_0 14 _ rfl)
theorem dX11_named_15 : decode cX11_named 15 = .ok (.getfield 204, 3) := dz_180 (bX11_named_0 15 _ rfl) (bX11_named_1 0 _ rfl) (bX11_named_1 1 _ rfl)
theorem dX11_named_18 : decode cX11_named 18 = .ok (.ifCond .ne 12, 3) := dz_154 (bX11_named_1 2 _ rfl) (bX11_named_1 3 _ rfl) (bX11_named_1 4 _ rfl)
theorem dX11_named_21 : decode cX11_named 21 = .ok (.aload_n 0, 1) := dz_42 (bX11_named_1 5 _ rfl)
theorem dX11_named_22 : decode cX11_named 22 = .ok (.getfield 28, 3) := dz_180 (bX11_named_1 6 _ rfl) (bX11_named_1 7 _ rfl) (bX11_named_1 8 _ rfl)
theorem dX11_named_25 : decode cX11_named 25 = .ok (.iload_n 2, 1) := dz_28 (bX11_named_1 9 _ rfl)
theorem dX11_named_26 : decode cX11_named 26 = .ok (.baload, 1) := dz_51 (bX11_named_1 10 _ rfl)
theorem dX11_named_27 : decode cX11_named 27 = .ok (.ifCond .eq 7, 3) := dz_153 (bX11_named_1 11 _ rfl) (bX11_named_1 12 _ rfl) (bX11_named_1 13 _ rfl)
theorem dX11_named_30 : decode cX11_named 30 = .ok (.iconst 1, 1) := dz_4 (bX11_named_1 14 _ rfl)
theorem dX11_named_31 : decode cX11_named 31 = .ok (.goto 4, 3) := dz_167 (bX11_named_1 15 _ rfl) (bX11_named_2 0 _ rfl) (bX11_named_2 1 _ rfl)
theorem dX11_named_34 : decode cX11_named 34 = .ok (.iconst 0, 1) := dz_3 (bX11_named_2 2 _ rfl)
theorem dX11_named_35 : decode cX11_named 35 = .ok (.invokevirtual 274, 3) := dz_182 (bX11_named_2 3 _ rfl) (bX11_named_2 4 _ rfl) (bX11_named_2 5 _ rfl)
theorem dX11_named_38 : decode cX11_named 38 = .ok (.aload_n 0, 1) := dz_42 (bX11_named_2 6 _ rfl)
theorem dX11_named_39 : decode cX11_named 39 = .ok (.iconst 4, 1) := dz_7 (bX11_named_2 7 _ rfl)
theorem dX11_named_40 : decode cX11_named 40 = .ok (.iload_n 2, 1) := dz_28 (bX11_named_2 8 _ rfl)
theorem dX11_named_41 : decode cX11_named 41 = .ok (.iconst 1, 1) := dz_4 (bX11_named_2 9 _ rfl)
theorem dX11_named_42 : decode cX11_named 42 = .ok (.iadd, 1) := dz_96 (bX11_named_2 10 _ rfl)
theorem dX11_named_43 : decode cX11_named 43 = .ok (.invokevirtual 247, 3) := dz_182 (bX11_named_2 11 _ rfl) (bX11_named_2 12 _ rfl) (bX11_named_2 13 _ rfl)
theorem dX11_named_46 : decode cX11_named 46 = .ok (.aload_n 0, 1) := dz_42 (bX11_named_2 14 _ rfl)
theorem dX11_named_47 : decode cX11_named 47 = .ok (.getfield 25, 3) := dz_180 (bX11_named_2 15 _ rfl) (bX11_named_3 0 _ rfl) (bX11_named_3 1 _ rfl)
theorem dX11_named_50 : decode cX11_named 50 = .ok (.iload_n 2, 1) := dz_28 (bX11_named_3 2 _ rfl)
theorem dX11_named_51 : decode cX11_named 51 = .ok (.invokevirtual 175, 3) := dz_182 (bX11_named_3 3 _ rfl) (bX11_named_3 4 _ rfl) (bX11_named_3 5 _ rfl)
theorem dX11_named_54 : decode cX11_named 54 = .ok (.ireturn, 1) := dz_172 (bX11_named_3 6 _ rfl)
theorem dX11_named_55 : decode cX11_named 55 = .ok (.aload_n 0, 1) := dz_42 (bX11_named_3 7 _ rfl)
theorem dX11_named_56 : decode cX11_named 56 = .ok (.getfield 199, 3) := dz_180 (bX11_named_3 8 _ rfl) (bX11_named_3 9 _ rfl) (bX11_named_3 10 _ rfl)
theorem dX11_named_59 : decode cX11_named 59 = .ok (.iload_n 1, 1) := dz_27 (bX11_named_3 11 _ rfl)
theorem dX11_named_60 : decode cX11_named 60 = .ok (.invokevirtual 168, 3) := dz_182 (bX11_named_3 12 _ rfl) (bX11_named_3 13 _ rfl) (bX11_named_3 14 _ rfl)
theorem dX11_named_63 : decode cX11_named 63 = .ok (.astore_n 3, 1) := dz_78 (bX11_named_3 15 _ rfl)
theorem dX11_named_64 : decode cX11_named 64 = .ok (.aload_n 0, 1) := dz_42 (bX11_named_4 0 _ rfl)
theorem dX11_named_65 : decode cX11_named 65 = .ok (.aload_n 3, 1) := dz_45 (bX11_named_4 1 _ rfl)
theorem dX11_named_66 : decode cX11_named 66 = .ok (.ifnull 7, 3) := dz_198 (bX11_named_4 2 _ rfl) (bX11_named_4 3 _ rfl) (bX11_named_4 4 _ rfl)
theorem dX11_named_69 : decode cX11_named 69 = .ok (.iconst 1, 1) := dz_4 (bX11_named_4 5 _ rfl)
theorem dX11_named_70 : decode cX11_named 70 = .ok (.goto 4, 3) := dz_167 (bX11_named_4 6 _ rfl) (bX11_named_4 7 _ rfl) (bX11_named_4 8 _ rfl)
theorem dX11_named_73 : decode cX11_named 73 = .ok (.iconst 0, 1) := dz_3 (bX11_named_4 9 _ rfl)
theorem dX11_named_74 : decode cX11_named 74 = .ok (.invokevirtual 274, 3) := dz_182 (bX11_named_4 10 _ rfl) (bX11_named_4 11 _ rfl) (bX11_named_4 12 _ rfl)
theorem dX11_named_77 : decode cX11_named 77 = .ok (.aload_n 0, 1) := dz_42 (bX11_named_4 13 _ rfl)
theorem dX11_named_78 : decode cX11_named 78 = .ok (.iconst 5, 1) := dz_8 (bX11_named_4 14 _ rfl)
theorem dX11_named_79 : decode cX11_named 79 = .ok (.aload_n 0, 1) := dz_42 (bX11_named_4 15 _ rfl)
theorem dX11_named_80 : decode cX11_named 80 = .ok (.getfield 199, 3) := dz_180 (bX11_named_5 0 _ rfl) (bX11_named_5 1 _ rfl) (bX11_named_5 2 _ rfl)
theorem dX11_named_83 : decode cX11_named 83 = .ok (.aload_n 3, 1) := dz_45 (bX11_named_5 3 _ rfl)
theorem dX11_named_84 : decode cX11_named 84 = .ok (.invokevirtual 304, 3) := dz_182 (bX11_named_5 4 _ rfl) (bX11_named_5 5 _ rfl) (bX11_named_5 6 _ rfl)
theorem dX11_named_87 : decode cX11_named 87 = .ok (.invokevirtual 247, 3) := dz_182 (bX11_named_5 7 _ rfl) (bX11_named_5 8 _ rfl) (bX11_named_5 9 _ rfl)
theorem dX11_named_90 : decode cX11_named 90 = .ok (.aload_n 3, 1) := dz_45 (bX11_named_5 10 _ rfl)
theorem dX11_named_91 : decode cX11_named 91 = .ok (.getfield 156, 3) := dz_180 (bX11_named_5 11 _ rfl) (bX11_named_5 12 _ rfl) (bX11_named_5 13 _ rfl)
theorem dX11_named_94 : decode cX11_named 94 = .ok (.ireturn, 1) := dz_172 (bX11_named_5 14 _ rfl)
def c_X11_named_74 (g : State) (t0 : Nat) (x3 : Option Nat) (y0 : Int32) (y1 : Nat) (w : ch_W) : Option (Except Nat Int32 × ch_W) := (ch_rc w (some y1) 12).bind fun _ => ch_tb (c_X11_must_2 g y1 y0 w) (fun a w => (.error a, w)) fun _ w3 => (ch_gR w3 (some t0) 12 fX11_own).bind fun v4 => (ch_rc w3 v4 7).bind fun b6 => (c_X6_fieldAt b6 x3 w3).bind fun v7 => (ch_rc w3 (some t0) 12).bind fun _ => (c_X11_add t0 5 v7 w3).bind fun p10 => (ch_gI p10 x3 8 fX7_result).bind fun v12 => some ((.ok v12, p10))
theorem s_X11_named_74 {g : State} {t0 : Nat} {x3 : Option Nat} {y0 : Int32} {y1 : Nat} {w : ch_W} {res : Except Nat Int32 × ch_W} {Q : Outcome → ch_W → Prop} (h : c_X11_named_74 g t0 x3 y0 y1 w = some res) (hk : (ch_xI Q) res) : ch_FT g true mX11_named 9 74 [some (va_rf (some t0)), none, none, some (va_rf x3)] [.int y0, va_rf (some y1)] (w) Q := by
  unfold c_X11_named_74 at h
  obtain ⟨_, hb1, h⟩ := ch_bd h
  refine ch_iv yX11_must_2 prog_2_method_3_code 2 none (ci := 11) (q := (RX11, TX11, 14)) (b := y1) (d' := 8) (av := [.int y0]) (rest := []) rfl dX11_named_74 q1202 q1204 rfl qs47 q1205 can_X11_must_2 (Nat.le_of_ble_eq_true rfl) (Nat.le_of_ble_eq_true rfl) (ch_rts hb1) (cp_tV h (fun p hp Q' hq => s_X11_must_2 hp hq) (fun w3 h => ?_) (fun a w1 h => ?_))
  · refine ch_aload_n 0 (some t0) dX11_named_77 rfl (ch_iconst _ 5 dX11_named_78 rfl (ch_aload_n 0 (some t0) dX11_named_79 rfl (cp_gR (ci := 11) (k := 3) dX11_named_80 fl_X11_199 rfl h (fun v4 h => ?_))))
    obtain ⟨b6, hb5, h⟩ := ch_bd h
    obtain ⟨v7, hp8, h⟩ := ch_bd h
    refine ch_aload_n 3 x3 dX11_named_83 rfl (ch_iv yX6_fieldAt prog_4_method_5_code 5 (some .int) (ci := 6) (q := (RX6, TX6, 8)) (b := b6) (d' := 6) (av := [va_rf x3]) (rest := [.int 5, va_rf (some t0)]) (by rw [ch_rs hb5]; rfl) dX11_named_84 q1226 q1227 rfl q1228 q1229 can_X6_fieldAt (Nat.le_of_ble_eq_true rfl) (ch_hw (Nat.le_of_ble_eq_true rfl)) (ch_rtg hb5) (cp_kI (v := v7) (w1 := w3) (fun Q' hq => s_X6_fieldAt hp8 hq) ?_))
    obtain ⟨_, hb9, h⟩ := ch_bd h
    obtain ⟨p10, hp11, h⟩ := ch_bd h
    refine ch_iv yX11_add prog_2_method_14_code 3 none (ci := 11) (q := (RX11, TX11, 14)) (b := t0) (d' := 3) (av := [.int 5, .int v7]) (rest := []) rfl dX11_named_87 q1214 q1216 rfl qs50 q1217 can_X11_add (Nat.le_of_ble_eq_true rfl) (Nat.le_of_ble_eq_true rfl) (ch_rts hb9) (cp_kV (w1 := p10) (fun Q' hq => s_X11_add hp11 hq) ?_)
    refine ch_aload_n 3 x3 dX11_named_90 rfl (cp_gI (ci := 7) (k := 11) dX11_named_91 fl_X11_156 rfl h (fun v12 h => ?_))
    obtain rfl := Option.some.inj h
    exact ch_ireturn _ dX11_named_94 rfl rfl hk
  · subst h
    exact ch_th rfl hk

def c_X11_named_35 (g : State) (t0 : Nat) (x2 : Int32) (y0 : Int32) (y1 : Nat) (w : ch_W) : Option (Except Nat Int32 × ch_W) := (ch_rc w (some y1) 12).bind fun _ => ch_tb (c_X11_must_2 g y1 y0 w) (fun a w => (.error a, w)) fun _ w3 => (ch_rc w3 (some t0) 12).bind fun _ => (c_X11_add t0 4 (x2 + 1) w3).bind fun p5 => (ch_gR p5 (some t0) 12 fX11_types).bind fun v7 => (ch_rc p5 v7 9).bind fun b9 => (c_X8_get b9 x2 p5).bind fun v10 => some ((.ok v10, p5))
theorem s_X11_named_35 {g : State} {t0 : Nat} {x2 : Int32} {y0 : Int32} {y1 : Nat} {w : ch_W} {res : Except Nat Int32 × ch_W} {Q : Outcome → ch_W → Prop} (h : c_X11_named_35 g t0 x2 y0 y1 w = some res) (hk : (ch_xI Q) res) : ch_FT g true mX11_named 9 35 [some (va_rf (some t0)), none, some (.int x2), none] [.int y0, va_rf (some y1)] (w) Q := by
  unfold c_X11_named_35 at h
  obtain ⟨_, hb1, h⟩ := ch_bd h
  refine ch_iv yX11_must_2 prog_2_method_3_code 2 none (ci := 11) (q := (RX11, TX11, 14)) (b := y1) (d' := 8) (av := [.int y0]) (rest := []) rfl dX11_named_35 q1202 q1204 rfl qs47 q1205 can_X11_must_2 (Nat.le_of_ble_eq_true rfl) (Nat.le_of_ble_eq_true rfl) (ch_rts hb1) (cp_tV h (fun p hp Q' hq => s_X11_must_2 hp hq) (fun w3 h => ?_) (fun a w1 h => ?_))
  · obtain ⟨_, hb4, h⟩ := ch_bd h
    obtain ⟨p5, hp6, h⟩ := ch_bd h
    refine ch_aload_n 0 (some t0) dX11_named_38 rfl (ch_iconst _ 4 dX11_named_39 rfl (ch_iload_n 2 _ dX11_named_40 rfl (ch_iconst _ 1 dX11_named_41 rfl (ch_iadd _ _ dX11_named_42 (ch_iv yX11_add prog_2_method_14_code 3 none (ci := 11) (q := (RX11, TX11, 14)) (b := t0) (d' := 3) (av := [.int 4, .int (x2 + 1)]) (rest := []) rfl dX11_named_43 q1214 q1216 rfl qs50 q1217 can_X11_add (Nat.le_of_ble_eq_true rfl) (Nat.le_of_ble_eq_true rfl) (ch_rts hb4) (cp_kV (w1 := p5) (fun Q' hq => s_X11_add hp6 hq) ?_))))))
    refine ch_aload_n 0 (some t0) dX11_named_46 rfl (cp_gR (ci := 11) (k := 8) dX11_named_47 fl_X11_25 rfl h (fun v7 h => ?_))
    obtain ⟨b9, hb8, h⟩ := ch_bd h
    obtain ⟨v10, hp11, h⟩ := ch_bd h
    refine ch_iload_n 2 _ dX11_named_50 rfl (ch_iv yX8_get prog_9_method_3_code 2 (some .int) (ci := 8) (q := (RX8, TX8, 2)) (b := b9) (d' := 2) (av := [.int x2]) (rest := []) (by rw [ch_rs hb8]; rfl) dX11_named_51 q1151 q1152 rfl q1153 q1154 can_X8_get (Nat.le_of_ble_eq_true rfl) (Nat.le_of_ble_eq_true rfl) (ch_rtg hb8) (cp_kI (v := v10) (w1 := p5) (fun Q' hq => s_X8_get hp11 hq) ?_))
    obtain rfl := Option.some.inj h
    exact ch_ireturn _ dX11_named_54 rfl rfl hk
  · subst h
    exact ch_th rfl hk

def c_X11_named_30 (g : State) (t0 : Nat) (x2 : Int32) (y0 : Nat) (w : ch_W) : Option (Except Nat Int32 × ch_W) := c_X11_named_35 g t0 x2 1 y0 w
theorem s_X11_named_30 {g : State} {t0 : Nat} {x2 : Int32} {y0 : Nat} {w : ch_W} {res : Except Nat Int32 × ch_W} {Q : Outcome → ch_W → Prop} (h : c_X11_named_30 g t0 x2 y0 w = some res) (hk : (ch_xI Q) res) : ch_FT g true mX11_named 9 30 [some (va_rf (some t0)), none, some (.int x2), none] [va_rf (some y0)] (w) Q := by
  unfold c_X11_named_30 at h
  exact ch_iconst _ 1 dX11_named_30 rfl (ch_goto 35 dX11_named_31 rfl (ch_FT.wk (ch_wS (ch_wN (ch_wS (ch_wN ch_w0)))) (s_X11_named_35  h hk)))

def c_X11_named (g : State) (t0 : Nat) (x1 : Int32) (w : ch_W) : Option (Except Nat Int32 × ch_W) := (ch_gR w (some t0) 12 fX11_names).bind fun v1 => (ch_rc w v1 9).bind fun b3 => (c_X8_find b3 x1 w).bind fun v4 => if v4 < 0 then ((ch_gR w (some t0) 12 fX11_own).bind fun v6 => (ch_rc w v6 7).bind fun b8 => (c_X6_field b8 x1 w).bind fun v9 => if v9 = none then (c_X11_named_74 g t0 v9 0 t0 w) else (c_X11_named_74 g t0 v9 1 t0 w)) else ((ch_gI w (some t0) 12 fX11_isDead).bind fun v11 => if v11 = 0 then ((ch_gR w (some t0) 12 fX11_set).bind fun v12 => (ch_lI w v12 23 v4).bind fun v13 => if v13 = 0 then (c_X11_named_35 g t0 v4 0 t0 w) else (c_X11_named_30 g t0 v4 t0 w)) else (c_X11_named_30 g t0 v4 t0 w))
theorem s_X11_named {g : State} {t0 : Nat} {x1 : Int32} {w : ch_W} {res : Except Nat Int32 × ch_W} {Q : Outcome → ch_W → Prop} (h : c_X11_named g t0 x1 w = some res) (hk : (ch_xI Q) res) : ch_CT g true yX11_named 9 [.ref t0, .int x1] (w) Q := by
  unfold c_X11_named at h
  refine ch_ctL mX11_named (ls := [some (va_rf (some t0)), some (.int x1), none, none]) q1225 rfl (ch_lyr (r := some t0) (ch_lyi ch_ly0)) (Nat.le_of_ble_eq_true rfl) rfl ?_
  refine ch_aload_n 0 (some t0) dX11_named_0 rfl (cp_gR (ci := 11) (k := 7) dX11_named_1 fl_X11_21 rfl h (fun v1 h => ?_))
  obtain ⟨b3, hb2, h⟩ := ch_bd h
  obtain ⟨v4, hp5, h⟩ := ch_bd h
  refine ch_iload_n 1 _ dX11_named_4 rfl (ch_iv yX8_find prog_9_method_4_code 3 (some .int) (ci := 8) (q := (RX8, TX8, 2)) (b := b3) (d' := 2) (av := [.int x1]) (rest := []) (by rw [ch_rs hb2]; rfl) dX11_named_5 q1155 q1156 rfl q1157 q1158 can_X8_find (Nat.le_of_ble_eq_true rfl) (Nat.le_of_ble_eq_true rfl) (ch_rtg hb2) (cp_kI (v := v4) (w1 := w) (fun Q' hq => s_X8_find hp5 hq) ?_))
  refine ch_istore_n 2 _ (ls1 := [some (va_rf (some t0)), some (.int x1), some (.int v4), none]) dX11_named_8 (Nat.le_of_ble_eq_true rfl) rfl (ch_iload_n 2 _ dX11_named_9 rfl (cp_if_lt _ (tgt := 55) dX11_named_10 rfl h (fun h => ?_) (fun h => ?_)))
  · refine ch_aload_n 0 (some t0) dX11_named_55 rfl (cp_gR (ci := 11) (k := 3) dX11_named_56 fl_X11_199 rfl h (fun v6 h => ?_))
    obtain ⟨b8, hb7, h⟩ := ch_bd h
    obtain ⟨v9, hp10, h⟩ := ch_bd h
    refine ch_iload_n 1 _ dX11_named_59 rfl (ch_iv yX6_field prog_4_method_4_code 4 (some (.object "ClassHouse$Member")) (ci := 6) (q := (RX6, TX6, 8)) (b := b8) (d' := 6) (av := [.int x1]) (rest := []) (by rw [ch_rs hb7]; rfl) dX11_named_60 q1164 q1165 rfl q1166 q1167 can_X6_field (Nat.le_of_ble_eq_true rfl) (Nat.le_of_ble_eq_true rfl) (ch_rtg hb7) (cp_kR (v := v9) (w1 := w) (fun Q' hq => s_X6_field hp10 hq) ?_))
    refine ch_astore_n 3 v9 (ls1 := [some (va_rf (some t0)), some (.int x1), some (.int v4), some (va_rf v9)]) dX11_named_63 (Nat.le_of_ble_eq_true rfl) rfl (ch_aload_n 0 (some t0) dX11_named_64 rfl (ch_aload_n 3 v9 dX11_named_65 rfl (cp_ifnull v9 (tgt := 73) dX11_named_66 rfl h (fun h => ?_) (fun h => ?_))))
    · exact ch_iconst _ 0 dX11_named_73 rfl (ch_FT.wk (ch_wS (ch_wN (ch_wN (ch_wS ch_w0)))) (s_X11_named_74  h hk))
    · exact ch_iconst _ 1 dX11_named_69 rfl (ch_goto 74 dX11_named_70 rfl (ch_FT.wk (ch_wS (ch_wN (ch_wN (ch_wS ch_w0)))) (s_X11_named_74  h hk)))
  · refine ch_aload_n 0 (some t0) dX11_named_13 rfl (ch_aload_n 0 (some t0) dX11_named_14 rfl (cp_gI (ci := 11) (k := 10) dX11_named_15 fl_X11_204 rfl h (fun v11 h => ?_)))
    refine cp_if_ne _ (tgt := 30) dX11_named_18 rfl h (fun h => ?_) (fun h => ?_)
    · exact ch_FT.wk (ch_wS (ch_wN (ch_wS (ch_wN ch_w0)))) (s_X11_named_30  h hk)
    · refine ch_aload_n 0 (some t0) dX11_named_21 rfl (cp_gR (ci := 11) (k := 9) dX11_named_22 fl_X11_28 rfl h (fun v12 h => ?_))
      refine ch_iload_n 2 _ dX11_named_25 rfl (cp_zald (t := 23) dX11_named_26 rfl rfl h (fun v13 h => ?_))
      refine cp_if_eq _ (tgt := 34) dX11_named_27 rfl h (fun h => ?_) (fun h => ?_)
      · exact ch_iconst _ 0 dX11_named_34 rfl (ch_FT.wk (ch_wS (ch_wN (ch_wS (ch_wN ch_w0)))) (s_X11_named_35  h hk))
      · exact ch_FT.wk (ch_wS (ch_wN (ch_wS (ch_wN ch_w0)))) (s_X11_named_30  h hk)

theorem bX6_isSub_0 : ch_ck cX6_isSub 0 [42, 77, 44, 198, 0, 16, 44, 43, 165, 0, 11, 44, 180, 0, 45, 77] := ch_ckof (by decide +kernel)
theorem bX6_isSub_1 : ch_ck cX6_isSub 16 [167, 255, 242, 44, 198, 0, 7, 4, 167, 0, 4, 3, 172] := ch_ckof (by decide +kernel)
theorem dX6_isSub_0 : decode cX6_isSub 0 = .ok (.aload_n 0, 1) := dz_42 (bX6_isSub_0 0 _ rfl)
theorem dX6_isSub_1 : decode cX6_isSub 1 = .ok (.astore_n 2, 1) := dz_77 (bX6_isSub_0 1 _ rfl)
theorem dX6_isSub_2 : decode cX6_isSub 2 = .ok (.aload_n 2, 1) := dz_44 (bX6_isSub_0 2 _ rfl)
theorem dX6_isSub_3 : decode cX6_isSub 3 = .ok (.ifnull 16, 3) := dz_198 (bX6_isSub_0 3 _ rfl) (bX6_isSub_0 4 _ rfl) (bX6_isSub_0 5 _ rfl)
theorem dX6_isSub_6 : decode cX6_isSub 6 = .ok (.aload_n 2, 1) := dz_44 (bX6_isSub_0 6 _ rfl)
theorem dX6_isSub_7 : decode cX6_isSub 7 = .ok (.aload_n 1, 1) := dz_43 (bX6_isSub_0 7 _ rfl)
theorem dX6_isSub_8 : decode cX6_isSub 8 = .ok (.if_acmp .eq 11, 3) := dz_165 (bX6_isSub_0 8 _ rfl) (bX6_isSub_0 9 _ rfl) (bX6_isSub_0 10 _ rfl)
theorem dX6_isSub_11 : decode cX6_isSub 11 = .ok (.aload_n 2, 1) := dz_44 (bX6_isSub_0 11 _ rfl)
theorem dX6_isSub_12 : decode cX6_isSub 12 = .ok (.getfield 45, 3) := dz_180 (bX6_isSub_0 12 _ rfl) (bX6_isSub_0 13 _ rfl) (bX6_isSub_0 14 _ rfl)
theorem dX6_isSub_15 : decode cX6_isSub 15 = .ok (.astore_n 2, 1) := dz_77 (bX6_isSub_0 15 _ rfl)
theorem dX6_isSub_16 : decode cX6_isSub 16 = .ok (.goto (-14), 3) := dz_167 (bX6_isSub_1 0 _ rfl) (bX6_isSub_1 1 _ rfl) (bX6_isSub_1 2 _ rfl)
theorem dX6_isSub_19 : decode cX6_isSub 19 = .ok (.aload_n 2, 1) := dz_44 (bX6_isSub_1 3 _ rfl)
theorem dX6_isSub_20 : decode cX6_isSub 20 = .ok (.ifnull 7, 3) := dz_198 (bX6_isSub_1 4 _ rfl) (bX6_isSub_1 5 _ rfl) (bX6_isSub_1 6 _ rfl)
theorem dX6_isSub_23 : decode cX6_isSub 23 = .ok (.iconst 1, 1) := dz_4 (bX6_isSub_1 7 _ rfl)
theorem dX6_isSub_24 : decode cX6_isSub 24 = .ok (.goto 4, 3) := dz_167 (bX6_isSub_1 8 _ rfl) (bX6_isSub_1 9 _ rfl) (bX6_isSub_1 10 _ rfl)
theorem dX6_isSub_27 : decode cX6_isSub 27 = .ok (.iconst 0, 1) := dz_3 (bX6_isSub_1 11 _ rfl)
theorem dX6_isSub_28 : decode cX6_isSub 28 = .ok (.ireturn, 1) := dz_172 (bX6_isSub_1 12 _ rfl)
def c_X6_isSub_19 (t0 : Nat) (x2 : Option Nat)  (w : ch_W) : Option (Int32) := if x2 = none then (some (0)) else (some (1))
theorem s_X6_isSub_19 {g : State} {kb : Bool} {t0 : Nat} {x2 : Option Nat} {w : ch_W} {res : Int32} {Q : Outcome → ch_W → Prop} (h : c_X6_isSub_19 t0 x2 w = some res) (hk : (fun r => ch_eI Q (r, w)) res) : ch_FT g kb mX6_isSub 2 19 [none, none, some (va_rf x2)] [] (w) Q := by
  unfold c_X6_isSub_19 at h
  refine ch_aload_n 2 x2 dX6_isSub_19 rfl (cp_ifnull x2 (tgt := 27) dX6_isSub_20 rfl h (fun h => ?_) (fun h => ?_))
  · obtain rfl := Option.some.inj h
    exact ch_iconst _ 0 dX6_isSub_27 rfl (ch_ireturn _ dX6_isSub_28 rfl rfl hk)
  · obtain rfl := Option.some.inj h
    exact ch_iconst _ 1 dX6_isSub_23 rfl (ch_goto 28 dX6_isSub_24 rfl (ch_ireturn _ dX6_isSub_28 rfl rfl hk))

def c_X6_isSub_2 (t0 : Nat) (x1 : Option Nat) (x2 : Option Nat)  (w : ch_W) : Option ((Option Nat) ⊕ (Int32)) := if x2 = none then ((c_X6_isSub_19 t0 x2 w).bind fun r => some (.inr (r))) else (if x2 = x1 then ((c_X6_isSub_19 t0 x2 w).bind fun r => some (.inr (r))) else ((ch_gR w x2 7 fX6_parent).bind fun v1 => some (.inl (v1))))
theorem s_X6_isSub_2 {g : State} {kb : Bool} {t0 : Nat} {x1 : Option Nat} {x2 : Option Nat} {w : ch_W} {res : (Option Nat) ⊕ (Int32)} {Q : Outcome → ch_W → Prop} (h : c_X6_isSub_2 t0 x1 x2 w = some res) (hk : (ch_sm (fun s => ch_FT g kb mX6_isSub 2 2 [none, some (va_rf x1), some (va_rf s)] [] (w) Q) (fun r => ch_eI Q (r, w))) res) : ch_FT g kb mX6_isSub 2 2 [none, some (va_rf x1), some (va_rf x2)] [] (w) Q := by
  unfold c_X6_isSub_2 at h
  refine ch_aload_n 2 x2 dX6_isSub_2 rfl (cp_ifnull x2 (tgt := 19) dX6_isSub_3 rfl h (fun h => ?_) (fun h => ?_))
  · obtain ⟨r, hr, h⟩ := ch_bd h
    obtain rfl := Option.some.inj h
    exact ch_FT.wk (ch_wN (ch_wN (ch_wS ch_w0))) (s_X6_isSub_19  hr hk)
  · refine ch_aload_n 2 x2 dX6_isSub_6 rfl (ch_aload_n 1 x1 dX6_isSub_7 rfl (cp_acmp_eq x2 x1 (tgt := 19) dX6_isSub_8 rfl h (fun h => ?_) (fun h => ?_)))
    · obtain ⟨r, hr, h⟩ := ch_bd h
      obtain rfl := Option.some.inj h
      exact ch_FT.wk (ch_wN (ch_wN (ch_wS ch_w0))) (s_X6_isSub_19  hr hk)
    · refine ch_aload_n 2 x2 dX6_isSub_11 rfl (cp_gR (ci := 6) (k := 3) dX6_isSub_12 fl_X6_45 rfl h (fun v1 h => ?_))
      refine ch_astore_n 2 v1 (ls1 := [none, some (va_rf x1), some (va_rf v1)]) dX6_isSub_15 (Nat.le_of_ble_eq_true rfl) (ch_s1o rfl rfl) (ch_goto 2 dX6_isSub_16 rfl (ch_FT.wk (ch_wN (ch_wS (ch_wS ch_w0))) ?_))
      obtain rfl := Option.some.inj h
      exact hk
theorem sl_X6_isSub_2 {g : State} {kb : Bool} {t0 : Nat} {x1 : Option Nat} {w : ch_W} {a : (Option Nat)} {res : Int32} {Q : Outcome → ch_W → Prop} (h : ch_loop (fun (s : (Option Nat)) => c_X6_isSub_2 t0 x1 s w) a = some res) (hk : (fun r => ch_eI Q (r, w)) res) : ch_FT g kb mX6_isSub 2 2 [none, some (va_rf x1), some (va_rf a)] [] (w) Q := by
  refine ch_loop_ind (fun (a : (Option Nat)) (r : Int32) => (fun r => ch_eI Q (r, w)) r → ch_FT g kb mX6_isSub 2 2 [none, some (va_rf x1), some (va_rf a)] [] (w) Q) ?_ ?_ a res h hk
  · intro a a2 b h1 ih hk
    exact s_X6_isSub_2  h1 (ih hk)
  · intro a b h1 hk
    exact s_X6_isSub_2  h1 hk

def c_X6_isSub (t0 : Nat) (x1 : Option Nat) (w : ch_W) : Option (Int32) := ch_loop (fun (s : (Option Nat)) => c_X6_isSub_2 t0 x1 s w) (some t0)
theorem s_X6_isSub {g : State} {kb : Bool} {t0 : Nat} {x1 : Option Nat} {w : ch_W} {res : Int32} {Q : Outcome → ch_W → Prop} (h : c_X6_isSub t0 x1 w = some res) (hk : (fun r => ch_eI Q (r, w)) res) : ch_CT g kb yX6_isSub 2 [.ref t0, va_rf x1] (w) Q := by
  unfold c_X6_isSub at h
  refine ch_ctL mX6_isSub (ls := [some (va_rf (some t0)), some (va_rf x1), none]) q1241 rfl (ch_lyr (r := some t0) (ch_lyr (r := x1) ch_ly0)) (Nat.le_of_ble_eq_true rfl) rfl ?_
  exact ch_aload_n 0 (some t0) dX6_isSub_0 rfl (ch_astore_n 2 (some t0) (ls1 := [some (va_rf (some t0)), some (va_rf x1), some (va_rf (some t0))]) dX6_isSub_1 (Nat.le_of_ble_eq_true rfl) (ch_s1o rfl rfl) (ch_FT.wk (ch_wN (ch_wS (ch_wS ch_w0))) (sl_X6_isSub_2  h hk)))

theorem bX11_isSub_0 : ch_ck cX11_isSub 0 [27, 28, 160, 0, 5, 4, 172, 27, 16, 251, 160, 0, 19, 28, 156, 0] := ch_ckof (by decide +kernel)
theorem bX11_isSub_1 : ch_ck cX11_isSub 16 [9, 28, 16, 253, 160, 0, 7, 4, 167, 0, 4, 3, 172, 27, 155, 0] := ch_ckof (by decide +kernel)
theorem bX11_isSub_2 : ch_ck cX11_isSub 32 [39, 28, 155, 0, 35, 42, 180, 0, 12, 27, 182, 0, 71, 192, 0, 51] := ch_ckof (by decide +kernel)
theorem bX11_isSub_3 : ch_ck cX11_isSub 48 [42, 180, 0, 12, 28, 182, 0, 71, 192, 0, 51, 182, 0, 102, 153, 0] := ch_ckof (by decide +kernel)
theorem bX11_isSub_4 : ch_ck cX11_isSub 64 [7, 4, 167, 0, 4, 3, 172] := ch_ckof (by decide +kernel)
theorem dX11_isSub_0 : decode cX11_isSub 0 = .ok (.iload_n 1, 1) := dz_27 (bX11_isSub_0 0 _ rfl)
theorem dX11_isSub_1 : decode cX11_isSub 1 = .ok (.iload_n 2, 1) := dz_28 (bX11_isSub_0 1 _ rfl)
theorem dX11_isSub_2 : decode cX11_isSub 2 = .ok (.if_icmp .ne 5, 3) := dz_160 (bX11_isSub_0 2 _ rfl) (bX11_isSub_0 3 _ rfl) (bX11_isSub_0 4 _ rfl)
theorem dX11_isSub_5 : decode cX11_isSub 5 = .ok (.iconst 1, 1) := dz_4 (bX11_isSub_0 5 _ rfl)
theorem dX11_isSub_6 : decode cX11_isSub 6 = .ok (.ireturn, 1) := dz_172 (bX11_isSub_0 6 _ rfl)
theorem dX11_isSub_7 : decode cX11_isSub 7 = .ok (.iload_n 1, 1) := dz_27 (bX11_isSub_0 7 _ rfl)
theorem dX11_isSub_8 : decode cX11_isSub 8 = .ok (.bipush (-5), 2) := dz_16 (bX11_isSub_0 8 _ rfl) (bX11_isSub_0 9 _ rfl)
theorem dX11_isSub_10 : decode cX11_isSub 10 = .ok (.if_icmp .ne 19, 3) := dz_160 (bX11_isSub_0 10 _ rfl) (bX11_isSub_0 11 _ rfl) (bX11_isSub_0 12 _ rfl)
theorem dX11_isSub_13 : decode cX11_isSub 13 = .ok (.iload_n 2, 1) := dz_28 (bX11_isSub_0 13 _ rfl)
theorem dX11_isSub_14 : decode cX11_isSub 14 = .ok (.ifCond .ge 9, 3) := dz_156 (bX11_isSub_0 14 _ rfl) (bX11_isSub_0 15 _ rfl) (bX11_isSub_1 0 _ rfl)
theorem dX11_isSub_17 : decode cX11_isSub 17 = .ok (.iload_n 2, 1) := dz_28 (bX11_isSub_1 1 _ rfl)
theorem dX11_isSub_18 : decode cX11_isSub 18 = .ok (.bipush (-3), 2) := dz_16 (bX11_isSub_1 2 _ rfl) (bX11_isSub_1 3 _ rfl)
theorem dX11_isSub_20 : decode cX11_isSub 20 = .ok (.if_icmp .ne 7, 3) := dz_160 (bX11_isSub_1 4 _ rfl) (bX11_isSub_1 5 _ rfl) (bX11_isSub_1 6 _ rfl)
theorem dX11_isSub_23 : decode cX11_isSub 23 = .ok (.iconst 1, 1) := dz_4 (bX11_isSub_1 7 _ rfl)
theorem dX11_isSub_24 : decode cX11_isSub 24 = .ok (.goto 4, 3) := dz_167 (bX11_isSub_1 8 _ rfl) (bX11_isSub_1 9 _ rfl) (bX11_isSub_1 10 _ rfl)
theorem dX11_isSub_27 : decode cX11_isSub 27 = .ok (.iconst 0, 1) := dz_3 (bX11_isSub_1 11 _ rfl)
theorem dX11_isSub_28 : decode cX11_isSub 28 = .ok (.ireturn, 1) := dz_172 (bX11_isSub_1 12 _ rfl)
theorem dX11_isSub_29 : decode cX11_isSub 29 = .ok (.iload_n 1, 1) := dz_27 (bX11_isSub_1 13 _ rfl)
theorem dX11_isSub_30 : decode cX11_isSub 30 = .ok (.ifCond .lt 39, 3) := dz_155 (bX11_isSub_1 14 _ rfl) (bX11_isSub_1 15 _ rfl) (bX11_isSub_2 0 _ rfl)
theorem dX11_isSub_33 : decode cX11_isSub 33 = .ok (.iload_n 2, 1) := dz_28 (bX11_isSub_2 1 _ rfl)
theorem dX11_isSub_34 : decode cX11_isSub 34 = .ok (.ifCond .lt 35, 3) := dz_155 (bX11_isSub_2 2 _ rfl) (bX11_isSub_2 3 _ rfl) (bX11_isSub_2 4 _ rfl)
theorem dX11_isSub_37 : decode cX11_isSub 37 = .ok (.aload_n 0, 1) := dz_42 (bX11_isSub_2 5 _ rfl)
theorem dX11_isSub_38 : decode cX11_isSub 38 = .ok (.getfield 12, 3) := dz_180 (bX11_isSub_2 6 _ rfl) (bX11_isSub_2 7 _ rfl) (bX11_isSub_2 8 _ rfl)
theorem dX11_isSub_41 : decode cX11_isSub 41 = .ok (.iload_n 1, 1) := dz_27 (bX11_isSub_2 9 _ rfl)
theorem dX11_isSub_42 : decode cX11_isSub 42 = .ok (.invokevirtual 71, 3) := dz_182 (bX11_isSub_2 10 _ rfl) (bX11_isSub_2 11 _ rfl) (bX11_isSub_2 12 _ rfl)
theorem dX11_isSub_45 : decode cX11_isSub 45 = .ok (.checkcast 51, 3) := dz_192 (bX11_isSub_2 13 _ rfl) (bX11_isSub_2 14 _ rfl) (bX11_isSub_2 15 _ rfl)
theorem dX11_isSub_48 : decode cX11_isSub 48 = .ok (.aload_n 0, 1) := dz_42 (bX11_isSub_3 0 _ rfl)
theorem dX11_isSub_49 : decode cX11_isSub 49 = .ok (.getfield 12, 3) := dz_180 (bX11_isSub_3 1 _ rfl) (bX11_isSub_3 2 _ rfl) (bX11_isSub_3 3 _ rfl)
theorem dX11_isSub_52 : decode cX11_isSub 52 = .ok (.iload_n 2, 1) := dz_28 (bX11_isSub_3 4 _ rfl)
theorem dX11_isSub_53 : decode cX11_isSub 53 = .ok (.invokevirtual 71, 3) := dz_182 (bX11_isSub_3 5 _ rfl) (bX11_isSub_3 6 _ rfl) (bX11_isSub_3 7 _ rfl)
theorem dX11_isSub_56 : decode cX11_isSub 56 = .ok (.checkcast 51, 3) := dz_192 (bX11_isSub_3 8 _ rfl) (bX11_isSub_3 9 _ rfl) (bX11_isSub_3 10 _ rfl)
theorem dX11_isSub_59 : decode cX11_isSub 59 = .ok (.invokevirtual 102, 3) := dz_182 (bX11_isSub_3 11 _ rfl) (bX11_isSub_3 12 _ rfl) (bX11_isSub_3 13 _ rfl)
theorem dX11_isSub_62 : decode cX11_isSub 62 = .ok (.ifCond .eq 7, 3) := dz_153 (bX11_isSub_3 14 _ rfl) (bX11_isSub_3 15 _ rfl) (bX11_isSub_4 0 _ rfl)
theorem dX11_isSub_65 : decode cX11_isSub 65 = .ok (.iconst 1, 1) := dz_4 (bX11_isSub_4 1 _ rfl)
theorem dX11_isSub_66 : decode cX11_isSub 66 = .ok (.goto 4, 3) := dz_167 (bX11_isSub_4 2 _ rfl) (bX11_isSub_4 3 _ rfl) (bX11_isSub_4 4 _ rfl)
theorem dX11_isSub_69 : decode cX11_isSub 69 = .ok (.iconst 0, 1) := dz_3 (bX11_isSub_4 5 _ rfl)
theorem dX11_isSub_70 : decode cX11_isSub 70 = .ok (.ireturn, 1) := dz_172 (bX11_isSub_4 6 _ rfl)
def c_X11_isSub (t0 : Nat) (x1 : Int32) (x2 : Int32) (w : ch_W) : Option (Int32) := if x1 = x2 then (some (1)) else (if x1 = (-5) then (if x2 < 0 then (if x2 = (-3) then (some (1)) else (some (0))) else (some (1))) else (if x1 < 0 then (some (0)) else (if x2 < 0 then (some (0)) else ((ch_gR w (some t0) 12 fX11_kinds).bind fun v1 => (ch_rc w v1 14).bind fun b3 => (c_J5_get b3 x1 w).bind fun v4 => (ch_cast w v4 7).bind fun _ => (ch_gR w (some t0) 12 fX11_kinds).bind fun v6 => (ch_rc w v6 14).bind fun b8 => (c_J5_get b8 x2 w).bind fun v9 => (ch_cast w v9 7).bind fun _ => (ch_rc w v4 7).bind fun b12 => (c_X6_isSub b12 v9 w).bind fun v13 => if v13 = 0 then (some (0)) else (some (1))))))
theorem s_X11_isSub {g : State} {kb : Bool} {t0 : Nat} {x1 : Int32} {x2 : Int32} {w : ch_W} {res : Int32} {Q : Outcome → ch_W → Prop} (h : c_X11_isSub t0 x1 x2 w = some res) (hk : (fun r => ch_eI Q (r, w)) res) : ch_CT g kb yX11_isSub 5 [.ref t0, .int x1, .int x2] (w) Q := by
  unfold c_X11_isSub at h
  refine ch_ctL mX11_isSub (ls := [some (va_rf (some t0)), some (.int x1), some (.int x2)]) q1237 rfl (ch_lyr (r := some t0) (ch_lyi (ch_lyi ch_ly0))) (Nat.le_of_ble_eq_true rfl) rfl ?_
  refine ch_iload_n 1 _ dX11_isSub_0 rfl (ch_iload_n 2 _ dX11_isSub_1 rfl (cp_icmp_ne _ _ (tgt := 7) dX11_isSub_2 rfl h (fun h => ?_) (fun h => ?_)))
  · refine ch_iload_n 1 _ dX11_isSub_7 rfl (ch_bipush _ (-5) dX11_isSub_8 rfl (cp_icmp_ne _ _ (tgt := 29) dX11_isSub_10 rfl h (fun h => ?_) (fun h => ?_)))
    · refine ch_iload_n 1 _ dX11_isSub_29 rfl (cp_if_lt _ (tgt := 69) dX11_isSub_30 rfl h (fun h => ?_) (fun h => ?_))
      · obtain rfl := Option.some.inj h
        exact ch_iconst _ 0 dX11_isSub_69 rfl (ch_ireturn _ dX11_isSub_70 rfl rfl hk)
      · refine ch_iload_n 2 _ dX11_isSub_33 rfl (cp_if_lt _ (tgt := 69) dX11_isSub_34 rfl h (fun h => ?_) (fun h => ?_))
        · obtain rfl := Option.some.inj h
          exact ch_iconst _ 0 dX11_isSub_69 rfl (ch_ireturn _ dX11_isSub_70 rfl rfl hk)
        · refine ch_aload_n 0 (some t0) dX11_isSub_37 rfl (cp_gR (ci := 11) (k := 1) dX11_isSub_38 fl_X11_12 rfl h (fun v1 h => ?_))
          obtain ⟨b3, hb2, h⟩ := ch_bd h
          obtain ⟨v4, hp5, h⟩ := ch_bd h
          refine ch_iload_n 1 _ dX11_isSub_41 rfl (ch_iv yJ5_get prog_32_method_20_code 2 (some (.object "java/lang/Object")) (ci := 13) (q := (RJ5, TJ5, 3)) (b := b3) (d' := 4) (av := [.int x1]) (rest := []) (by rw [ch_rs hb2]; rfl) dX11_isSub_42 q1062 q612 rfl q613 q614 can_J5_get (Nat.le_of_ble_eq_true rfl) (Nat.le_of_ble_eq_true rfl) (ch_rtg hb2) (cp_kR (v := v4) (w1 := w) (fun Q' hq => s_J5_get hp5 hq) ?_))
          refine cp_cast (ci := 6) (q := (RX6, TX6, 8)) dX11_isSub_45 rfl q1054 h (fun h => ?_)
          refine ch_aload_n 0 (some t0) dX11_isSub_48 rfl (cp_gR (ci := 11) (k := 1) dX11_isSub_49 fl_X11_12 rfl h (fun v6 h => ?_))
          obtain ⟨b8, hb7, h⟩ := ch_bd h
          obtain ⟨v9, hp10, h⟩ := ch_bd h
          refine ch_iload_n 2 _ dX11_isSub_52 rfl (ch_iv yJ5_get prog_32_method_20_code 2 (some (.object "java/lang/Object")) (ci := 13) (q := (RJ5, TJ5, 3)) (b := b8) (d' := 4) (av := [.int x2]) (rest := [va_rf v4]) (by rw [ch_rs hb7]; rfl) dX11_isSub_53 q1062 q612 rfl q613 q614 can_J5_get (Nat.le_of_ble_eq_true rfl) (ch_hw (Nat.le_of_ble_eq_true rfl)) (ch_rtg hb7) (cp_kR (v := v9) (w1 := w) (fun Q' hq => s_J5_get hp10 hq) ?_))
          refine cp_cast (ci := 6) (q := (RX6, TX6, 8)) dX11_isSub_56 rfl q1054 h (fun h => ?_)
          obtain ⟨b12, hb11, h⟩ := ch_bd h
          obtain ⟨v13, hp14, h⟩ := ch_bd h
          refine ch_iv yX6_isSub prog_4_method_6_code 3 (some .boolean) (ci := 6) (q := (RX6, TX6, 8)) (b := b12) (d' := 2) (av := [va_rf v9]) (rest := []) (by rw [ch_rs hb11]; rfl) dX11_isSub_59 q1238 q1239 rfl q1240 q1241 can_X6_isSub (Nat.le_of_ble_eq_true rfl) (Nat.le_of_ble_eq_true rfl) (ch_rtg hb11) (cp_kI (v := v13) (w1 := w) (fun Q' hq => s_X6_isSub hp14 hq) ?_)
          refine cp_if_eq _ (tgt := 69) dX11_isSub_62 rfl h (fun h => ?_) (fun h => ?_)
          · obtain rfl := Option.some.inj h
            exact ch_iconst _ 0 dX11_isSub_69 rfl (ch_ireturn _ dX11_isSub_70 rfl rfl hk)
          · obtain rfl := Option.some.inj h
            exact ch_iconst _ 1 dX11_isSub_65 rfl (ch_goto 70 dX11_isSub_66 rfl (ch_ireturn _ dX11_isSub_70 rfl rfl hk))
    · refine ch_iload_n 2 _ dX11_isSub_13 rfl (cp_if_ge _ (tgt := 23) dX11_isSub_14 rfl h (fun h => ?_) (fun h => ?_))
      · obtain rfl := Option.some.inj h
        exact ch_iconst _ 1 dX11_isSub_23 rfl (ch_goto 28 dX11_isSub_24 rfl (ch_ireturn _ dX11_isSub_28 rfl rfl hk))
      · refine ch_iload_n 2 _ dX11_isSub_17 rfl (ch_bipush _ (-3) dX11_isSub_18 rfl (cp_icmp_ne _ _ (tgt := 27) dX11_isSub_20 rfl h (fun h => ?_) (fun h => ?_)))
        · obtain rfl := Option.some.inj h
          exact ch_iconst _ 0 dX11_isSub_27 rfl (ch_ireturn _ dX11_isSub_28 rfl rfl hk)
        · obtain rfl := Option.some.inj h
          exact ch_iconst _ 1 dX11_isSub_23 rfl (ch_goto 28 dX11_isSub_24 rfl (ch_ireturn _ dX11_isSub_28 rfl rfl hk))
  · obtain rfl := Option.some.inj h
    exact ch_iconst _ 1 dX11_isSub_5 rfl (ch_ireturn _ dX11_isSub_6 rfl rfl hk)

theorem bX11_isReference_0 : ch_ck cX11_isReference 0 [26, 156, 0, 15, 26, 16, 253, 159, 0, 9, 26, 16, 251, 160, 0, 7] := ch_ckof (by decide +kernel)
theorem bX11_isReference_1 : ch_ck cX11_isReference 16 [4, 167, 0, 4, 3, 172] := ch_ckof (by decide +kernel)
theorem dX11_isReference_0 : decode cX11_isReference 0 = .ok (.iload_n 0, 1) := dz_26 (bX11_isReference_0 0 _ rfl)
theorem dX11_isReference_1 : decode cX11_isReference 1 = .ok (.ifCond .ge 15, 3) := dz_156 (bX11_isReference_0 1 _ rfl) (bX11_isReference_0 2 _ rfl) (bX11_isReference_0 3 _ rfl)
theorem dX11_isReference_4 : decode cX11_isReference 4 = .ok (.iload_n 0, 1) := dz_26 (bX11_isReference_0 4 _ rfl)
theorem dX11_isReference_5 : decode cX11_isReference 5 = .ok (.bipush (-3), 2) := dz_16 (bX11_isReference_0 5 _ rfl) (bX11_isReference_0 6 _ rfl)
theorem dX11_isReference_7 : decode cX11_isReference 7 = .ok (.if_icmp .eq 9, 3) := dz_159 (bX11_isReference_0 7 _ rfl) (bX11_isReference_0 8 _ rfl) (bX11_isReference_0 9 _ rfl)
theorem dX11_isReference_10 : decode cX11_isReference 10 = .ok (.iload_n 0, 1) := dz_26 (bX11_isReference_0 10 _ rfl)
theorem dX11_isReference_11 : decode cX11_isReference 11 = .ok (.bipush (-5), 2) := dz_16 (bX11_isReference_0 11 _ rfl) (bX11_isReference_0 12 _ rfl)
theorem dX11_isReference_13 : decode cX11_isReference 13 = .ok (.if_icmp .ne 7, 3) := dz_160 (bX11_isReference_0 13 _ rfl) (bX11_isReference_0 14 _ rfl) (bX11_isReference_0 15 _ rfl)
theorem dX11_isReference_16 : decode cX11_isReference 16 = .ok (.iconst 1, 1) := dz_4 (bX11_isReference_1 0 _ rfl)
theorem dX11_isReference_17 : decode cX11_isReference 17 = .ok (.goto 4, 3) := dz_167 (bX11_isReference_1 1 _ rfl) (bX11_isReference_1 2 _ rfl) (bX11_isReference_1 3 _ rfl)
theorem dX11_isReference_20 : decode cX11_isReference 20 = .ok (.iconst 0, 1) := dz_3 (bX11_isReference_1 4 _ rfl)
theorem dX11_isReference_21 : decode cX11_isReference 21 = .ok (.ireturn, 1) := dz_172 (bX11_isReference_1 5 _ rfl)
def c_X11_isReference (x0 : Int32) (w : ch_W) : Option (Int32) := if x0 < 0 then (if x0 = (-3) then (some (1)) else (if x0 = (-5) then (some (1)) else (some (0)))) else (some (1))
theorem s_X11_isReference {g : State} {kb : Bool} {x0 : Int32} {w : ch_W} {res : Int32} {Q : Outcome → ch_W → Prop} (h : c_X11_isReference x0 w = some res) (hk : (fun r => ch_eI Q (r, w)) res) : ch_CT g kb yX11_isReference 2 [.int x0] (w) Q := by
  unfold c_X11_isReference at h
  refine ch_ctL mX11_isReference (ls := [some (.int x0)]) q1262 rfl (ch_lyi ch_ly0) (Nat.le_of_ble_eq_true rfl) rfl ?_
  refine ch_iload_n 0 _ dX11_isReference_0 rfl (cp_if_ge _ (tgt := 16) dX11_isReference_1 rfl h (fun h => ?_) (fun h => ?_))
  · obtain rfl := Option.some.inj h
    exact ch_iconst _ 1 dX11_isReference_16 rfl (ch_goto 21 dX11_isReference_17 rfl (ch_ireturn _ dX11_isReference_21 rfl rfl hk))
  · refine ch_iload_n 0 _ dX11_isReference_4 rfl (ch_bipush _ (-3) dX11_isReference_5 rfl (cp_icmp_eq _ _ (tgt := 16) dX11_isReference_7 rfl h (fun h => ?_) (fun h => ?_)))
    · obtain rfl := Option.some.inj h
      exact ch_iconst _ 1 dX11_isReference_16 rfl (ch_goto 21 dX11_isReference_17 rfl (ch_ireturn _ dX11_isReference_21 rfl rfl hk))
    · refine ch_iload_n 0 _ dX11_isReference_10 rfl (ch_bipush _ (-5) dX11_isReference_11 rfl (cp_icmp_ne _ _ (tgt := 20) dX11_isReference_13 rfl h (fun h => ?_) (fun h => ?_)))
      · obtain rfl := Option.some.inj h
        exact ch_iconst _ 0 dX11_isReference_20 rfl (ch_ireturn _ dX11_isReference_21 rfl rfl hk)
      · obtain rfl := Option.some.inj h
        exact ch_iconst _ 1 dX11_isReference_16 rfl (ch_goto 21 dX11_isReference_17 rfl (ch_ireturn _ dX11_isReference_21 rfl rfl hk))

theorem bX11_value_0 : ch_ck cX11_value 0 [42, 180, 0, 32, 182, 0, 67, 61, 43, 78, 45, 180, 1, 36, 16, 10] := ch_ckof (by decide +kernel)
theorem bX11_value_1 : ch_ck cX11_value 16 [161, 0, 20, 42, 180, 0, 32, 45, 182, 0, 62, 87, 45, 180, 1, 42] := ch_ckof (by decide +kernel)
theorem bX11_value_2 : ch_ck cX11_value 32 [78, 167, 255, 233, 42, 45, 182, 1, 73, 54, 4, 42, 180, 0, 32, 182] := ch_ckof (by decide +kernel)
theorem bX11_value_3 : ch_ck cX11_value 48 [0, 67, 28, 164, 0, 33, 42, 42, 180, 0, 32, 42, 180, 0, 32, 182] := ch_ckof (by decide +kernel)
theorem bX11_value_4 : ch_ck cX11_value 64 [0, 67, 4, 100, 182, 1, 75, 192, 1, 37, 21, 4, 182, 1, 78, 54] := ch_ckof (by decide +kernel)
theorem bX11_value_5 : ch_ck cX11_value 80 [4, 167, 255, 218, 21, 4, 172] := ch_ckof (by decide +kernel)
theorem dX11_value_0 : decode cX11_value 0 = .ok (.aload_n 0, 1) := dz_42 (bX11_value_0 0 _ rfl)
theorem dX11_value_1 : decode cX11_value 1 = .ok (.getfield 32, 3) := dz_180 (bX11_value_0 1 _ rfl) (bX11_value_0 2 _ rfl) (bX11_value_0 3 _ rfl)
theorem dX11_value_4 : decode cX11_value 4 = .ok (.invokevirtual 67, 3) := dz_182 (bX11_value_0 4 _ rfl) (bX11_value_0 5 _ rfl) (bX11_value_0 6 _ rfl)
theorem dX11_value_7 : decode cX11_value 7 = .ok (.istore_n 2, 1) := dz_61 (bX11_value_0 7 _ rfl)
theorem dX11_value_8 : decode cX11_value 8 = .ok (.aload_n 1, 1) := dz_43 (bX11_value_0 8 _ rfl)
theorem dX11_value_9 : decode cX11_value 9 = .ok (.astore_n 3, 1) := dz_78 (bX11_value_0 9 _ rfl)
theorem dX11_value_10 : decode cX11_value 10 = .ok (.aload_n 3, 1) := dz_45 (bX11_value_0 10 _ rfl)
theorem dX11_value_11 : decode cX11_value 11 = .ok (.getfield 292, 3) := dz_180 (bX11_value_0 11 _ rfl) (bX11_value_0 12 _ rfl) (bX11_value_0 13 _ rfl)
theorem dX11_value_14 : decode cX11_value 14 = .ok (.bipush 10, 2) := dz_16 (bX11_value_0 14 _ rfl) (bX11_value_0 15 _ rfl)
theorem dX11_value_16 : decode cX11_value 16 = .ok (.if_icmp .lt 20, 3) := dz_161 (bX11_value_1 0 _ rfl) (bX11_value_1 1 _ rfl) (bX11_value_1 2 _ rfl)
theorem dX11_value_19 : decode cX11_value 19 = .ok (.aload_n 0, 1) := dz_42 (bX11_value_1 3 _ rfl)
theorem dX11_value_20 : decode cX11_value 20 = .ok (.getfield 32, 3) := dz_180 (bX11_value_1 4 _ rfl) (bX11_value_1 5 _ rfl) (bX11_value_1 6 _ rfl)
theorem dX11_value_23 : decode cX11_value 23 = .ok (.aload_n 3, 1) := dz_45 (bX11_value_1 7 _ rfl)
theorem dX11_value_24 : decode cX11_value 24 = .ok (.invokevirtual 62, 3) := dz_182 (bX11_value_1 8 _ rfl) (bX11_value_1 9 _ rfl) (bX11_value_1 10 _ rfl)
theorem dX11_value_27 : decode cX11_value 27 = .ok (.pop, 1) := dz_87 (bX11_value_1 11 _ rfl)
theorem dX11_value_28 : decode cX11_value 28 = .ok (.aload_n 3, 1) := dz_45 (bX11_value_1 12 _ rfl)
theorem dX11_value_29 : decode cX11_value 29 = .ok (.getfield 298, 3) := dz_180 (bX11_value_1 13 _ rfl) (bX11_value_1 14 _ rfl) (bX11_value_1 15 _ rfl)
theorem dX11_value_32 : decode cX11_value 32 = .ok (.astore_n 3, 1) := dz_78 (bX11_value_2 0 _ rfl)
theorem dX11_value_33 : decode cX11_value 33 = .ok (.goto (-23), 3) := dz_167 (bX11_value_2 1 _ rfl) (bX11_value_2 2 _ rfl) (bX11_value_2 3 _ rfl)
theorem dX11_value_36 : decode cX11_value 36 = .ok (.aload_n 0, 1) := dz_42 (bX11_value_2 4 _ rfl)
theorem dX11_value_37 : decode cX11_value 37 = .ok (.aload_n 3, 1) := dz_45 (bX11_value_2 5 _ rfl)
theorem dX11_value_38 : decode cX11_value 38 = .ok (.invokevirtual 329, 3) := dz_182 (bX11_value_2 6 _ rfl) (bX11_value_2 7 _ rfl) (bX11_value_2 8 _ rfl)
theorem dX11_value_41 : decode cX11_value 41 = .ok (.istore 4, 2) := dz_54 (bX11_value_2 9 _ rfl) (bX11_value_2 10 _ rfl)
theorem dX11_value_43 : decode cX11_value 43 = .ok (.aload_n 0, 1) := dz_42 (bX11_value_2 11 _ rfl)
theorem dX11_value_44 : decode cX11_value 44 = .ok (.getfield 32, 3) := dz_180 (bX11_value_2 12 _ rfl) (bX11_value_2 13 _ rfl) (bX11_value_2 14 _ rfl)
theorem dX11_value_47 : decode cX11_value 47 = .ok (.invokevirtual 67, 3) := dz_182 (bX11_value_2 15 _ rfl) (bX11_value_3 0 _ rfl) (bX11_value_3 1 _ rfl)
theorem dX11_value_50 : decode cX11_value 50 = .ok (.iload_n 2, 1) := dz_28 (bX11_value_3 2 _ rfl)
theorem dX11_value_51 : decode cX11_value 51 = .ok (.if_icmp .le 33, 3) := dz_164 (bX11_value_3 3 _ rfl) (bX11_value_3 4 _ rfl) (bX11_value_3 5 _ rfl)
theorem dX11_value_54 : decode cX11_value 54 = .ok (.aload_n 0, 1) := dz_42 (bX11_value_3 6 _ rfl)
theorem dX11_value_55 : decode cX11_value 55 = .ok (.aload_n 0, 1) := dz_42 (bX11_value_3 7 _ rfl)
theorem dX11_value_56 : decode cX11_value 56 = .ok (.getfield 32, 3) := dz_180 (bX11_value_3 8 _ rfl) (bX11_value_3 9 _ rfl) (bX11_value_3 10 _ rfl)
theorem dX11_value_59 : decode cX11_value 59 = .ok (.aload_n 0, 1) := dz_42 (bX11_value_3 11 _ rfl)
theorem dX11_value_60 : decode cX11_value 60 = .ok (.getfield 32, 3) := dz_180 (bX11_value_3 12 _ rfl) (bX11_value_3 13 _ rfl) (bX11_value_3 14 _ rfl)
theorem dX11_value_63 : decode cX11_value 63 = .ok (.invokevirtual 67, 3) := dz_182 (bX11_value_3 15 _ rfl) (bX11_value_4 0 _ rfl) (bX11_value_4 1 _ rfl)
theorem dX11_value_66 : decode cX11_value 66 = .ok (.iconst 1, 1) := dz_4 (bX11_value_4 2 _ rfl)
theorem dX11_value_67 : decode cX11_value 67 = .ok (.isub, 1) := dz_100 (bX11_value_4 3 _ rfl)
theorem dX11_value_68 : decode cX11_value 68 = .ok (.invokevirtual 331, 3) := dz_182 (bX11_value_4 4 _ rfl) (bX11_value_4 5 _ rfl) (bX11_value_4 6 _ rfl)
theorem dX11_value_71 : decode cX11_value 71 = .ok (.checkcast 293, 3) := dz_192 (bX11_value_4 7 _ rfl) (bX11_value_4 8 _ rfl) (bX11_value_4 9 _ rfl)
theorem dX11_value_74 : decode cX11_value 74 = .ok (.iload 4, 2) := dz_21 (bX11_value_4 10 _ rfl) (bX11_value_4 11 _ rfl)
theorem dX11_value_76 : decode cX11_value 76 = .ok (.invokevirtual 334, 3) := dz_182 (bX11_value_4 12 _ rfl) (bX11_value_4 13 _ rfl) (bX11_value_4 14 _ rfl)
theorem dX11_value_79 : decode cX11_value 79 = .ok (.istore 4, 2) := dz_54 (bX11_value_4 15 _ rfl) (bX11_value_5 0 _ rfl)
theorem dX11_value_81 : decode cX11_value 81 = .ok (.goto (-38), 3) := dz_167 (bX11_value_5 1 _ rfl) (bX11_value_5 2 _ rfl) (bX11_value_5 3 _ rfl)
theorem dX11_value_84 : decode cX11_value 84 = .ok (.iload 4, 2) := dz_21 (bX11_value_5 4 _ rfl) (bX11_value_5 5 _ rfl)
theorem dX11_value_86 : decode cX11_value 86 = .ok (.ireturn, 1) := dz_172 (bX11_value_5 6 _ rfl)
def c_X11_value_43 (rc : Nat → Nat → (Option Nat) → (Option Nat) → Int32 → ch_W → Option (Except Nat Int32 × ch_W)) (g : State) (t0 : Nat) (x2 : Int32) (x4 : Int32)  (w : ch_W) : Option ((Int32 × ch_W) ⊕ (Except Nat Int32 × ch_W)) := (ch_gR w (some t0) 12 fX11_spine).bind fun v1 => (ch_rc w v1 14).bind fun b3 => (c_J5_size b3 w).bind fun v4 => if x2 < v4 then ((ch_gR w (some t0) 12 fX11_spine).bind fun v6 => (ch_gR w (some t0) 12 fX11_spine).bind fun v7 => (ch_rc w v7 14).bind fun b9 => (c_J5_size b9 w).bind fun v10 => (ch_rc w v6 14).bind fun b13 => (c_J5_remove b13 (v10 - 1) w).bind fun p14 => (ch_cast p14.2 p14.1 11).bind fun _ => (ch_rc p14.2 (some t0) 12).bind fun _ => ch_tb (rc 3 t0 p14.1 none x4 p14.2) (fun a w => .inr ((.error a, w))) fun v17 w18 => some (.inl (v17, w18))) else (some (.inr ((.ok x4, w))))
theorem s_X11_value_43 {g : State} {d : Nat} {rc : Nat → Nat → (Option Nat) → (Option Nat) → Int32 → ch_W → Option (Except Nat Int32 × ch_W)} (hr1 : ∀ {t0 : Nat} {z0 : Option Nat} {w : ch_W} {p : Except Nat Int32 × ch_W} {Q : Outcome → ch_W → Prop}, rc 1 t0 z0 none 0 w = some p → ch_xI Q p → ch_CT g true yX11_first (d + 10) [.ref t0, va_rf z0] (w) Q) (hr3 : ∀ {t0 : Nat} {z0 : Option Nat} {z1 : Int32} {w : ch_W} {p : Except Nat Int32 × ch_W} {Q : Outcome → ch_W → Prop}, rc 3 t0 z0 none z1 w = some p → ch_xI Q p → ch_CT g true yX11_behind (d + 10) [.ref t0, va_rf z0, .int z1] (w) Q)  {t0 : Nat} {x2 : Int32} {x4 : Int32} {w : ch_W} {res : (Int32 × ch_W) ⊕ (Except Nat Int32 × ch_W)} {Q : Outcome → ch_W → Prop} (h : c_X11_value_43 rc g t0 x2 x4 w = some res) (hk : (ch_sm (fun s => ch_FT g true mX11_value (d + 11) 43 [some (va_rf (some t0)), none, some (.int x2), none, some (.int s.1)] [] (s.2) Q) (ch_xI Q)) res) : ch_FT g true mX11_value (d + 11) 43 [some (va_rf (some t0)), none, some (.int x2), none, some (.int x4)] [] (w) Q := by
  unfold c_X11_value_43 at h
  refine ch_aload_n 0 (some t0) dX11_value_43 rfl (cp_gR (ci := 11) (k := 11) dX11_value_44 fl_X11_32 rfl h (fun v1 h => ?_))
  obtain ⟨b3, hb2, h⟩ := ch_bd h
  obtain ⟨v4, hp5, h⟩ := ch_bd h
  refine ch_iv yJ5_size prog_32_method_8_code 1 (some .int) (ci := 13) (q := (RJ5, TJ5, 3)) (b := b3) (d' := 2) (av := []) (rest := []) (by rw [ch_rs hb2]; rfl) dX11_value_47 q1061 q608 rfl q609 q610 can_J5_size (Nat.le_trans (Nat.le_of_ble_eq_true rfl) (Nat.le_add_left 11 d)) (Nat.le_of_ble_eq_true rfl) (ch_rtg hb2) (cp_kI (v := v4) (w1 := w) (fun Q' hq => s_J5_size hp5 hq) ?_)
  refine ch_iload_n 2 _ dX11_value_50 rfl (cp_icmp_le _ _ (tgt := 84) dX11_value_51 rfl h (fun h => ?_) (fun h => ?_))
  · obtain rfl := Option.some.inj h
    exact ch_iload 4 _ dX11_value_84 rfl (ch_ireturn _ dX11_value_86 rfl rfl hk)
  · refine ch_aload_n 0 (some t0) dX11_value_54 rfl (ch_aload_n 0 (some t0) dX11_value_55 rfl (cp_gR (ci := 11) (k := 11) dX11_value_56 fl_X11_32 rfl h (fun v6 h => ?_)))
    refine ch_aload_n 0 (some t0) dX11_value_59 rfl (cp_gR (ci := 11) (k := 11) dX11_value_60 fl_X11_32 rfl h (fun v7 h => ?_))
    obtain ⟨b9, hb8, h⟩ := ch_bd h
    obtain ⟨v10, hp11, h⟩ := ch_bd h
    refine ch_iv yJ5_size prog_32_method_8_code 1 (some .int) (ci := 13) (q := (RJ5, TJ5, 3)) (b := b9) (d' := 2) (av := []) (rest := [va_rf v6, va_rf (some t0)]) (by rw [ch_rs hb8]; rfl) dX11_value_63 q1061 q608 rfl q609 q610 can_J5_size (Nat.le_trans (Nat.le_of_ble_eq_true rfl) (Nat.le_add_left 11 d)) (ch_hw (Nat.le_of_ble_eq_true rfl)) (ch_rtg hb8) (cp_kI (v := v10) (w1 := w) (fun Q' hq => s_J5_size hp11 hq) ?_)
    obtain ⟨b13, hb12, h⟩ := ch_bd h
    obtain ⟨p14, hp15, h⟩ := ch_bd h
    refine ch_iconst _ 1 dX11_value_66 rfl (ch_isub _ _ dX11_value_67 (ch_iv yJ5_remove prog_32_method_29_code 4 (some (.object "java/lang/Object")) (ci := 13) (q := (RJ5, TJ5, 3)) (b := b13) (d' := 4) (av := [.int (v10 - 1)]) (rest := [va_rf (some t0)]) (by rw [ch_rs hb12]; rfl) dX11_value_68 q1242 q1243 rfl q1244 q1245 can_J5_remove (Nat.le_trans (Nat.le_of_ble_eq_true rfl) (Nat.le_add_left 11 d)) (ch_hw (Nat.le_of_ble_eq_true rfl)) (ch_rtg hb12) (cp_kR (v := p14.1) (w1 := p14.2) (fun Q' hq => s_J5_remove hp15 hq) ?_)))
    refine cp_cast (ci := 10) (q := (RX10, TX10, 6)) dX11_value_71 rfl q1251 h (fun h => ?_)
    obtain ⟨_, hb16, h⟩ := ch_bd h
    refine ch_iload 4 _ dX11_value_74 rfl (ch_iv yX11_behind prog_2_method_32_code 6 (some .int) (ci := 11) (q := (RX11, TX11, 14)) (b := t0) (d' := (d + 10)) (av := [va_rf p14.1, .int x4]) (rest := []) rfl dX11_value_76 q1252 q1254 rfl qs56 q1255 can_X11_behind (Nat.le_refl _) (Nat.le_of_ble_eq_true rfl) (ch_rts hb16) (cp_tI h (fun p hp Q' hq => hr3 hp hq) (fun v17 w18 h => ?_) (fun a w1 h => ?_)))
    · refine ch_istore 4 _ (ls1 := [some (va_rf (some t0)), none, some (.int x2), none, some (.int v17)]) dX11_value_79 (Nat.le_of_ble_eq_true rfl) rfl (ch_goto 43 dX11_value_81 rfl (ch_FT.wk (ch_wS (ch_wN (ch_wS (ch_wN (ch_wS ch_w0))))) ?_))
      obtain rfl := Option.some.inj h
      exact hk
    · subst h
      exact ch_th rfl hk
theorem sl_X11_value_43 {g : State} {d : Nat} {rc : Nat → Nat → (Option Nat) → (Option Nat) → Int32 → ch_W → Option (Except Nat Int32 × ch_W)} (hr1 : ∀ {t0 : Nat} {z0 : Option Nat} {w : ch_W} {p : Except Nat Int32 × ch_W} {Q : Outcome → ch_W → Prop}, rc 1 t0 z0 none 0 w = some p → ch_xI Q p → ch_CT g true yX11_first (d + 10) [.ref t0, va_rf z0] (w) Q) (hr3 : ∀ {t0 : Nat} {z0 : Option Nat} {z1 : Int32} {w : ch_W} {p : Except Nat Int32 × ch_W} {Q : Outcome → ch_W → Prop}, rc 3 t0 z0 none z1 w = some p → ch_xI Q p → ch_CT g true yX11_behind (d + 10) [.ref t0, va_rf z0, .int z1] (w) Q)  {t0 : Nat} {x2 : Int32} {a : Int32 × ch_W} {res : Except Nat Int32 × ch_W} {Q : Outcome → ch_W → Prop} (h : ch_loop (fun (s : Int32 × ch_W) => c_X11_value_43 rc g t0 x2 s.1 s.2) a = some res) (hk : (ch_xI Q) res) : ch_FT g true mX11_value (d + 11) 43 [some (va_rf (some t0)), none, some (.int x2), none, some (.int a.1)] [] (a.2) Q := by
  refine ch_loop_ind (fun (a : Int32 × ch_W) (r : Except Nat Int32 × ch_W) => (ch_xI Q) r → ch_FT g true mX11_value (d + 11) 43 [some (va_rf (some t0)), none, some (.int x2), none, some (.int a.1)] [] (a.2) Q) ?_ ?_ a res h hk
  · intro a a2 b h1 ih hk
    exact s_X11_value_43 hr1 hr3 h1 (ih hk)
  · intro a b h1 hk
    exact s_X11_value_43 hr1 hr3 h1 hk

def c_X11_value_10 (rc : Nat → Nat → (Option Nat) → (Option Nat) → Int32 → ch_W → Option (Except Nat Int32 × ch_W)) (g : State) (t0 : Nat) (x2 : Int32) (x3 : Option Nat)  (w : ch_W) : Option (((Option Nat) × ch_W) ⊕ (Except Nat Int32 × ch_W)) := (ch_gI w x3 11 fX10_kind).bind fun v1 => if v1 < 10 then ((ch_rc w (some t0) 12).bind fun _ => ch_tb (rc 1 t0 x3 none 0 w) (fun a w => .inr ((.error a, w))) fun v3 w4 => (ch_loop (fun (s : Int32 × ch_W) => c_X11_value_43 rc g t0 x2 s.1 s.2) (v3, w4)).bind fun r => some (.inr (r))) else ((ch_gR w (some t0) 12 fX11_spine).bind fun v5 => (ch_rc w v5 14).bind fun b7 => (c_J5_add g b7 x3 w).bind fun p8 => (ch_gR p8.2 x3 11 fX10_left).bind fun v10 => some (.inl (v10, p8.2)))
theorem s_X11_value_10 {g : State} {d : Nat} {rc : Nat → Nat → (Option Nat) → (Option Nat) → Int32 → ch_W → Option (Except Nat Int32 × ch_W)} (hr1 : ∀ {t0 : Nat} {z0 : Option Nat} {w : ch_W} {p : Except Nat Int32 × ch_W} {Q : Outcome → ch_W → Prop}, rc 1 t0 z0 none 0 w = some p → ch_xI Q p → ch_CT g true yX11_first (d + 10) [.ref t0, va_rf z0] (w) Q) (hr3 : ∀ {t0 : Nat} {z0 : Option Nat} {z1 : Int32} {w : ch_W} {p : Except Nat Int32 × ch_W} {Q : Outcome → ch_W → Prop}, rc 3 t0 z0 none z1 w = some p → ch_xI Q p → ch_CT g true yX11_behind (d + 10) [.ref t0, va_rf z0, .int z1] (w) Q)  {t0 : Nat} {x2 : Int32} {x3 : Option Nat} {w : ch_W} {res : ((Option Nat) × ch_W) ⊕ (Except Nat Int32 × ch_W)} {Q : Outcome → ch_W → Prop} (h : c_X11_value_10 rc g t0 x2 x3 w = some res) (hk : (ch_sm (fun s => ch_FT g true mX11_value (d + 11) 10 [some (va_rf (some t0)), none, some (.int x2), some (va_rf s.1), none] [] (s.2) Q) (ch_xI Q)) res) : ch_FT g true mX11_value (d + 11) 10 [some (va_rf (some t0)), none, some (.int x2), some (va_rf x3), none] [] (w) Q := by
  unfold c_X11_value_10 at h
  refine ch_aload_n 3 x3 dX11_value_10 rfl (cp_gI (ci := 10) (k := 0) dX11_value_11 fl_X11_292 rfl h (fun v1 h => ?_))
  refine ch_bipush _ 10 dX11_value_14 rfl (cp_icmp_lt _ _ (tgt := 36) dX11_value_16 rfl h (fun h => ?_) (fun h => ?_))
  · obtain ⟨_, hb2, h⟩ := ch_bd h
    refine ch_aload_n 0 (some t0) dX11_value_36 rfl (ch_aload_n 3 x3 dX11_value_37 rfl (ch_iv yX11_first prog_2_method_29_code 4 (some .int) (ci := 11) (q := (RX11, TX11, 14)) (b := t0) (d' := (d + 10)) (av := [va_rf x3]) (rest := []) rfl dX11_value_38 q1210 q1212 rfl qs49 q1213 can_X11_first (Nat.le_refl _) (Nat.le_of_ble_eq_true rfl) (ch_rts hb2) (cp_tI h (fun p hp Q' hq => hr1 hp hq) (fun v3 w4 h => ?_) (fun a w1 h => ?_))))
    · obtain ⟨r, hr, h⟩ := ch_bd h
      obtain rfl := Option.some.inj h
      exact ch_istore 4 _ (ls1 := [some (va_rf (some t0)), none, some (.int x2), some (va_rf x3), some (.int v3)]) dX11_value_41 (Nat.le_of_ble_eq_true rfl) (ch_s1o rfl rfl) (ch_FT.wk (ch_wS (ch_wN (ch_wS (ch_wN (ch_wS ch_w0))))) (sl_X11_value_43 hr1 hr3 hr hk))
    · subst h
      exact ch_th rfl hk
  · refine ch_aload_n 0 (some t0) dX11_value_19 rfl (cp_gR (ci := 11) (k := 11) dX11_value_20 fl_X11_32 rfl h (fun v5 h => ?_))
    obtain ⟨b7, hb6, h⟩ := ch_bd h
    obtain ⟨p8, hp9, h⟩ := ch_bd h
    refine ch_aload_n 3 x3 dX11_value_23 rfl (ch_iv yJ5_add prog_32_method_25_code 2 (some .boolean) (ci := 13) (q := (RJ5, TJ5, 3)) (b := b7) (d' := 8) (av := [va_rf x3]) (rest := []) (by rw [ch_rs hb6]; rfl) dX11_value_24 q1060 q631 rfl q632 q633 can_J5_add (Nat.le_trans (Nat.le_of_ble_eq_true rfl) (Nat.le_add_left 11 d)) (Nat.le_of_ble_eq_true rfl) (ch_rtg hb6) (cp_kI (v := p8.1) (w1 := p8.2) (fun Q' hq => s_J5_add hp9 hq) ?_))
    refine ch_pop dX11_value_27 rfl (ch_aload_n 3 x3 dX11_value_28 rfl (cp_gR (ci := 10) (k := 1) dX11_value_29 fl_X11_298 rfl h (fun v10 h => ?_)))
    refine ch_astore_n 3 v10 (ls1 := [some (va_rf (some t0)), none, some (.int x2), some (va_rf v10), none]) dX11_value_32 (Nat.le_of_ble_eq_true rfl) rfl (ch_goto 10 dX11_value_33 rfl (ch_FT.wk (ch_wS (ch_wN (ch_wS (ch_wS (ch_wN ch_w0))))) ?_))
    obtain rfl := Option.some.inj h
    exact hk
theorem sl_X11_value_10 {g : State} {d : Nat} {rc : Nat → Nat → (Option Nat) → (Option Nat) → Int32 → ch_W → Option (Except Nat Int32 × ch_W)} (hr1 : ∀ {t0 : Nat} {z0 : Option Nat} {w : ch_W} {p : Except Nat Int32 × ch_W} {Q : Outcome → ch_W → Prop}, rc 1 t0 z0 none 0 w = some p → ch_xI Q p → ch_CT g true yX11_first (d + 10) [.ref t0, va_rf z0] (w) Q) (hr3 : ∀ {t0 : Nat} {z0 : Option Nat} {z1 : Int32} {w : ch_W} {p : Except Nat Int32 × ch_W} {Q : Outcome → ch_W → Prop}, rc 3 t0 z0 none z1 w = some p → ch_xI Q p → ch_CT g true yX11_behind (d + 10) [.ref t0, va_rf z0, .int z1] (w) Q)  {t0 : Nat} {x2 : Int32} {a : (Option Nat) × ch_W} {res : Except Nat Int32 × ch_W} {Q : Outcome → ch_W → Prop} (h : ch_loop (fun (s : (Option Nat) × ch_W) => c_X11_value_10 rc g t0 x2 s.1 s.2) a = some res) (hk : (ch_xI Q) res) : ch_FT g true mX11_value (d + 11) 10 [some (va_rf (some t0)), none, some (.int x2), some (va_rf a.1), none] [] (a.2) Q := by
  refine ch_loop_ind (fun (a : (Option Nat) × ch_W) (r : Except Nat Int32 × ch_W) => (ch_xI Q) r → ch_FT g true mX11_value (d + 11) 10 [some (va_rf (some t0)), none, some (.int x2), some (va_rf a.1), none] [] (a.2) Q) ?_ ?_ a res h hk
  · intro a a2 b h1 ih hk
    exact s_X11_value_10 hr1 hr3 h1 (ih hk)
  · intro a b h1 hk
    exact s_X11_value_10 hr1 hr3 h1 hk

def c_X11_value (rc : Nat → Nat → (Option Nat) → (Option Nat) → Int32 → ch_W → Option (Except Nat Int32 × ch_W)) (g : State) (t0 : Nat) (x1 : Option Nat) (w : ch_W) : Option (Except Nat Int32 × ch_W) := (ch_gR w (some t0) 12 fX11_spine).bind fun v1 => (ch_rc w v1 14).bind fun b3 => (c_J5_size b3 w).bind fun v4 => ch_loop (fun (s : (Option Nat) × ch_W) => c_X11_value_10 rc g t0 v4 s.1 s.2) (x1, w)
theorem s_X11_value {g : State} {d : Nat} {rc : Nat → Nat → (Option Nat) → (Option Nat) → Int32 → ch_W → Option (Except Nat Int32 × ch_W)} (hr1 : ∀ {t0 : Nat} {z0 : Option Nat} {w : ch_W} {p : Except Nat Int32 × ch_W} {Q : Outcome → ch_W → Prop}, rc 1 t0 z0 none 0 w = some p → ch_xI Q p → ch_CT g true yX11_first (d + 10) [.ref t0, va_rf z0] (w) Q) (hr3 : ∀ {t0 : Nat} {z0 : Option Nat} {z1 : Int32} {w : ch_W} {p : Except Nat Int32 × ch_W} {Q : Outcome → ch_W → Prop}, rc 3 t0 z0 none z1 w = some p → ch_xI Q p → ch_CT g true yX11_behind (d + 10) [.ref t0, va_rf z0, .int z1] (w) Q)  {t0 : Nat} {x1 : Option Nat} {w : ch_W} {res : Except Nat Int32 × ch_W} {Q : Outcome → ch_W → Prop} (h : c_X11_value rc g t0 x1 w = some res) (hk : (ch_xI Q) res) : ch_CT g true yX11_value (d + 11) [.ref t0, va_rf x1] (w) Q := by
  unfold c_X11_value at h
  refine ch_ctL mX11_value (ls := [some (va_rf (some t0)), some (va_rf x1), none, none, none]) q1209 rfl (ch_lyr (r := some t0) (ch_lyr (r := x1) ch_ly0)) (Nat.le_of_ble_eq_true rfl) rfl ?_
  refine ch_aload_n 0 (some t0) dX11_value_0 rfl (cp_gR (ci := 11) (k := 11) dX11_value_1 fl_X11_32 rfl h (fun v1 h => ?_))
  obtain ⟨b3, hb2, h⟩ := ch_bd h
  obtain ⟨v4, hp5, h⟩ := ch_bd h
  refine ch_iv yJ5_size prog_32_method_8_code 1 (some .int) (ci := 13) (q := (RJ5, TJ5, 3)) (b := b3) (d' := 2) (av := []) (rest := []) (by rw [ch_rs hb2]; rfl) dX11_value_4 q1061 q608 rfl q609 q610 can_J5_size (Nat.le_trans (Nat.le_of_ble_eq_true rfl) (Nat.le_add_left 11 d)) (Nat.le_of_ble_eq_true rfl) (ch_rtg hb2) (cp_kI (v := v4) (w1 := w) (fun Q' hq => s_J5_size hp5 hq) ?_)
  exact ch_istore_n 2 _ (ls1 := [some (va_rf (some t0)), some (va_rf x1), some (.int v4), none, none]) dX11_value_7 (Nat.le_of_ble_eq_true rfl) (ch_s1o rfl rfl) (ch_aload_n 1 x1 dX11_value_8 rfl (ch_astore_n 3 x1 (ls1 := [some (va_rf (some t0)), some (va_rf x1), some (.int v4), some (va_rf x1), none]) dX11_value_9 (Nat.le_of_ble_eq_true rfl) rfl (ch_FT.wk (ch_wS (ch_wN (ch_wS (ch_wS (ch_wN ch_w0))))) (sl_X11_value_10 hr1 hr3 h hk))))

theorem bX11_first_0 : ch_ck cX11_first 0 [43, 180, 1, 36, 170, 0, 0, 0, 0, 0, 0, 182, 0, 0, 0, 0] := ch_ckof (by decide +kernel)
theorem bX11_first_1 : ch_ck cX11_first 16 [0, 0, 0, 7, 0, 0, 0, 48, 0, 0, 0, 62, 0, 0, 0, 70] := ch_ckof (by decide +kernel)
theorem bX11_first_2 : ch_ck cX11_first 32 [0, 0, 0, 83, 0, 0, 0, 90, 0, 0, 0, 99, 0, 0, 0, 115] := ch_ckof (by decide +kernel)
theorem bX11_first_3 : ch_ck cX11_first 48 [0, 0, 0, 152, 42, 3, 43, 180, 1, 39, 182, 0, 247, 43, 180, 1] := ch_ckof (by decide +kernel)
theorem bX11_first_4 : ch_ck cX11_first 64 [82, 172, 42, 4, 182, 0, 221, 16, 251, 172, 42, 5, 182, 0, 221, 42] := ch_ckof (by decide +kernel)
theorem bX11_first_5 : ch_ck cX11_first 80 [180, 0, 199, 180, 0, 75, 172, 42, 6, 182, 0, 221, 2, 172, 42, 43] := ch_ckof (by decide +kernel)
theorem bX11_first_6 : ch_ck cX11_first 96 [180, 1, 39, 182, 1, 83, 172, 42, 16, 32, 182, 0, 221, 42, 42, 180] := ch_ckof (by decide +kernel)
theorem bX11_first_7 : ch_ck cX11_first 112 [0, 199, 43, 182, 1, 86, 172, 42, 43, 180, 1, 39, 182, 0, 98, 77] := ch_ckof (by decide +kernel)
theorem bX11_first_8 : ch_ck cX11_first 128 [42, 44, 198, 0, 7, 4, 167, 0, 4, 3, 182, 1, 18, 42, 16, 9] := ch_ckof (by decide +kernel)
theorem bX11_first_9 : ch_ck cX11_first 144 [44, 180, 0, 75, 182, 0, 247, 44, 180, 0, 75, 172, 42, 42, 43, 180] := ch_ckof (by decide +kernel)
theorem bX11_first_10 : ch_ck cX11_first 160 [1, 45, 182, 1, 6, 2, 160, 0, 7, 4, 167, 0, 4, 3, 182, 1] := ch_ckof (by decide +kernel)
theorem bX11_first_11 : ch_ck cX11_first 176 [18, 42, 16, 10, 182, 0, 221, 16, 253, 172, 43, 180, 1, 36, 16, 8] := ch_ckof (by decide +kernel)
theorem bX11_first_12 : ch_ck cX11_first 192 [160, 0, 7, 2, 167, 0, 5, 16, 254, 62, 42, 42, 43, 180, 1, 45] := ch_ckof (by decide +kernel)
theorem bX11_first_13 : ch_ck cX11_first 208 [182, 1, 6, 29, 160, 0, 7, 4, 167, 0, 4, 3, 182, 1, 18, 42] := ch_ckof (by decide +kernel)
theorem bX11_first_14 : ch_ck cX11_first 224 [43, 180, 1, 36, 16, 8, 160, 0, 8, 16, 13, 167, 0, 5, 16, 14] := ch_ckof (by decide +kernel)
theorem bX11_first_15 : ch_ck cX11_first 240 [182, 0, 221, 29, 172] := ch_ckof (by decide +kernel)
theorem dX11_first_0 : decode cX11_first 0 = .ok (.aload_n 1, 1) := dz_43 (bX11_first_0 0 _ rfl)
theorem dX11_first_1 : decode cX11_first 1 = .ok (.getfield 292, 3) := dz_180 (bX11_first_0 1 _ rfl) (bX11_first_0 2 _ rfl) (bX11_first_0 3 _ rfl)
theorem dX11_first_4 : decode cX11_first 4 = .ok (.tableswitch 182 0 7 #[48, 62, 70, 83, 90, 99, 115, 152], 48) := by decide +kernel
theorem dX11_first_52 : decode cX11_first 52 = .ok (.aload_n 0, 1) := dz_42 (bX11_first_3 4 _ rfl)
theorem dX11_first_53 : decode cX11_first 53 = .ok (.iconst 0, 1) := dz_3 (bX11_first_3 5 _ rfl)
theorem dX11_first_54 : decode cX11_first 54 = .ok (.aload_n 1, 1) := dz_43 (bX11_first_3 6 _ rfl)
theorem dX11_first_55 : decode cX11_first 55 = .ok (.getfield 295, 3) := dz_180 (bX11_first_3 7 _ rfl) (bX11_first_3 8 _ rfl) (bX11_first_3 9 _ rfl)
theorem dX11_first_58 : decode cX11_first 58 = .ok (.invokevirtual 247, 3) := dz_182 (bX11_first_3 10 _ rfl) (bX11_first_3 11 _ rfl) (bX11_first_3 12 _ rfl)
theorem dX11_first_61 : decode cX11_first 61 = .ok (.aload_n 1, 1) := dz_43 (bX11_first_3 13 _ rfl)
theorem dX11_first_62 : decode cX11_first 62 = .ok (.getfield 338, 3) := dz_180 (bX11_first_3 14 _ rfl) (bX11_first_3 15 _ rfl) (bX11_first_4 0 _ rfl)
theorem dX11_first_65 : decode cX11_first 65 = .ok (.ireturn, 1) := dz_172 (bX11_first_4 1 _ rfl)
theorem dX11_first_66 : decode cX11_first 66 = .ok (.aload_n 0, 1) := dz_42 (bX11_first_4 2 _ rfl)
theorem dX11_first_67 : decode cX11_first 67 = .ok (.iconst 1, 1) := dz_4 (bX11_first_4 3 _ rfl)
theorem dX11_first_68 : decode cX11_first 68 = .ok (.invokevirtual 221, 3) := dz_182 (bX11_first_4 4 _ rfl) (bX11_first_4 5 _ rfl) (bX11_first_4 6 _ rfl)
theorem dX11_first_71 : decode cX11_first 71 = .ok (.bipush (-5), 2) := dz_16 (bX11_first_4 7 _ rfl) (bX11_first_4 8 _ rfl)
theorem dX11_first_73 : decode cX11_first 73 = .ok (.ireturn, 1) := dz_172 (bX11_first_4 9 _ rfl)
theorem dX11_first_74 : decode cX11_first 74 = .ok (.aload_n 0, 1) := dz_42 (bX11_first_4 10 _ rfl)
theorem dX11_first_75 : decode cX11_first 75 = .ok (.iconst 2, 1) := dz_5 (bX11_first_4 11 _ rfl)
theorem dX11_first_76 : decode cX11_first 76 = .ok (.invokevirtual 221, 3) := dz_182 (bX11_first_4 12 _ rfl) (bX11_first_4 13 _ rfl) (bX11_first_4 14 _ rfl)
theorem dX11_first_79 : decode cX11_first 79 = .ok (.aload_n 0, 1) := dz_42 (bX11_first_4 15 _ rfl)
theorem dX11_first_80 : decode cX11_first 80 = .ok (.getfield 199, 3) := dz_180 (bX11_first_5 0 _ rfl) (bX11_first_5 1 _ rfl) (bX11_first_5 2 _ rfl)
theorem dX11_first_83 : decode cX11_first 83 = .ok (.getfield 75, 3) := dz_180 (bX11_first_5 3 _ rfl) (bX11_first_5 4 _ rfl) (bX11_first_5 5 _ rfl)
theorem dX11_first_86 : decode cX11_first 86 = .ok (.ireturn, 1) := dz_172 (bX11_first_5 6 _ rfl)
theorem dX11_first_87 : decode cX11_first 87 = .ok (.aload_n 0, 1) := dz_42 (bX11_first_5 7 _ rfl)
theorem dX11_first_88 : decode cX11_first 88 = .ok (.iconst 3, 1) := dz_6 (bX11_first_5 8 _ rfl)
theorem dX11_first_89 : decode cX11_first 89 = .ok (.invokevirtual 221, 3) := dz_182 (bX11_first_5 9 _ rfl) (bX11_first_5 10 _ rfl) (bX11_first_5 11 _ rfl)
theorem dX11_first_92 : decode cX11_first 92 = .ok (.iconst (-1), 1) := dz_2 (bX11_first_5 12 _ rfl)
theorem dX11_first_93 : decode cX11_first 93 = .ok (.ireturn, 1) := dz_172 (bX11_first_5 13 _ rfl)
theorem dX11_first_94 : decode cX11_first 94 = .ok (.aload_n 0, 1) := dz_42 (bX11_first_5 14 _ rfl)
theorem dX11_first_95 : decode cX11_first 95 = .ok (.aload_n 1, 1) := dz_43 (bX11_first_5 15 _ rfl)
theorem dX11_first_96 : decode cX11_first 96 = .ok (.getfield 295, 3) := dz_180 (bX11_first_6 0 _ rfl) (bX11_first_6 1 _ rfl) (bX11_first_6 2 _ rfl)
theorem dX11_first_99 : decode cX11_first 99 = .ok (.invokevirtual 339, 3) := dz_182 (bX11_first_6 3 _ rfl) (bX11_first_6 4 _ rfl) (bX11_first_6 5 _ rfl)
theorem dX11_first_102 : decode cX11_first 102 = .ok (.ireturn, 1) := dz_172 (bX11_first_6 6 _ rfl)
theorem dX11_first_103 : decode cX11_first 103 = .ok (.aload_n 0, 1) := dz_42 (bX11_first_6 7 _ rfl)
theorem dX11_first_104 : decode cX11_first 104 = .ok (.bipush 32, 2) := dz_16 (bX11_first_6 8 _ rfl) (bX11_first_6 9 _ rfl)
theorem dX11_first_106 : decode cX11_first 106 = .ok (.invokevirtual 221, 3) := dz_182 (bX11_first_6 10 _ rfl) (bX11_first_6 11 _ rfl) (bX11_first_6 12 _ rfl)
theorem dX11_first_109 : decode cX11_first 109 = .ok (.aload_n 0, 1) := dz_42 (bX11_first_6 13 _ rfl)
theorem dX11_first_110 : decode cX11_first 110 = .ok (.aload_n 0, 1) := dz_42 (bX11_first_6 14 _ rfl)
theorem dX11_first_111 : decode cX11_first 111 = .ok (.getfield 199, 3) := dz_180 (bX11_first_6 15 _ rfl) (bX11_first_7 0 _ rfl) (bX11_first_7 1 _ rfl)
theorem dX11_first_114 : decode cX11_first 114 = .ok (.aload_n 1, 1) := dz_43 (bX11_first_7 2 _ rfl)
theorem dX11_first_115 : decode cX11_first 115 = .ok (.invokevirtual 342, 3) := dz_182 (bX11_first_7 3 _ rfl) (bX11_first_7 4 _ rfl) (bX11_first_7 5 _ rfl)
theorem dX11_first_118 : decode cX11_first 118 = .ok (.ireturn, 1) := dz_172 (bX11_first_7 6 _ rfl)
theorem dX11_first_119 : decode cX11_first 119 = .ok (.aload_n 0, 1) := dz_42 (bX11_first_7 7 _ rfl)
theorem dX11_first_120 : decode cX11_first 120 = .ok (.aload_n 1, 1) := dz_43 (bX11_first_7 8 _ rfl)
theorem dX11_first_121 : decode cX11_first 121 = .ok (.getfield 295, 3) := dz_180 (bX11_first_7 9 _ rfl) (bX11_first_7 10 _ rfl) (bX11_first_7 11 _ rfl)
theorem dX11_first_124 : decode cX11_first 124 = .ok (.invokevirtual 98, 3) := dz_182 (bX11_first_7 12 _ rfl) (bX11_first_7 13 _ rfl) (bX11_first_7 14 _ rfl)
theorem dX11_first_127 : decode cX11_first 127 = .ok (.astore_n 2, 1) := dz_77 (bX11_first_7 15 _ rfl)
theorem dX11_first_128 : decode cX11_first 128 = .ok (.aload_n 0, 1) := dz_42 (bX11_first_8 0 _ rfl)
theorem dX11_first_129 : decode cX11_first 129 = .ok (.aload_n 2, 1) := dz_44 (bX11_first_8 1 _ rfl)
theorem dX11_first_130 : decode cX11_first 130 = .ok (.ifnull 7, 3) := dz_198 (bX11_first_8 2 _ rfl) (bX11_first_8 3 _ rfl) (bX11_first_8 4 _ rfl)
theorem dX11_first_133 : decode cX11_first 133 = .ok (.iconst 1, 1) := dz_4 (bX11_first_8 5 _ rfl)
theorem dX11_first_134 : decode cX11_first 134 = .ok (.goto 4, 3) := dz_167 (bX11_first_8 6 _ rfl) (bX11_first_8 7 _ rfl) (bX11_first_8 8 _ rfl)
theorem dX11_first_137 : decode cX11_first 137 = .ok (.iconst 0, 1) := dz_3 (bX11_first_8 9 _ rfl)
theorem dX11_first_138 : decode cX11_first 138 = .ok (.invokevirtual 274, 3) := dz_182 (bX11_first_8 10 _ rfl) (bX11_first_8 11 _ rfl) (bX11_first_8 12 _ rfl)
theorem dX11_first_141 : decode cX11_first 141 = .ok (.aload_n 0, 1) := dz_42 (bX11_first_8 13 _ rfl)
theorem dX11_first_142 : decode cX11_first 142 = .ok (.bipush 9, 2) := dz_16 (bX11_first_8 14 _ rfl) (bX11_first_8 15 _ rfl)
theorem dX11_first_144 : decode cX11_first 144 = .ok (.aload_n 2, 1) := dz_44 (bX11_first_9 0 _ rfl)
theorem dX11_first_145 : decode cX11_first 145 = .ok (.getfield 75, 3) := dz_180 (bX11_first_9 1 _ rfl) (bX11_first_9 2 _ rfl) (bX11_first_9 3 _ rfl)
theorem dX11_first_148 : decode cX11_first 148 = .ok (.invokevirtual 247, 3) := dz_182 (bX11_first_9 4 _ rfl) (bX11_first_9 5 _ rfl) (bX11_first_9 6 _ rfl)
theorem dX11_first_151 : decode cX11_first 151 = .ok (.aload_n 2, 1) := dz_44 (bX11_first_9 7 _ rfl)
theorem dX11_first_152 : decode cX11_first 152 = .ok (.getfield 75, 3) := dz_180 (bX11_first_9 8 _ rfl) (bX11_first_9 9 _ rfl) (bX11_first_9 10 _ rfl)
theorem dX11_first_155 : decode cX11_first 155 = .ok (.ireturn, 1) := dz_172 (bX11_first_9 11 _ rfl)
theorem dX11_first_156 : decode cX11_first 156 = .ok (.aload_n 0, 1) := dz_42 (bX11_first_9 12 _ rfl)
theorem dX11_first_157 : decode cX11_first 157 = .ok (.aload_n 0, 1) := dz_42 (bX11_first_9 13 _ rfl)
theorem dX11_first_158 : decode cX11_first 158 = .ok (.aload_n 1, 1) := dz_43 (bX11_first_9 14 _ rfl)
theorem dX11_first_159 : decode cX11_first 159 = .ok (.getfield 301, 3) := dz_180 (bX11_first_9 15 _ rfl) (bX11_first_10 0 _ rfl) (bX11_first_10 1 _ rfl)
theorem dX11_first_162 : decode cX11_first 162 = .ok (.invokevirtual 262, 3) := dz_182 (bX11_first_10 2 _ rfl) (bX11_first_10 3 _ rfl) (bX11_first_10 4 _ rfl)
theorem dX11_first_165 : decode cX11_first 165 = .ok (.iconst (-1), 1) := dz_2 (bX11_first_10 5 _ rfl)
theorem dX11_first_166 : decode cX11_first 166 = .ok (.if_icmp .ne 7, 3) := dz_160 (bX11_first_10 6 _ rfl) (bX11_first_10 7 _ rfl) (bX11_first_10 8 _ rfl)
theorem dX11_first_169 : decode cX11_first 169 = .ok (.iconst 1, 1) := dz_4 (bX11_first_10 9 _ rfl)
theorem dX11_first_170 : decode cX11_first 170 = .ok (.goto 4, 3) := dz_167 (bX11_first_10 10 _ rfl) (bX11_first_10 11 _ rfl) (bX11_first_10 12 _ rfl)
theorem dX11_first_173 : decode cX11_first 173 = .ok (.iconst 0, 1) := dz_3 (bX11_first_10 13 _ rfl)
theorem dX11_first_174 : decode cX11_first 174 = .ok (.invokevirtual 274, 3) := dz_182 (bX11_first_10 14 _ rfl) (bX11_first_10 15 _ rfl) (bX11_first_11 0 _ rfl)
theorem dX11_first_177 : decode cX11_first 177 = .ok (.aload_n 0, 1) := dz_42 (bX11_first_11 1 _ rfl)
theorem dX11_first_178 : decode cX11_first 178 = .ok (.bipush 10, 2) := dz_16 (bX11_first_11 2 _ rfl) (bX11_first_11 3 _ rfl)
theorem dX11_first_180 : decode cX11_first 180 = .ok (.invokevirtual 221, 3) := dz_182 (bX11_first_11 4 _ rfl) (bX11_first_11 5 _ rfl) (bX11_first_11 6 _ rfl)
theorem dX11_first_183 : decode cX11_first 183 = .ok (.bipush (-3), 2) := dz_16 (bX11_first_11 7 _ rfl) (bX11_first_11 8 _ rfl)
theorem dX11_first_185 : decode cX11_first 185 = .ok (.ireturn, 1) := dz_172 (bX11_first_11 9 _ rfl)
theorem dX11_first_186 : decode cX11_first 186 = .ok (.aload_n 1, 1) := dz_43 (bX11_first_11 10 _ rfl)
theorem dX11_first_187 : decode cX11_first 187 = .ok (.getfield 292, 3) := dz_180 (bX11_first_11 11 _ rfl) (bX11_first_11 12 _ rfl) (bX11_first_11 13 _ rfl)
theorem dX11_first_190 : decode cX11_first 190 = .ok (.bipush 8, 2) := dz_16 (bX11_first_11 14 _ rfl) (bX11_first_11 15 _ rfl)
theorem dX11_first_192 : decode cX11_first 192 = .ok (.if_icmp .ne 7, 3) := dz_160 (bX11_first_12 0 _ rfl) (bX11_first_12 1 _ rfl) (bX11_first_12 2 _ rfl)
theorem dX11_first_195 : decode cX11_first 195 = .ok (.iconst (-1), 1) := dz_2 (bX11_first_12 3 _ rfl)
theorem dX11_first_196 : decode cX11_first 196 = .ok (.goto 5, 3) := dz_167 (bX11_first_12 4 _ rfl) (bX11_first_12 5 _ rfl) (bX11_first_12 6 _ rfl)
theorem dX11_first_199 : decode cX11_first 199 = .ok (.bipush (-2), 2) := dz_16 (bX11_first_12 7 _ rfl) (bX11_first_12 8 _ rfl)
theorem dX11_first_201 : decode cX11_first 201 = .ok (.istore_n 3, 1) := dz_62 (bX11_first_12 9 _ rfl)
theorem dX11_first_202 : decode cX11_first 202 = .ok (.aload_n 0, 1) := dz_42 (bX11_first_12 10 _ rfl)
theorem dX11_first_203 : decode cX11_first 203 = .ok (.aload_n 0, 1) := dz_42 (bX11_first_12 11 _ rfl)
theorem dX11_first_204 : decode cX11_first 204 = .ok (.aload_n 1, 1) := dz_43 (bX11_first_12 12 _ rfl)
theorem dX11_first_205 : decode cX11_first 205 = .ok (.getfield 301, 3) := dz_180 (bX11_first_12 13 _ rfl) (bX11_first_12 14 _ rfl) (bX11_first_12 15 _ rfl)
theorem dX11_first_208 : decode cX11_first 208 = .ok (.invokevirtual 262, 3) := dz_182 (bX11_first_13 0 _ rfl) (bX11_first_13 1 _ rfl) (bX11_first_13 2 _ rfl)
theorem dX11_first_211 : decode cX11_first 211 = .ok (.iload_n 3, 1) := dz_29 (bX11_first_13 3 _ rfl)
theorem dX11_first_212 : decode cX11_first 212 = .ok (.if_icmp .ne 7, 3) := dz_160 (bX11_first_13 4 _ rfl) (bX11_first_13 5 _ rfl) (bX11_first_13 6 _ rfl)
theorem dX11_first_215 : decode cX11_first 215 = .ok (.iconst 1, 1) := dz_4 (bX11_first_13 7 _ rfl)
theorem dX11_first_216 : decode cX11_first 216 = .ok (.goto 4, 3) := dz_167 (bX11_first_13 8 _ rfl) (bX11_first_13 9 _ rfl) (bX11_first_13 10 _ rfl)
theorem dX11_first_219 : decode cX11_first 219 = .ok (.iconst 0, 1) := dz_3 (bX11_first_13 11 _ rfl)
theorem dX11_first_220 : decode cX11_first 220 = .ok (.invokevirtual 274, 3) := dz_182 (bX11_first_13 12 _ rfl) (bX11_first_13 13 _ rfl) (bX11_first_13 14 _ rfl)
theorem dX11_first_223 : decode cX11_first 223 = .ok (.aload_n 0, 1) := dz_42 (bX11_first_13 15 _ rfl)
theorem dX11_first_224 : decode cX11_first 224 = .ok (.aload_n 1, 1) := dz_43 (bX11_first_14 0 _ rfl)
theorem dX11_first_225 : decode cX11_first 225 = .ok (.getfield 292, 3) := dz_180 (bX11_first_14 1 _ rfl) (bX11_first_14 2 _ rfl) (bX11_first_14 3 _ rfl)
theorem dX11_first_228 : decode cX11_first 228 = .ok (.bipush 8, 2) := dz_16 (bX11_first_14 4 _ rfl) (bX11_first_14 5 _ rfl)
theorem dX11_first_230 : decode cX11_first 230 = .ok (.if_icmp .ne 8, 3) := dz_160 (bX11_first_14 6 _ rfl) (bX11_first_14 7 _ rfl) (bX11_first_14 8 _ rfl)
theorem dX11_first_233 : decode cX11_first 233 = .ok (.bipush 13, 2) := dz_16 (bX11_first_14 9 _ rfl) (bX11_first_14 10 _ rfl)
theorem dX11_first_235 : decode cX11_first 235 = .ok (.goto 5, 3) := dz_167 (bX11_first_14 11 _ rfl) (bX11_first_14 12 _ rfl) (bX11_first_14 13 _ rfl)
theorem dX11_first_238 : decode cX11_first 238 = .ok (.bipush 14, 2) := dz_16 (bX11_first_14 14 _ rfl) (bX11_first_14 15 _ rfl)
theorem dX11_first_240 : decode cX11_first 240 = .ok (.invokevirtual 221, 3) := dz_182 (bX11_first_15 0 _ rfl) (bX11_first_15 1 _ rfl) (bX11_first_15 2 _ rfl)
theorem dX11_first_243 : decode cX11_first 243 = .ok (.iload_n 3, 1) := dz_29 (bX11_first_15 3 _ rfl)
theorem dX11_first_244 : decode cX11_first 244 = .ok (.ireturn, 1) := dz_172 (bX11_first_15 4 _ rfl)
def c_X11_first_240 (rc : Nat → Nat → (Option Nat) → (Option Nat) → Int32 → ch_W → Option (Except Nat Int32 × ch_W)) (g : State) (t0 : Nat) (x3 : Int32) (y0 : Int32) (y1 : Nat) (w : ch_W) : Option (Except Nat Int32 × ch_W) := (ch_rc w (some y1) 12).bind fun _ => (c_X11_add_2 y1 y0 w).bind fun p2 => some ((.ok x3, p2))
theorem s_X11_first_240 {g : State} {d : Nat} {rc : Nat → Nat → (Option Nat) → (Option Nat) → Int32 → ch_W → Option (Except Nat Int32 × ch_W)} (hr0 : ∀ {t0 : Nat} {z0 : Option Nat} {w : ch_W} {p : Except Nat Int32 × ch_W} {Q : Outcome → ch_W → Prop}, rc 0 t0 z0 none 0 w = some p → ch_xI Q p → ch_CT g true yX11_value (d + 10) [.ref t0, va_rf z0] (w) Q) (hr2 : ∀ {t0 : Nat} {z0 : Option Nat} {z1 : Option Nat} {w : ch_W} {p : Except Nat Int32 × ch_W} {Q : Outcome → ch_W → Prop}, rc 2 t0 z0 z1 0 w = some p → ch_xI Q p → ch_CT g true yX11_called (d + 10) [.ref t0, va_rf z0, va_rf z1] (w) Q)  {t0 : Nat} {x3 : Int32} {y0 : Int32} {y1 : Nat} {w : ch_W} {res : Except Nat Int32 × ch_W} {Q : Outcome → ch_W → Prop} (h : c_X11_first_240 rc g t0 x3 y0 y1 w = some res) (hk : (ch_xI Q) res) : ch_FT g true mX11_first (d + 11) 240 [none, none, none, some (.int x3)] [.int y0, va_rf (some y1)] (w) Q := by
  unfold c_X11_first_240 at h
  obtain ⟨_, hb1, h⟩ := ch_bd h
  obtain ⟨p2, hp3, h⟩ := ch_bd h
  refine ch_iv yX11_add_2 prog_2_method_13_code 2 none (ci := 11) (q := (RX11, TX11, 14)) (b := y1) (d' := 3) (av := [.int y0]) (rest := []) rfl dX11_first_240 q1218 q1220 rfl qs51 q1221 can_X11_add_2 (Nat.le_trans (Nat.le_of_ble_eq_true rfl) (Nat.le_add_left 11 d)) (Nat.le_of_ble_eq_true rfl) (ch_rts hb1) (cp_kV (w1 := p2) (fun Q' hq => s_X11_add_2 hp3 hq) ?_)
  obtain rfl := Option.some.inj h
  exact ch_iload_n 3 _ dX11_first_243 rfl (ch_ireturn _ dX11_first_244 rfl rfl hk)

def c_X11_first_220 (rc : Nat → Nat → (Option Nat) → (Option Nat) → Int32 → ch_W → Option (Except Nat Int32 × ch_W)) (g : State) (t0 : Nat) (x1 : Option Nat) (x3 : Int32) (y0 : Int32) (y1 : Nat) (w : ch_W) : Option (Except Nat Int32 × ch_W) := (ch_rc w (some y1) 12).bind fun _ => ch_tb (c_X11_must_2 g y1 y0 w) (fun a w => (.error a, w)) fun _ w3 => (ch_gI w3 x1 11 fX10_kind).bind fun v4 => if v4 = 8 then (c_X11_first_240 rc g t0 x3 13 t0 w3) else (c_X11_first_240 rc g t0 x3 14 t0 w3)
theorem s_X11_first_220 {g : State} {d : Nat} {rc : Nat → Nat → (Option Nat) → (Option Nat) → Int32 → ch_W → Option (Except Nat Int32 × ch_W)} (hr0 : ∀ {t0 : Nat} {z0 : Option Nat} {w : ch_W} {p : Except Nat Int32 × ch_W} {Q : Outcome → ch_W → Prop}, rc 0 t0 z0 none 0 w = some p → ch_xI Q p → ch_CT g true yX11_value (d + 10) [.ref t0, va_rf z0] (w) Q) (hr2 : ∀ {t0 : Nat} {z0 : Option Nat} {z1 : Option Nat} {w : ch_W} {p : Except Nat Int32 × ch_W} {Q : Outcome → ch_W → Prop}, rc 2 t0 z0 z1 0 w = some p → ch_xI Q p → ch_CT g true yX11_called (d + 10) [.ref t0, va_rf z0, va_rf z1] (w) Q)  {t0 : Nat} {x1 : Option Nat} {x3 : Int32} {y0 : Int32} {y1 : Nat} {w : ch_W} {res : Except Nat Int32 × ch_W} {Q : Outcome → ch_W → Prop} (h : c_X11_first_220 rc g t0 x1 x3 y0 y1 w = some res) (hk : (ch_xI Q) res) : ch_FT g true mX11_first (d + 11) 220 [some (va_rf (some t0)), some (va_rf x1), none, some (.int x3)] [.int y0, va_rf (some y1)] (w) Q := by
  unfold c_X11_first_220 at h
  obtain ⟨_, hb1, h⟩ := ch_bd h
  refine ch_iv yX11_must_2 prog_2_method_3_code 2 none (ci := 11) (q := (RX11, TX11, 14)) (b := y1) (d' := 8) (av := [.int y0]) (rest := []) rfl dX11_first_220 q1202 q1204 rfl qs47 q1205 can_X11_must_2 (Nat.le_trans (Nat.le_of_ble_eq_true rfl) (Nat.le_add_left 11 d)) (Nat.le_of_ble_eq_true rfl) (ch_rts hb1) (cp_tV h (fun p hp Q' hq => s_X11_must_2 hp hq) (fun w3 h => ?_) (fun a w1 h => ?_))
  · refine ch_aload_n 0 (some t0) dX11_first_223 rfl (ch_aload_n 1 x1 dX11_first_224 rfl (cp_gI (ci := 10) (k := 0) dX11_first_225 fl_X11_292 rfl h (fun v4 h => ?_)))
    refine ch_bipush _ 8 dX11_first_228 rfl (cp_icmp_ne _ _ (tgt := 238) dX11_first_230 rfl h (fun h => ?_) (fun h => ?_))
    · exact ch_bipush _ 14 dX11_first_238 rfl (ch_FT.wk (ch_wN (ch_wN (ch_wN (ch_wS ch_w0)))) (s_X11_first_240 hr0 hr2 h hk))
    · exact ch_bipush _ 13 dX11_first_233 rfl (ch_goto 240 dX11_first_235 rfl (ch_FT.wk (ch_wN (ch_wN (ch_wN (ch_wS ch_w0)))) (s_X11_first_240 hr0 hr2 h hk)))
  · subst h
    exact ch_th rfl hk

def c_X11_first_201 (rc : Nat → Nat → (Option Nat) → (Option Nat) → Int32 → ch_W → Option (Except Nat Int32 × ch_W)) (g : State) (t0 : Nat) (x1 : Option Nat) (y0 : Int32) (w : ch_W) : Option (Except Nat Int32 × ch_W) := (ch_gR w x1 11 fX10_right).bind fun v1 => (ch_rc w (some t0) 12).bind fun _ => ch_tb (rc 0 t0 v1 none 0 w) (fun a w => (.error a, w)) fun v3 w4 => if v3 = y0 then (c_X11_first_220 rc g t0 x1 y0 1 t0 w4) else (c_X11_first_220 rc g t0 x1 y0 0 t0 w4)
theorem s_X11_first_201 {g : State} {d : Nat} {rc : Nat → Nat → (Option Nat) → (Option Nat) → Int32 → ch_W → Option (Except Nat Int32 × ch_W)} (hr0 : ∀ {t0 : Nat} {z0 : Option Nat} {w : ch_W} {p : Except Nat Int32 × ch_W} {Q : Outcome → ch_W → Prop}, rc 0 t0 z0 none 0 w = some p → ch_xI Q p → ch_CT g true yX11_value (d + 10) [.ref t0, va_rf z0] (w) Q) (hr2 : ∀ {t0 : Nat} {z0 : Option Nat} {z1 : Option Nat} {w : ch_W} {p : Except Nat Int32 × ch_W} {Q : Outcome → ch_W → Prop}, rc 2 t0 z0 z1 0 w = some p → ch_xI Q p → ch_CT g true yX11_called (d + 10) [.ref t0, va_rf z0, va_rf z1] (w) Q)  {t0 : Nat} {x1 : Option Nat} {y0 : Int32} {w : ch_W} {res : Except Nat Int32 × ch_W} {Q : Outcome → ch_W → Prop} (h : c_X11_first_201 rc g t0 x1 y0 w = some res) (hk : (ch_xI Q) res) : ch_FT g true mX11_first (d + 11) 201 [some (va_rf (some t0)), some (va_rf x1), none, none] [.int y0] (w) Q := by
  unfold c_X11_first_201 at h
  refine ch_istore_n 3 _ (ls1 := [some (va_rf (some t0)), some (va_rf x1), none, some (.int y0)]) dX11_first_201 (Nat.le_of_ble_eq_true rfl) rfl (ch_aload_n 0 (some t0) dX11_first_202 rfl (ch_aload_n 0 (some t0) dX11_first_203 rfl (ch_aload_n 1 x1 dX11_first_204 rfl (cp_gR (ci := 10) (k := 2) dX11_first_205 fl_X11_301 rfl h (fun v1 h => ?_)))))
  obtain ⟨_, hb2, h⟩ := ch_bd h
  refine ch_iv yX11_value prog_2_method_28_code 5 (some .int) (ci := 11) (q := (RX11, TX11, 14)) (b := t0) (d' := (d + 10)) (av := [va_rf v1]) (rest := [va_rf (some t0)]) rfl dX11_first_208 q1206 q1208 rfl qs48 q1209 can_X11_value (Nat.le_refl _) (ch_hw (Nat.le_of_ble_eq_true rfl)) (ch_rts hb2) (cp_tI h (fun p hp Q' hq => hr0 hp hq) (fun v3 w4 h => ?_) (fun a w1 h => ?_))
  · refine ch_iload_n 3 _ dX11_first_211 rfl (cp_icmp_ne _ _ (tgt := 219) dX11_first_212 rfl h (fun h => ?_) (fun h => ?_))
    · exact ch_iconst _ 0 dX11_first_219 rfl (ch_FT.wk (ch_wS (ch_wS (ch_wN (ch_wS ch_w0)))) (s_X11_first_220 hr0 hr2 h hk))
    · exact ch_iconst _ 1 dX11_first_215 rfl (ch_goto 220 dX11_first_216 rfl (ch_FT.wk (ch_wS (ch_wS (ch_wN (ch_wS ch_w0)))) (s_X11_first_220 hr0 hr2 h hk)))
  · subst h
    exact ch_th rfl hk

def c_X11_first_138 (rc : Nat → Nat → (Option Nat) → (Option Nat) → Int32 → ch_W → Option (Except Nat Int32 × ch_W)) (g : State) (t0 : Nat) (x2 : Option Nat) (y0 : Int32) (y1 : Nat) (w : ch_W) : Option (Except Nat Int32 × ch_W) := (ch_rc w (some y1) 12).bind fun _ => ch_tb (c_X11_must_2 g y1 y0 w) (fun a w => (.error a, w)) fun _ w3 => (ch_gI w3 x2 7 fX6_number).bind fun v4 => (ch_rc w3 (some t0) 12).bind fun _ => (c_X11_add t0 9 v4 w3).bind fun p6 => (ch_gI p6 x2 7 fX6_number).bind fun v8 => some ((.ok v8, p6))
theorem s_X11_first_138 {g : State} {d : Nat} {rc : Nat → Nat → (Option Nat) → (Option Nat) → Int32 → ch_W → Option (Except Nat Int32 × ch_W)} (hr0 : ∀ {t0 : Nat} {z0 : Option Nat} {w : ch_W} {p : Except Nat Int32 × ch_W} {Q : Outcome → ch_W → Prop}, rc 0 t0 z0 none 0 w = some p → ch_xI Q p → ch_CT g true yX11_value (d + 10) [.ref t0, va_rf z0] (w) Q) (hr2 : ∀ {t0 : Nat} {z0 : Option Nat} {z1 : Option Nat} {w : ch_W} {p : Except Nat Int32 × ch_W} {Q : Outcome → ch_W → Prop}, rc 2 t0 z0 z1 0 w = some p → ch_xI Q p → ch_CT g true yX11_called (d + 10) [.ref t0, va_rf z0, va_rf z1] (w) Q)  {t0 : Nat} {x2 : Option Nat} {y0 : Int32} {y1 : Nat} {w : ch_W} {res : Except Nat Int32 × ch_W} {Q : Outcome → ch_W → Prop} (h : c_X11_first_138 rc g t0 x2 y0 y1 w = some res) (hk : (ch_xI Q) res) : ch_FT g true mX11_first (d + 11) 138 [some (va_rf (some t0)), none, some (va_rf x2), none] [.int y0, va_rf (some y1)] (w) Q := by
  unfold c_X11_first_138 at h
  obtain ⟨_, hb1, h⟩ := ch_bd h
  refine ch_iv yX11_must_2 prog_2_method_3_code 2 none (ci := 11) (q := (RX11, TX11, 14)) (b := y1) (d' := 8) (av := [.int y0]) (rest := []) rfl dX11_first_138 q1202 q1204 rfl qs47 q1205 can_X11_must_2 (Nat.le_trans (Nat.le_of_ble_eq_true rfl) (Nat.le_add_left 11 d)) (Nat.le_of_ble_eq_true rfl) (ch_rts hb1) (cp_tV h (fun p hp Q' hq => s_X11_must_2 hp hq) (fun w3 h => ?_) (fun a w1 h => ?_))
  · refine ch_aload_n 0 (some t0) dX11_first_141 rfl (ch_bipush _ 9 dX11_first_142 rfl (ch_aload_n 2 x2 dX11_first_144 rfl (cp_gI (ci := 6) (k := 4) dX11_first_145 fl_X11_75 rfl h (fun v4 h => ?_))))
    obtain ⟨_, hb5, h⟩ := ch_bd h
    obtain ⟨p6, hp7, h⟩ := ch_bd h
    refine ch_iv yX11_add prog_2_method_14_code 3 none (ci := 11) (q := (RX11, TX11, 14)) (b := t0) (d' := 3) (av := [.int 9, .int v4]) (rest := []) rfl dX11_first_148 q1214 q1216 rfl qs50 q1217 can_X11_add (Nat.le_trans (Nat.le_of_ble_eq_true rfl) (Nat.le_add_left 11 d)) (Nat.le_of_ble_eq_true rfl) (ch_rts hb5) (cp_kV (w1 := p6) (fun Q' hq => s_X11_add hp7 hq) ?_)
    refine ch_aload_n 2 x2 dX11_first_151 rfl (cp_gI (ci := 6) (k := 4) dX11_first_152 fl_X11_75 rfl h (fun v8 h => ?_))
    obtain rfl := Option.some.inj h
    exact ch_ireturn _ dX11_first_155 rfl rfl hk
  · subst h
    exact ch_th rfl hk

def c_X11_first_174 (rc : Nat → Nat → (Option Nat) → (Option Nat) → Int32 → ch_W → Option (Except Nat Int32 × ch_W)) (g : State) (t0 : Nat)  (y0 : Int32) (y1 : Nat) (w : ch_W) : Option (Except Nat Int32 × ch_W) := (ch_rc w (some y1) 12).bind fun _ => ch_tb (c_X11_must_2 g y1 y0 w) (fun a w => (.error a, w)) fun _ w3 => (ch_rc w3 (some t0) 12).bind fun _ => (c_X11_add_2 t0 10 w3).bind fun p5 => some ((.ok (-3), p5))
theorem s_X11_first_174 {g : State} {d : Nat} {rc : Nat → Nat → (Option Nat) → (Option Nat) → Int32 → ch_W → Option (Except Nat Int32 × ch_W)} (hr0 : ∀ {t0 : Nat} {z0 : Option Nat} {w : ch_W} {p : Except Nat Int32 × ch_W} {Q : Outcome → ch_W → Prop}, rc 0 t0 z0 none 0 w = some p → ch_xI Q p → ch_CT g true yX11_value (d + 10) [.ref t0, va_rf z0] (w) Q) (hr2 : ∀ {t0 : Nat} {z0 : Option Nat} {z1 : Option Nat} {w : ch_W} {p : Except Nat Int32 × ch_W} {Q : Outcome → ch_W → Prop}, rc 2 t0 z0 z1 0 w = some p → ch_xI Q p → ch_CT g true yX11_called (d + 10) [.ref t0, va_rf z0, va_rf z1] (w) Q)  {t0 : Nat} {y0 : Int32} {y1 : Nat} {w : ch_W} {res : Except Nat Int32 × ch_W} {Q : Outcome → ch_W → Prop} (h : c_X11_first_174 rc g t0 y0 y1 w = some res) (hk : (ch_xI Q) res) : ch_FT g true mX11_first (d + 11) 174 [some (va_rf (some t0)), none, none, none] [.int y0, va_rf (some y1)] (w) Q := by
  unfold c_X11_first_174 at h
  obtain ⟨_, hb1, h⟩ := ch_bd h
  refine ch_iv yX11_must_2 prog_2_method_3_code 2 none (ci := 11) (q := (RX11, TX11, 14)) (b := y1) (d' := 8) (av := [.int y0]) (rest := []) rfl dX11_first_174 q1202 q1204 rfl qs47 q1205 can_X11_must_2 (Nat.le_trans (Nat.le_of_ble_eq_true rfl) (Nat.le_add_left 11 d)) (Nat.le_of_ble_eq_true rfl) (ch_rts hb1) (cp_tV h (fun p hp Q' hq => s_X11_must_2 hp hq) (fun w3 h => ?_) (fun a w1 h => ?_))
  · obtain ⟨_, hb4, h⟩ := ch_bd h
    obtain ⟨p5, hp6, h⟩ := ch_bd h
    refine ch_aload_n 0 (some t0) dX11_first_177 rfl (ch_bipush _ 10 dX11_first_178 rfl (ch_iv yX11_add_2 prog_2_method_13_code 2 none (ci := 11) (q := (RX11, TX11, 14)) (b := t0) (d' := 3) (av := [.int 10]) (rest := []) rfl dX11_first_180 q1218 q1220 rfl qs51 q1221 can_X11_add_2 (Nat.le_trans (Nat.le_of_ble_eq_true rfl) (Nat.le_add_left 11 d)) (Nat.le_of_ble_eq_true rfl) (ch_rts hb4) (cp_kV (w1 := p5) (fun Q' hq => s_X11_add_2 hp6 hq) ?_)))
    obtain rfl := Option.some.inj h
    exact ch_bipush _ (-3) dX11_first_183 rfl (ch_ireturn _ dX11_first_185 rfl rfl hk)
  · subst h
    exact ch_th rfl hk

def c_X11_first (rc : Nat → Nat → (Option Nat) → (Option Nat) → Int32 → ch_W → Option (Except Nat Int32 × ch_W)) (g : State) (t0 : Nat) (x1 : Option Nat) (w : ch_W) : Option (Except Nat Int32 × ch_W) := (ch_gI w x1 11 fX10_kind).bind fun v1 => if v1 = 0 then ((ch_gI w x1 11 fX10_what).bind fun v3 => (ch_rc w (some t0) 12).bind fun _ => (c_X11_add t0 0 v3 w).bind fun p5 => (ch_gI p5 x1 11 fX10_type).bind fun v7 => some ((.ok v7, p5))) else (if v1 = 1 then ((ch_rc w (some t0) 12).bind fun _ => (c_X11_add_2 t0 1 w).bind fun p9 => some ((.ok (-5), p9))) else (if v1 = 2 then ((ch_rc w (some t0) 12).bind fun _ => (c_X11_add_2 t0 2 w).bind fun p12 => (ch_gR p12 (some t0) 12 fX11_own).bind fun v14 => (ch_gI p12 v14 7 fX6_number).bind fun v15 => some ((.ok v15, p12))) else (if v1 = 3 then ((ch_rc w (some t0) 12).bind fun _ => (c_X11_add_2 t0 3 w).bind fun p17 => some ((.ok (-1), p17))) else (if v1 = 4 then ((ch_gI w x1 11 fX10_what).bind fun v19 => (ch_rc w (some t0) 12).bind fun _ => ch_tb (c_X11_named g t0 v19 w) (fun a w => (.error a, w)) fun v21 w22 => some ((.ok v21, w22))) else (if v1 = 5 then ((ch_rc w (some t0) 12).bind fun _ => (c_X11_add_2 t0 32 w).bind fun p24 => (ch_gR p24 (some t0) 12 fX11_own).bind fun v26 => (ch_rc p24 (some t0) 12).bind fun _ => ch_tb (rc 2 t0 v26 x1 0 p24) (fun a w => (.error a, w)) fun v28 w29 => some ((.ok v28, w29))) else (if v1 = 6 then ((ch_gI w x1 11 fX10_what).bind fun v30 => (ch_rc w (some t0) 12).bind fun _ => (c_X11_kindOf t0 v30 w).bind fun v32 => if v32 = none then (c_X11_first_138 rc g t0 v32 0 t0 w) else (c_X11_first_138 rc g t0 v32 1 t0 w)) else (if v1 = 7 then ((ch_gR w x1 11 fX10_right).bind fun v34 => (ch_rc w (some t0) 12).bind fun _ => ch_tb (rc 0 t0 v34 none 0 w) (fun a w => (.error a, w)) fun v36 w37 => if v36 = (-1) then (c_X11_first_174 rc g t0 1 t0 w37) else (c_X11_first_174 rc g t0 0 t0 w37)) else ((ch_gI w x1 11 fX10_kind).bind fun v2 => if v2 = 8 then (c_X11_first_201 rc g t0 x1 (-1) w) else (c_X11_first_201 rc g t0 x1 (-2) w)))))))))
theorem s_X11_first {g : State} {d : Nat} {rc : Nat → Nat → (Option Nat) → (Option Nat) → Int32 → ch_W → Option (Except Nat Int32 × ch_W)} (hr0 : ∀ {t0 : Nat} {z0 : Option Nat} {w : ch_W} {p : Except Nat Int32 × ch_W} {Q : Outcome → ch_W → Prop}, rc 0 t0 z0 none 0 w = some p → ch_xI Q p → ch_CT g true yX11_value (d + 10) [.ref t0, va_rf z0] (w) Q) (hr2 : ∀ {t0 : Nat} {z0 : Option Nat} {z1 : Option Nat} {w : ch_W} {p : Except Nat Int32 × ch_W} {Q : Outcome → ch_W → Prop}, rc 2 t0 z0 z1 0 w = some p → ch_xI Q p → ch_CT g true yX11_called (d + 10) [.ref t0, va_rf z0, va_rf z1] (w) Q)  {t0 : Nat} {x1 : Option Nat} {w : ch_W} {res : Except Nat Int32 × ch_W} {Q : Outcome → ch_W → Prop} (h : c_X11_first rc g t0 x1 w = some res) (hk : (ch_xI Q) res) : ch_CT g true yX11_first (d + 11) [.ref t0, va_rf x1] (w) Q := by
  unfold c_X11_first at h
  refine ch_ctL mX11_first (ls := [some (va_rf (some t0)), some (va_rf x1), none, none]) q1213 rfl (ch_lyr (r := some t0) (ch_lyr (r := x1) ch_ly0)) (Nat.le_of_ble_eq_true rfl) rfl ?_
  refine ch_aload_n 1 x1 dX11_first_0 rfl (cp_gI (ci := 10) (k := 0) dX11_first_1 fl_X11_292 rfl h (fun v1 h => ?_))
  by_cases e0 : v1 = 0
  · have h := ch_ifT e0 h
    refine ch_tableIn _ (off := 48) (tgt := 52) dX11_first_4 (by rw [e0]; decide) (by rw [e0]; decide) (by rw [e0]; rfl) rfl ?_
    refine ch_aload_n 0 (some t0) dX11_first_52 rfl (ch_iconst _ 0 dX11_first_53 rfl (ch_aload_n 1 x1 dX11_first_54 rfl (cp_gI (ci := 10) (k := 4) dX11_first_55 fl_X11_295 rfl h (fun v3 h => ?_))))
    obtain ⟨_, hb4, h⟩ := ch_bd h
    obtain ⟨p5, hp6, h⟩ := ch_bd h
    refine ch_iv yX11_add prog_2_method_14_code 3 none (ci := 11) (q := (RX11, TX11, 14)) (b := t0) (d' := 3) (av := [.int 0, .int v3]) (rest := []) rfl dX11_first_58 q1214 q1216 rfl qs50 q1217 can_X11_add (Nat.le_trans (Nat.le_of_ble_eq_true rfl) (Nat.le_add_left 11 d)) (Nat.le_of_ble_eq_true rfl) (ch_rts hb4) (cp_kV (w1 := p5) (fun Q' hq => s_X11_add hp6 hq) ?_)
    refine ch_aload_n 1 x1 dX11_first_61 rfl (cp_gI (ci := 10) (k := 5) dX11_first_62 fl_X11_338 rfl h (fun v7 h => ?_))
    obtain rfl := Option.some.inj h
    exact ch_ireturn _ dX11_first_65 rfl rfl hk
  replace h := ch_ifF e0 h
  by_cases e1 : v1 = 1
  · have h := ch_ifT e1 h
    refine ch_tableIn _ (off := 62) (tgt := 66) dX11_first_4 (by rw [e1]; decide) (by rw [e1]; decide) (by rw [e1]; rfl) rfl ?_
    obtain ⟨_, hb8, h⟩ := ch_bd h
    obtain ⟨p9, hp10, h⟩ := ch_bd h
    refine ch_aload_n 0 (some t0) dX11_first_66 rfl (ch_iconst _ 1 dX11_first_67 rfl (ch_iv yX11_add_2 prog_2_method_13_code 2 none (ci := 11) (q := (RX11, TX11, 14)) (b := t0) (d' := 3) (av := [.int 1]) (rest := []) rfl dX11_first_68 q1218 q1220 rfl qs51 q1221 can_X11_add_2 (Nat.le_trans (Nat.le_of_ble_eq_true rfl) (Nat.le_add_left 11 d)) (Nat.le_of_ble_eq_true rfl) (ch_rts hb8) (cp_kV (w1 := p9) (fun Q' hq => s_X11_add_2 hp10 hq) ?_)))
    obtain rfl := Option.some.inj h
    exact ch_bipush _ (-5) dX11_first_71 rfl (ch_ireturn _ dX11_first_73 rfl rfl hk)
  replace h := ch_ifF e1 h
  by_cases e2 : v1 = 2
  · have h := ch_ifT e2 h
    refine ch_tableIn _ (off := 70) (tgt := 74) dX11_first_4 (by rw [e2]; decide) (by rw [e2]; decide) (by rw [e2]; rfl) rfl ?_
    obtain ⟨_, hb11, h⟩ := ch_bd h
    obtain ⟨p12, hp13, h⟩ := ch_bd h
    refine ch_aload_n 0 (some t0) dX11_first_74 rfl (ch_iconst _ 2 dX11_first_75 rfl (ch_iv yX11_add_2 prog_2_method_13_code 2 none (ci := 11) (q := (RX11, TX11, 14)) (b := t0) (d' := 3) (av := [.int 2]) (rest := []) rfl dX11_first_76 q1218 q1220 rfl qs51 q1221 can_X11_add_2 (Nat.le_trans (Nat.le_of_ble_eq_true rfl) (Nat.le_add_left 11 d)) (Nat.le_of_ble_eq_true rfl) (ch_rts hb11) (cp_kV (w1 := p12) (fun Q' hq => s_X11_add_2 hp13 hq) ?_)))
    refine ch_aload_n 0 (some t0) dX11_first_79 rfl (cp_gR (ci := 11) (k := 3) dX11_first_80 fl_X11_199 rfl h (fun v14 h => ?_))
    refine cp_gI (ci := 6) (k := 4) dX11_first_83 fl_X11_75 rfl h (fun v15 h => ?_)
    obtain rfl := Option.some.inj h
    exact ch_ireturn _ dX11_first_86 rfl rfl hk
  replace h := ch_ifF e2 h
  by_cases e3 : v1 = 3
  · have h := ch_ifT e3 h
    refine ch_tableIn _ (off := 83) (tgt := 87) dX11_first_4 (by rw [e3]; decide) (by rw [e3]; decide) (by rw [e3]; rfl) rfl ?_
    obtain ⟨_, hb16, h⟩ := ch_bd h
    obtain ⟨p17, hp18, h⟩ := ch_bd h
    refine ch_aload_n 0 (some t0) dX11_first_87 rfl (ch_iconst _ 3 dX11_first_88 rfl (ch_iv yX11_add_2 prog_2_method_13_code 2 none (ci := 11) (q := (RX11, TX11, 14)) (b := t0) (d' := 3) (av := [.int 3]) (rest := []) rfl dX11_first_89 q1218 q1220 rfl qs51 q1221 can_X11_add_2 (Nat.le_trans (Nat.le_of_ble_eq_true rfl) (Nat.le_add_left 11 d)) (Nat.le_of_ble_eq_true rfl) (ch_rts hb16) (cp_kV (w1 := p17) (fun Q' hq => s_X11_add_2 hp18 hq) ?_)))
    obtain rfl := Option.some.inj h
    exact ch_iconst _ (-1) dX11_first_92 rfl (ch_ireturn _ dX11_first_93 rfl rfl hk)
  replace h := ch_ifF e3 h
  by_cases e4 : v1 = 4
  · have h := ch_ifT e4 h
    refine ch_tableIn _ (off := 90) (tgt := 94) dX11_first_4 (by rw [e4]; decide) (by rw [e4]; decide) (by rw [e4]; rfl) rfl ?_
    refine ch_aload_n 0 (some t0) dX11_first_94 rfl (ch_aload_n 1 x1 dX11_first_95 rfl (cp_gI (ci := 10) (k := 4) dX11_first_96 fl_X11_295 rfl h (fun v19 h => ?_)))
    obtain ⟨_, hb20, h⟩ := ch_bd h
    refine ch_iv yX11_named prog_2_method_30_code 4 (some .int) (ci := 11) (q := (RX11, TX11, 14)) (b := t0) (d' := 9) (av := [.int v19]) (rest := []) rfl dX11_first_99 q1222 q1224 rfl qs52 q1225 can_X11_named (Nat.le_trans (Nat.le_of_ble_eq_true rfl) (Nat.le_add_left 11 d)) (Nat.le_of_ble_eq_true rfl) (ch_rts hb20) (cp_tI h (fun p hp Q' hq => s_X11_named hp hq) (fun v21 w22 h => ?_) (fun a w1 h => ?_))
    · obtain rfl := Option.some.inj h
      exact ch_ireturn _ dX11_first_102 rfl rfl hk
    · subst h
      exact ch_th rfl hk
  replace h := ch_ifF e4 h
  by_cases e5 : v1 = 5
  · have h := ch_ifT e5 h
    refine ch_tableIn _ (off := 99) (tgt := 103) dX11_first_4 (by rw [e5]; decide) (by rw [e5]; decide) (by rw [e5]; rfl) rfl ?_
    obtain ⟨_, hb23, h⟩ := ch_bd h
    obtain ⟨p24, hp25, h⟩ := ch_bd h
    refine ch_aload_n 0 (some t0) dX11_first_103 rfl (ch_bipush _ 32 dX11_first_104 rfl (ch_iv yX11_add_2 prog_2_method_13_code 2 none (ci := 11) (q := (RX11, TX11, 14)) (b := t0) (d' := 3) (av := [.int 32]) (rest := []) rfl dX11_first_106 q1218 q1220 rfl qs51 q1221 can_X11_add_2 (Nat.le_trans (Nat.le_of_ble_eq_true rfl) (Nat.le_add_left 11 d)) (Nat.le_of_ble_eq_true rfl) (ch_rts hb23) (cp_kV (w1 := p24) (fun Q' hq => s_X11_add_2 hp25 hq) ?_)))
    refine ch_aload_n 0 (some t0) dX11_first_109 rfl (ch_aload_n 0 (some t0) dX11_first_110 rfl (cp_gR (ci := 11) (k := 3) dX11_first_111 fl_X11_199 rfl h (fun v26 h => ?_)))
    obtain ⟨_, hb27, h⟩ := ch_bd h
    refine ch_aload_n 1 x1 dX11_first_114 rfl (ch_iv yX11_called prog_2_method_31_code 5 (some .int) (ci := 11) (q := (RX11, TX11, 14)) (b := t0) (d' := (d + 10)) (av := [va_rf v26, va_rf x1]) (rest := []) rfl dX11_first_115 q1230 q1232 rfl qs53 q1233 can_X11_called (Nat.le_refl _) (Nat.le_of_ble_eq_true rfl) (ch_rts hb27) (cp_tI h (fun p hp Q' hq => hr2 hp hq) (fun v28 w29 h => ?_) (fun a w1 h => ?_)))
    · obtain rfl := Option.some.inj h
      exact ch_ireturn _ dX11_first_118 rfl rfl hk
    · subst h
      exact ch_th rfl hk
  replace h := ch_ifF e5 h
  by_cases e6 : v1 = 6
  · have h := ch_ifT e6 h
    refine ch_tableIn _ (off := 115) (tgt := 119) dX11_first_4 (by rw [e6]; decide) (by rw [e6]; decide) (by rw [e6]; rfl) rfl ?_
    refine ch_aload_n 0 (some t0) dX11_first_119 rfl (ch_aload_n 1 x1 dX11_first_120 rfl (cp_gI (ci := 10) (k := 4) dX11_first_121 fl_X11_295 rfl h (fun v30 h => ?_)))
    obtain ⟨_, hb31, h⟩ := ch_bd h
    obtain ⟨v32, hp33, h⟩ := ch_bd h
    refine ch_iv yX11_kindOf prog_2_method_4_code 3 (some (.object "ClassHouse$Kind")) (ci := 11) (q := (RX11, TX11, 14)) (b := t0) (d' := 5) (av := [.int v30]) (rest := []) rfl dX11_first_124 q1119 q1121 rfl qs36 q1122 can_X11_kindOf (Nat.le_trans (Nat.le_of_ble_eq_true rfl) (Nat.le_add_left 11 d)) (Nat.le_of_ble_eq_true rfl) (ch_rts hb31) (cp_kR (v := v32) (w1 := w) (fun Q' hq => s_X11_kindOf hp33 hq) ?_)
    refine ch_astore_n 2 v32 (ls1 := [some (va_rf (some t0)), some (va_rf x1), some (va_rf v32), none]) dX11_first_127 (Nat.le_of_ble_eq_true rfl) (ch_s1o rfl rfl) (ch_aload_n 0 (some t0) dX11_first_128 rfl (ch_aload_n 2 v32 dX11_first_129 rfl (cp_ifnull v32 (tgt := 137) dX11_first_130 rfl h (fun h => ?_) (fun h => ?_))))
    · exact ch_iconst _ 0 dX11_first_137 rfl (ch_FT.wk (ch_wS (ch_wN (ch_wS (ch_wN ch_w0)))) (s_X11_first_138 hr0 hr2 h hk))
    · exact ch_iconst _ 1 dX11_first_133 rfl (ch_goto 138 dX11_first_134 rfl (ch_FT.wk (ch_wS (ch_wN (ch_wS (ch_wN ch_w0)))) (s_X11_first_138 hr0 hr2 h hk)))
  replace h := ch_ifF e6 h
  by_cases e7 : v1 = 7
  · have h := ch_ifT e7 h
    refine ch_tableIn _ (off := 152) (tgt := 156) dX11_first_4 (by rw [e7]; decide) (by rw [e7]; decide) (by rw [e7]; rfl) rfl ?_
    refine ch_aload_n 0 (some t0) dX11_first_156 rfl (ch_aload_n 0 (some t0) dX11_first_157 rfl (ch_aload_n 1 x1 dX11_first_158 rfl (cp_gR (ci := 10) (k := 2) dX11_first_159 fl_X11_301 rfl h (fun v34 h => ?_))))
    obtain ⟨_, hb35, h⟩ := ch_bd h
    refine ch_iv yX11_value prog_2_method_28_code 5 (some .int) (ci := 11) (q := (RX11, TX11, 14)) (b := t0) (d' := (d + 10)) (av := [va_rf v34]) (rest := [va_rf (some t0)]) rfl dX11_first_162 q1206 q1208 rfl qs48 q1209 can_X11_value (Nat.le_refl _) (ch_hw (Nat.le_of_ble_eq_true rfl)) (ch_rts hb35) (cp_tI h (fun p hp Q' hq => hr0 hp hq) (fun v36 w37 h => ?_) (fun a w1 h => ?_))
    · refine ch_iconst _ (-1) dX11_first_165 rfl (cp_icmp_ne _ _ (tgt := 173) dX11_first_166 rfl h (fun h => ?_) (fun h => ?_))
      · exact ch_iconst _ 0 dX11_first_173 rfl (ch_FT.wk (ch_wS (ch_wN (ch_wN (ch_wN ch_w0)))) (s_X11_first_174 hr0 hr2 h hk))
      · exact ch_iconst _ 1 dX11_first_169 rfl (ch_goto 174 dX11_first_170 rfl (ch_FT.wk (ch_wS (ch_wN (ch_wN (ch_wN ch_w0)))) (s_X11_first_174 hr0 hr2 h hk)))
    · subst h
      exact ch_th rfl hk
  replace h := ch_ifF e7 h
  refine ch_tableOut _ (tgt := 186) dX11_first_4 (by have t0 := ch_ne (n := 0) e0 rfl; have t1 := ch_ne (n := 1) e1 rfl; have t2 := ch_ne (n := 2) e2 rfl; have t3 := ch_ne (n := 3) e3 rfl; have t4 := ch_ne (n := 4) e4 rfl; have t5 := ch_ne (n := 5) e5 rfl; have t6 := ch_ne (n := 6) e6 rfl; have t7 := ch_ne (n := 7) e7 rfl; omega) rfl ?_
  refine ch_aload_n 1 x1 dX11_first_186 rfl (cp_gI (ci := 10) (k := 0) dX11_first_187 fl_X11_292 rfl h (fun v2 h => ?_))
  refine ch_bipush _ 8 dX11_first_190 rfl (cp_icmp_ne _ _ (tgt := 199) dX11_first_192 rfl h (fun h => ?_) (fun h => ?_))
  · exact ch_bipush _ (-2) dX11_first_199 rfl (ch_FT.wk (ch_wS (ch_wS (ch_wN (ch_wN ch_w0)))) (s_X11_first_201 hr0 hr2 h hk))
  · exact ch_iconst _ (-1) dX11_first_195 rfl (ch_goto 201 dX11_first_196 rfl (ch_FT.wk (ch_wS (ch_wS (ch_wN (ch_wN ch_w0)))) (s_X11_first_201 hr0 hr2 h hk)))

theorem bX11_called_0 : ch_ck cX11_called 0 [43, 44, 180, 1, 39, 182, 0, 181, 78, 42, 45, 198, 0, 22, 45, 180] := ch_ckof (by decide +kernel)
theorem bX11_called_1 : ch_ck cX11_called 16 [0, 172, 180, 0, 173, 44, 180, 1, 90, 190, 160, 0, 7, 4, 167, 0] := ch_ckof (by decide +kernel)
theorem bX11_called_2 : ch_ck cX11_called 32 [4, 3, 182, 1, 18, 3, 54, 4, 21, 4, 44, 180, 1, 90, 190, 162] := ch_ckof (by decide +kernel)
theorem bX11_called_3 : ch_ck cX11_called 48 [0, 41, 42, 42, 42, 44, 180, 1, 90, 21, 4, 50, 182, 1, 6, 42] := ch_ckof (by decide +kernel)
theorem bX11_called_4 : ch_ck cX11_called 64 [45, 180, 0, 172, 21, 4, 182, 0, 175, 182, 0, 152, 182, 1, 15, 182] := ch_ckof (by decide +kernel)
theorem bX11_called_5 : ch_ck cX11_called 80 [1, 18, 132, 4, 1, 167, 255, 211, 42, 16, 18, 44, 180, 1, 39, 182] := ch_ckof (by decide +kernel)
theorem bX11_called_6 : ch_ck cX11_called 96 [0, 247, 42, 180, 0, 194, 44, 180, 1, 90, 190, 182, 0, 197, 45, 180] := ch_ckof (by decide +kernel)
theorem bX11_called_7 : ch_ck cX11_called 112 [0, 156, 172] := ch_ckof (by decide +kernel)
theorem dX11_called_0 : decode cX11_called 0 = .ok (.aload_n 1, 1) := dz_43 (bX11_called_0 0 _ rfl)
theorem dX11_called_1 : decode cX11_called 1 = .ok (.aload_n 2, 1) := dz_44 (bX11_called_0 1 _ rfl)
theorem dX11_called_2 : decode cX11_called 2 = .ok (.getfield 295, 3) := dz_180 (bX11_called_0 2 _ rfl) (bX11_called_0 3 _ rfl) (bX11_called_0 4 _ rfl)
theorem dX11_called_5 : decode cX11_called 5 = .ok (.invokevirtual 181, 3) := dz_182 (bX11_called_0 5 _ rfl) (bX11_called_0 6 _ rfl) (bX11_called_0 7 _ rfl)
theorem dX11_called_8 : decode cX11_called 8 = .ok (.astore_n 3, 1) := dz_78 (bX11_called_0 8 _ rfl)
theorem dX11_called_9 : decode cX11_called 9 = .ok (.aload_n 0, 1) := dz_42 (bX11_called_0 9 _ rfl)
theorem dX11_called_10 : decode cX11_called 10 = .ok (.aload_n 3, 1) := dz_45 (bX11_called_0 10 _ rfl)
theorem dX11_called_11 : decode cX11_called 11 = .ok (.ifnull 22, 3) := dz_198 (bX11_called_0 11 _ rfl) (bX11_called_0 12 _ rfl) (bX11_called_0 13 _ rfl)
theorem dX11_called_14 : decode cX11_called 14 = .ok (.aload_n 3, 1) := dz_45 (bX11_called_0 14 _ rfl)
theorem dX11_called_15 : decode cX11_called 15 = .ok (.getfield 172, 3) := dz_180 (bX11_called_0 15 _ rfl) (bX11_called_1 0 _ rfl) (bX11_called_1 1 _ rfl)
theorem dX11_called_18 : decode cX11_called 18 = .ok (.getfield 173, 3) := dz_180 (bX11_called_1 2 _ rfl) (bX11_called_1 3 _ rfl) (bX11_called_1 4 _ rfl)
theorem dX11_called_21 : decode cX11_called 21 = .ok (.aload_n 2, 1) := dz_44 (bX11_called_1 5 _ rfl)
theorem dX11_called_22 : decode cX11_called 22 = .ok (.getfield 346, 3) := dz_180 (bX11_called_1 6 _ rfl) (bX11_called_1 7 _ rfl) (bX11_called_1 8 _ rfl)
theorem dX11_called_25 : decode cX11_called 25 = .ok (.arraylength, 1) := dz_190 (bX11_called_1 9 _ rfl)
theorem dX11_called_26 : decode cX11_called 26 = .ok (.if_icmp .ne 7, 3) := dz_160 (bX11_called_1 10 _ rfl) (bX11_called_1 11 _ rfl) (bX11_called_1 12 _ rfl)
theorem dX11_called_29 : decode cX11_called 29 = .ok (.iconst 1, 1) := dz_4 (bX11_called_1 13 _ rfl)
theorem dX11_called_30 : decode cX11_called 30 = .ok (.goto 4, 3) := dz_167 (bX11_called_1 14 _ rfl) (bX11_called_1 15 _ rfl) (bX11_called_2 0 _ rfl)
theorem dX11_called_33 : decode cX11_called 33 = .ok (.iconst 0, 1) := dz_3 (bX11_called_2 1 _ rfl)
theorem dX11_called_34 : decode cX11_called 34 = .ok (.invokevirtual 274, 3) := dz_182 (bX11_called_2 2 _ rfl) (bX11_called_2 3 _ rfl) (bX11_called_2 4 _ rfl)
theorem dX11_called_37 : decode cX11_called 37 = .ok (.iconst 0, 1) := dz_3 (bX11_called_2 5 _ rfl)
theorem dX11_called_38 : decode cX11_called 38 = .ok (.istore 4, 2) := dz_54 (bX11_called_2 6 _ rfl) (bX11_called_2 7 _ rfl)
theorem dX11_called_40 : decode cX11_called 40 = .ok (.iload 4, 2) := dz_21 (bX11_called_2 8 _ rfl) (bX11_called_2 9 _ rfl)
theorem dX11_called_42 : decode cX11_called 42 = .ok (.aload_n 2, 1) := dz_44 (bX11_called_2 10 _ rfl)
theorem dX11_called_43 : decode cX11_called 43 = .ok (.getfield 346, 3) := dz_180 (bX11_called_2 11 _ rfl) (bX11_called_2 12 _ rfl) (bX11_called_2 13 _ rfl)
theorem dX11_called_46 : decode cX11_called 46 = .ok (.arraylength, 1) := dz_190 (bX11_called_2 14 _ rfl)
theorem dX11_called_47 : decode cX11_called 47 = .ok (.if_icmp .ge 41, 3) := dz_162 (bX11_called_2 15 _ rfl) (bX11_called_3 0 _ rfl) (bX11_called_3 1 _ rfl)
theorem dX11_called_50 : decode cX11_called 50 = .ok (.aload_n 0, 1) := dz_42 (bX11_called_3 2 _ rfl)
theorem dX11_called_51 : decode cX11_called 51 = .ok (.aload_n 0, 1) := dz_42 (bX11_called_3 3 _ rfl)
theorem dX11_called_52 : decode cX11_called 52 = .ok (.aload_n 0, 1) := dz_42 (bX11_called_3 4 _ rfl)
theorem dX11_called_53 : decode cX11_called 53 = .ok (.aload_n 2, 1) := dz_44 (bX11_called_3 5 _ rfl)
theorem dX11_called_54 : decode cX11_called 54 = .ok (.getfield 346, 3) := dz_180 (bX11_called_3 6 _ rfl) (bX11_called_3 7 _ rfl) (bX11_called_3 8 _ rfl)
theorem dX11_called_57 : decode cX11_called 57 = .ok (.iload 4, 2) := dz_21 (bX11_called_3 9 _ rfl) (bX11_called_3 10 _ rfl)
theorem dX11_called_59 : decode cX11_called 59 = .ok (.aaload, 1) := dz_50 (bX11_called_3 11 _ rfl)
theorem dX11_called_60 : decode cX11_called 60 = .ok (.invokevirtual 262, 3) := dz_182 (bX11_called_3 12 _ rfl) (bX11_called_3 13 _ rfl) (bX11_called_3 14 _ rfl)
theorem dX11_called_63 : decode cX11_called 63 = .ok (.aload_n 0, 1) := dz_42 (bX11_called_3 15 _ rfl)
theorem dX11_called_64 : decode cX11_called 64 = .ok (.aload_n 3, 1) := dz_45 (bX11_called_4 0 _ rfl)
theorem dX11_called_65 : decode cX11_called 65 = .ok (.getfield 172, 3) := dz_180 (bX11_called_4 1 _ rfl) (bX11_called_4 2 _ rfl) (bX11_called_4 3 _ rfl)
theorem dX11_called_68 : decode cX11_called 68 = .ok (.iload 4, 2) := dz_21 (bX11_called_4 4 _ rfl) (bX11_called_4 5 _ rfl)
theorem dX11_called_70 : decode cX11_called 70 = .ok (.invokevirtual 175, 3) := dz_182 (bX11_called_4 6 _ rfl) (bX11_called_4 7 _ rfl) (bX11_called_4 8 _ rfl)
theorem dX11_called_73 : decode cX11_called 73 = .ok (.invokevirtual 152, 3) := dz_182 (bX11_called_4 9 _ rfl) (bX11_called_4 10 _ rfl) (bX11_called_4 11 _ rfl)
theorem dX11_called_76 : decode cX11_called 76 = .ok (.invokevirtual 271, 3) := dz_182 (bX11_called_4 12 _ rfl) (bX11_called_4 13 _ rfl) (bX11_called_4 14 _ rfl)
theorem dX11_called_79 : decode cX11_called 79 = .ok (.invokevirtual 274, 3) := dz_182 (bX11_called_4 15 _ rfl) (bX11_called_5 0 _ rfl) (bX11_called_5 1 _ rfl)
theorem dX11_called_82 : decode cX11_called 82 = .ok (.iinc 4 1, 3) := dz_132 (bX11_called_5 2 _ rfl) (bX11_called_5 3 _ rfl) (bX11_called_5 4 _ rfl)
theorem dX11_called_85 : decode cX11_called 85 = .ok (.goto (-45), 3) := dz_167 (bX11_called_5 5 _ rfl) (bX11_called_5 6 _ rfl) (bX11_called_5 7 _ rfl)
theorem dX11_called_88 : decode cX11_called 88 = .ok (.aload_n 0, 1) := dz_42 (bX11_called_5 8 _ rfl)
theorem dX11_called_89 : decode cX11_called 89 = .ok (.bipush 18, 2) := dz_16 (bX11_called_5 9 _ rfl) (bX11_called_5 10 _ rfl)
theorem dX11_called_91 : decode cX11_called 91 = .ok (.aload_n 2, 1) := dz_44 (bX11_called_5 11 _ rfl)
theorem dX11_called_92 : decode cX11_called 92 = .ok (.getfield 295, 3) := dz_180 (bX11_called_5 12 _ rfl) (bX11_called_5 13 _ rfl) (bX11_called_5 14 _ rfl)
theorem dX11_called_95 : decode cX11_called 95 = .ok (.invokevirtual 247, 3) := dz_182 (bX11_called_5 15 _ rfl) (bX11_called_6 0 _ rfl) (bX11_called_6 1 _ rfl)
theorem dX11_called_98 : decode cX11_called 98 = .ok (.aload_n 0, 1) := dz_42 (bX11_called_6 2 _ rfl)
theorem dX11_called_99 : decode cX11_called 99 = .ok (.getfield 194, 3) := dz_180 (bX11_called_6 3 _ rfl) (bX11_called_6 4 _ rfl) (bX11_called_6 5 _ rfl)
theorem dX11_called_102 : decode cX11_called 102 = .ok (.aload_n 2, 1) := dz_44 (bX11_called_6 6 _ rfl)
theorem dX11_called_103 : decode cX11_called 103 = .ok (.getfield 346, 3) := dz_180 (bX11_called_6 7 _ rfl) (bX11_called_6 8 _ rfl) (bX11_called_6 9 _ rfl)
theorem dX11_called_106 : decode cX11_called 106 = .ok (.arraylength, 1) := dz_190 (bX11_called_6 10 _ rfl)
theorem dX11_called_107 : decode cX11_called 107 = .ok (.invokevirtual 197, 3) := dz_182 (bX11_called_6 11 _ rfl) (bX11_called_6 12 _ rfl) (bX11_called_6 13 _ rfl)
theorem dX11_called_110 : decode cX11_called 110 = .ok (.aload_n 3, 1) := dz_45 (bX11_called_6 14 _ rfl)
theorem dX11_called_111 : decode cX11_called 111 = .ok (.getfield 156, 3) := dz_180 (bX11_called_6 15 _ rfl) (bX11_called_7 0 _ rfl) (bX11_called_7 1 _ rfl)
theorem dX11_called_114 : decode cX11_called 114 = .ok (.ireturn, 1) := dz_172 (bX11_called_7 2 _ rfl)
def c_X11_called_40 (rc : Nat → Nat → (Option Nat) → (Option Nat) → Int32 → ch_W → Option (Except Nat Int32 × ch_W)) (g : State) (t0 : Nat) (x2 : Option Nat) (x3 : Option Nat) (x4 : Int32)  (w : ch_W) : Option ((Int32 × ch_W) ⊕ (Except Nat Int32 × ch_W)) := (ch_gR w x2 11 fX10_arguments).bind fun v1 => (ch_le w v1 27).bind fun v2 => if x4 < v2 then ((ch_gR w x2 11 fX10_arguments).bind fun v15 => (ch_lR w v15 27 x4).bind fun v16 => (ch_rc w (some t0) 12).bind fun _ => ch_tb (rc 0 t0 v16 none 0 w) (fun a w => .inr ((.error a, w))) fun v18 w19 => (ch_gR w19 x3 8 fX7_types).bind fun v20 => (ch_rc w19 v20 9).bind fun b22 => (c_X8_get b22 x4 w19).bind fun v23 => (ch_rc w19 (some t0) 12).bind fun _ => (c_X11_typeOf t0 v23 w19).bind fun v26 => (ch_rc w19 (some t0) 12).bind fun _ => (c_X11_isSub t0 v18 v26 w19).bind fun v29 => (ch_rc w19 (some t0) 12).bind fun _ => ch_tb (c_X11_must_2 g t0 v29 w19) (fun a w => .inr ((.error a, w))) fun _ w33 => some (.inl (x4 + 1, w33))) else ((ch_gI w x2 11 fX10_what).bind fun v3 => (ch_rc w (some t0) 12).bind fun _ => (c_X11_add t0 18 v3 w).bind fun p5 => (ch_gR p5 (some t0) 12 fX11_code).bind fun v7 => (ch_gR p5 x2 11 fX10_arguments).bind fun v8 => (ch_le p5 v8 27).bind fun v9 => (ch_rc p5 v7 9).bind fun b11 => (c_X8_add b11 v9 p5).bind fun p12 => (ch_gI p12 x3 8 fX7_result).bind fun v14 => some (.inr ((.ok v14, p12))))
theorem s_X11_called_40 {g : State} {d : Nat} {rc : Nat → Nat → (Option Nat) → (Option Nat) → Int32 → ch_W → Option (Except Nat Int32 × ch_W)} (hr0 : ∀ {t0 : Nat} {z0 : Option Nat} {w : ch_W} {p : Except Nat Int32 × ch_W} {Q : Outcome → ch_W → Prop}, rc 0 t0 z0 none 0 w = some p → ch_xI Q p → ch_CT g true yX11_value (d + 10) [.ref t0, va_rf z0] (w) Q)  {t0 : Nat} {x2 : Option Nat} {x3 : Option Nat} {x4 : Int32} {w : ch_W} {res : (Int32 × ch_W) ⊕ (Except Nat Int32 × ch_W)} {Q : Outcome → ch_W → Prop} (h : c_X11_called_40 rc g t0 x2 x3 x4 w = some res) (hk : (ch_sm (fun s => ch_FT g true mX11_called (d + 11) 40 [some (va_rf (some t0)), none, some (va_rf x2), some (va_rf x3), some (.int s.1)] [] (s.2) Q) (ch_xI Q)) res) : ch_FT g true mX11_called (d + 11) 40 [some (va_rf (some t0)), none, some (va_rf x2), some (va_rf x3), some (.int x4)] [] (w) Q := by
  unfold c_X11_called_40 at h
  refine ch_iload 4 _ dX11_called_40 rfl (ch_aload_n 2 x2 dX11_called_42 rfl (cp_gR (ci := 10) (k := 3) dX11_called_43 fl_X11_346 rfl h (fun v1 h => ?_)))
  refine cp_alen (t := 27) dX11_called_46 rfl rfl h (fun v2 h => ?_)
  refine cp_icmp_ge _ _ (tgt := 88) dX11_called_47 rfl h (fun h => ?_) (fun h => ?_)
  · refine ch_aload_n 0 (some t0) dX11_called_88 rfl (ch_bipush _ 18 dX11_called_89 rfl (ch_aload_n 2 x2 dX11_called_91 rfl (cp_gI (ci := 10) (k := 4) dX11_called_92 fl_X11_295 rfl h (fun v3 h => ?_))))
    obtain ⟨_, hb4, h⟩ := ch_bd h
    obtain ⟨p5, hp6, h⟩ := ch_bd h
    refine ch_iv yX11_add prog_2_method_14_code 3 none (ci := 11) (q := (RX11, TX11, 14)) (b := t0) (d' := 3) (av := [.int 18, .int v3]) (rest := []) rfl dX11_called_95 q1214 q1216 rfl qs50 q1217 can_X11_add (Nat.le_trans (Nat.le_of_ble_eq_true rfl) (Nat.le_add_left 11 d)) (Nat.le_of_ble_eq_true rfl) (ch_rts hb4) (cp_kV (w1 := p5) (fun Q' hq => s_X11_add hp6 hq) ?_)
    refine ch_aload_n 0 (some t0) dX11_called_98 rfl (cp_gR (ci := 11) (k := 5) dX11_called_99 fl_X11_194 rfl h (fun v7 h => ?_))
    refine ch_aload_n 2 x2 dX11_called_102 rfl (cp_gR (ci := 10) (k := 3) dX11_called_103 fl_X11_346 rfl h (fun v8 h => ?_))
    refine cp_alen (t := 27) dX11_called_106 rfl rfl h (fun v9 h => ?_)
    obtain ⟨b11, hb10, h⟩ := ch_bd h
    obtain ⟨p12, hp13, h⟩ := ch_bd h
    refine ch_iv yX8_add prog_9_method_2_code 3 none (ci := 8) (q := (RX8, TX8, 2)) (b := b11) (d' := 2) (av := [.int v9]) (rest := []) (by rw [ch_rs hb10]; rfl) dX11_called_107 q1182 q843 rfl q844 q845 can_X8_add (Nat.le_trans (Nat.le_of_ble_eq_true rfl) (Nat.le_add_left 11 d)) (Nat.le_of_ble_eq_true rfl) (ch_rtg hb10) (cp_kV (w1 := p12) (fun Q' hq => s_X8_add hp13 hq) ?_)
    refine ch_aload_n 3 x3 dX11_called_110 rfl (cp_gI (ci := 7) (k := 11) dX11_called_111 fl_X11_156 rfl h (fun v14 h => ?_))
    obtain rfl := Option.some.inj h
    exact ch_ireturn _ dX11_called_114 rfl rfl hk
  · refine ch_aload_n 0 (some t0) dX11_called_50 rfl (ch_aload_n 0 (some t0) dX11_called_51 rfl (ch_aload_n 0 (some t0) dX11_called_52 rfl (ch_aload_n 2 x2 dX11_called_53 rfl (cp_gR (ci := 10) (k := 3) dX11_called_54 fl_X11_346 rfl h (fun v15 h => ?_)))))
    refine ch_iload 4 _ dX11_called_57 rfl (cp_aald (t := 27) dX11_called_59 rfl rfl h (fun v16 h => ?_))
    obtain ⟨_, hb17, h⟩ := ch_bd h
    refine ch_iv yX11_value prog_2_method_28_code 5 (some .int) (ci := 11) (q := (RX11, TX11, 14)) (b := t0) (d' := (d + 10)) (av := [va_rf v16]) (rest := [va_rf (some t0), va_rf (some t0)]) rfl dX11_called_60 q1206 q1208 rfl qs48 q1209 can_X11_value (Nat.le_refl _) (ch_hw (Nat.le_of_ble_eq_true rfl)) (ch_rts hb17) (cp_tI h (fun p hp Q' hq => hr0 hp hq) (fun v18 w19 h => ?_) (fun a w1 h => ?_))
    · refine ch_aload_n 0 (some t0) dX11_called_63 rfl (ch_aload_n 3 x3 dX11_called_64 rfl (cp_gR (ci := 7) (k := 4) dX11_called_65 fl_X11_172 rfl h (fun v20 h => ?_)))
      obtain ⟨b22, hb21, h⟩ := ch_bd h
      obtain ⟨v23, hp24, h⟩ := ch_bd h
      refine ch_iload 4 _ dX11_called_68 rfl (ch_iv yX8_get prog_9_method_3_code 2 (some .int) (ci := 8) (q := (RX8, TX8, 2)) (b := b22) (d' := 2) (av := [.int x4]) (rest := [va_rf (some t0), .int v18, va_rf (some t0), va_rf (some t0)]) (by rw [ch_rs hb21]; rfl) dX11_called_70 q1151 q1152 rfl q1153 q1154 can_X8_get (Nat.le_trans (Nat.le_of_ble_eq_true rfl) (Nat.le_add_left 11 d)) (ch_hw (Nat.le_of_ble_eq_true rfl)) (ch_rtg hb21) (cp_kI (v := v23) (w1 := w19) (fun Q' hq => s_X8_get hp24 hq) ?_))
      obtain ⟨_, hb25, h⟩ := ch_bd h
      obtain ⟨v26, hp27, h⟩ := ch_bd h
      refine ch_iv yX11_typeOf prog_2_method_5_code 3 (some .int) (ci := 11) (q := (RX11, TX11, 14)) (b := t0) (d' := 6) (av := [.int v23]) (rest := [.int v18, va_rf (some t0), va_rf (some t0)]) rfl dX11_called_73 q1136 q1138 rfl qs38 q1139 can_X11_typeOf (Nat.le_trans (Nat.le_of_ble_eq_true rfl) (Nat.le_add_left 11 d)) (ch_hw (Nat.le_of_ble_eq_true rfl)) (ch_rts hb25) (cp_kI (v := v26) (w1 := w19) (fun Q' hq => s_X11_typeOf hp27 hq) ?_)
      obtain ⟨_, hb28, h⟩ := ch_bd h
      obtain ⟨v29, hp30, h⟩ := ch_bd h
      refine ch_iv yX11_isSub prog_2_method_6_code 3 (some .boolean) (ci := 11) (q := (RX11, TX11, 14)) (b := t0) (d' := 5) (av := [.int v18, .int v26]) (rest := [va_rf (some t0)]) rfl dX11_called_76 q1234 q1236 rfl qs54 q1237 can_X11_isSub (Nat.le_trans (Nat.le_of_ble_eq_true rfl) (Nat.le_add_left 11 d)) (ch_hw (Nat.le_of_ble_eq_true rfl)) (ch_rts hb28) (cp_kI (v := v29) (w1 := w19) (fun Q' hq => s_X11_isSub hp30 hq) ?_)
      obtain ⟨_, hb31, h⟩ := ch_bd h
      refine ch_iv yX11_must_2 prog_2_method_3_code 2 none (ci := 11) (q := (RX11, TX11, 14)) (b := t0) (d' := 8) (av := [.int v29]) (rest := []) rfl dX11_called_79 q1202 q1204 rfl qs47 q1205 can_X11_must_2 (Nat.le_trans (Nat.le_of_ble_eq_true rfl) (Nat.le_add_left 11 d)) (Nat.le_of_ble_eq_true rfl) (ch_rts hb31) (cp_tV h (fun p hp Q' hq => s_X11_must_2 hp hq) (fun w33 h => ?_) (fun a w1 h => ?_))
      · refine ch_iinc 4 _ _ (x4 + 1) (ls1 := [some (va_rf (some t0)), none, some (va_rf x2), some (va_rf x3), some (.int (x4 + 1))]) dX11_called_82 rfl rfl (Nat.le_of_ble_eq_true rfl) (ch_s1o rfl rfl) (ch_goto 40 dX11_called_85 rfl (ch_FT.wk (ch_wS (ch_wN (ch_wS (ch_wS (ch_wS ch_w0))))) ?_))
        obtain rfl := Option.some.inj h
        exact hk
      · subst h
        exact ch_th rfl hk
    · subst h
      exact ch_th rfl hk
theorem sl_X11_called_40 {g : State} {d : Nat} {rc : Nat → Nat → (Option Nat) → (Option Nat) → Int32 → ch_W → Option (Except Nat Int32 × ch_W)} (hr0 : ∀ {t0 : Nat} {z0 : Option Nat} {w : ch_W} {p : Except Nat Int32 × ch_W} {Q : Outcome → ch_W → Prop}, rc 0 t0 z0 none 0 w = some p → ch_xI Q p → ch_CT g true yX11_value (d + 10) [.ref t0, va_rf z0] (w) Q)  {t0 : Nat} {x2 : Option Nat} {x3 : Option Nat} {a : Int32 × ch_W} {res : Except Nat Int32 × ch_W} {Q : Outcome → ch_W → Prop} (h : ch_loop (fun (s : Int32 × ch_W) => c_X11_called_40 rc g t0 x2 x3 s.1 s.2) a = some res) (hk : (ch_xI Q) res) : ch_FT g true mX11_called (d + 11) 40 [some (va_rf (some t0)), none, some (va_rf x2), some (va_rf x3), some (.int a.1)] [] (a.2) Q := by
  refine ch_loop_ind (fun (a : Int32 × ch_W) (r : Except Nat Int32 × ch_W) => (ch_xI Q) r → ch_FT g true mX11_called (d + 11) 40 [some (va_rf (some t0)), none, some (va_rf x2), some (va_rf x3), some (.int a.1)] [] (a.2) Q) ?_ ?_ a res h hk
  · intro a a2 b h1 ih hk
    exact s_X11_called_40 hr0 h1 (ih hk)
  · intro a b h1 hk
    exact s_X11_called_40 hr0 h1 hk

def c_X11_called_34 (rc : Nat → Nat → (Option Nat) → (Option Nat) → Int32 → ch_W → Option (Except Nat Int32 × ch_W)) (g : State) (t0 : Nat) (x2 : Option Nat) (x3 : Option Nat) (y0 : Int32) (y1 : Nat) (w : ch_W) : Option (Except Nat Int32 × ch_W) := (ch_rc w (some y1) 12).bind fun _ => ch_tb (c_X11_must_2 g y1 y0 w) (fun a w => (.error a, w)) fun _ w3 => ch_loop (fun (s : Int32 × ch_W) => c_X11_called_40 rc g t0 x2 x3 s.1 s.2) (0, w3)
theorem s_X11_called_34 {g : State} {d : Nat} {rc : Nat → Nat → (Option Nat) → (Option Nat) → Int32 → ch_W → Option (Except Nat Int32 × ch_W)} (hr0 : ∀ {t0 : Nat} {z0 : Option Nat} {w : ch_W} {p : Except Nat Int32 × ch_W} {Q : Outcome → ch_W → Prop}, rc 0 t0 z0 none 0 w = some p → ch_xI Q p → ch_CT g true yX11_value (d + 10) [.ref t0, va_rf z0] (w) Q)  {t0 : Nat} {x2 : Option Nat} {x3 : Option Nat} {y0 : Int32} {y1 : Nat} {w : ch_W} {res : Except Nat Int32 × ch_W} {Q : Outcome → ch_W → Prop} (h : c_X11_called_34 rc g t0 x2 x3 y0 y1 w = some res) (hk : (ch_xI Q) res) : ch_FT g true mX11_called (d + 11) 34 [some (va_rf (some t0)), none, some (va_rf x2), some (va_rf x3), none] [.int y0, va_rf (some y1)] (w) Q := by
  unfold c_X11_called_34 at h
  obtain ⟨_, hb1, h⟩ := ch_bd h
  refine ch_iv yX11_must_2 prog_2_method_3_code 2 none (ci := 11) (q := (RX11, TX11, 14)) (b := y1) (d' := 8) (av := [.int y0]) (rest := []) rfl dX11_called_34 q1202 q1204 rfl qs47 q1205 can_X11_must_2 (Nat.le_trans (Nat.le_of_ble_eq_true rfl) (Nat.le_add_left 11 d)) (Nat.le_of_ble_eq_true rfl) (ch_rts hb1) (cp_tV h (fun p hp Q' hq => s_X11_must_2 hp hq) (fun w3 h => ?_) (fun a w1 h => ?_))
  · exact ch_iconst _ 0 dX11_called_37 rfl (ch_istore 4 _ (ls1 := [some (va_rf (some t0)), none, some (va_rf x2), some (va_rf x3), some (.int 0)]) dX11_called_38 (Nat.le_of_ble_eq_true rfl) (ch_s1o rfl rfl) (ch_FT.wk (ch_wS (ch_wN (ch_wS (ch_wS (ch_wS ch_w0))))) (sl_X11_called_40 hr0 h hk)))
  · subst h
    exact ch_th rfl hk

def c_X11_called_33 (rc : Nat → Nat → (Option Nat) → (Option Nat) → Int32 → ch_W → Option (Except Nat Int32 × ch_W)) (g : State) (t0 : Nat) (x2 : Option Nat) (x3 : Option Nat) (y0 : Nat) (w : ch_W) : Option (Except Nat Int32 × ch_W) := c_X11_called_34 rc g t0 x2 x3 0 y0 w
theorem s_X11_called_33 {g : State} {d : Nat} {rc : Nat → Nat → (Option Nat) → (Option Nat) → Int32 → ch_W → Option (Except Nat Int32 × ch_W)} (hr0 : ∀ {t0 : Nat} {z0 : Option Nat} {w : ch_W} {p : Except Nat Int32 × ch_W} {Q : Outcome → ch_W → Prop}, rc 0 t0 z0 none 0 w = some p → ch_xI Q p → ch_CT g true yX11_value (d + 10) [.ref t0, va_rf z0] (w) Q)  {t0 : Nat} {x2 : Option Nat} {x3 : Option Nat} {y0 : Nat} {w : ch_W} {res : Except Nat Int32 × ch_W} {Q : Outcome → ch_W → Prop} (h : c_X11_called_33 rc g t0 x2 x3 y0 w = some res) (hk : (ch_xI Q) res) : ch_FT g true mX11_called (d + 11) 33 [some (va_rf (some t0)), none, some (va_rf x2), some (va_rf x3), none] [va_rf (some y0)] (w) Q := by
  unfold c_X11_called_33 at h
  exact ch_iconst _ 0 dX11_called_33 rfl (ch_FT.wk (ch_wS (ch_wN (ch_wS (ch_wS (ch_wN ch_w0))))) (s_X11_called_34 hr0 h hk))

def c_X11_called (rc : Nat → Nat → (Option Nat) → (Option Nat) → Int32 → ch_W → Option (Except Nat Int32 × ch_W)) (g : State) (t0 : Nat) (x1 : Option Nat) (x2 : Option Nat) (w : ch_W) : Option (Except Nat Int32 × ch_W) := (ch_gI w x2 11 fX10_what).bind fun v1 => (ch_rc w x1 7).bind fun b3 => (c_X6_method b3 v1 w).bind fun v4 => if v4 = none then (c_X11_called_33 rc g t0 x2 v4 t0 w) else ((ch_gR w v4 8 fX7_types).bind fun v6 => (ch_gI w v6 9 fX8_size).bind fun v7 => (ch_gR w x2 11 fX10_arguments).bind fun v8 => (ch_le w v8 27).bind fun v9 => if v7 = v9 then (c_X11_called_34 rc g t0 x2 v4 1 t0 w) else (c_X11_called_33 rc g t0 x2 v4 t0 w))
theorem s_X11_called {g : State} {d : Nat} {rc : Nat → Nat → (Option Nat) → (Option Nat) → Int32 → ch_W → Option (Except Nat Int32 × ch_W)} (hr0 : ∀ {t0 : Nat} {z0 : Option Nat} {w : ch_W} {p : Except Nat Int32 × ch_W} {Q : Outcome → ch_W → Prop}, rc 0 t0 z0 none 0 w = some p → ch_xI Q p → ch_CT g true yX11_value (d + 10) [.ref t0, va_rf z0] (w) Q)  {t0 : Nat} {x1 : Option Nat} {x2 : Option Nat} {w : ch_W} {res : Except Nat Int32 × ch_W} {Q : Outcome → ch_W → Prop} (h : c_X11_called rc g t0 x1 x2 w = some res) (hk : (ch_xI Q) res) : ch_CT g true yX11_called (d + 11) [.ref t0, va_rf x1, va_rf x2] (w) Q := by
  unfold c_X11_called at h
  refine ch_ctL mX11_called (ls := [some (va_rf (some t0)), some (va_rf x1), some (va_rf x2), none, none]) q1233 rfl (ch_lyr (r := some t0) (ch_lyr (r := x1) (ch_lyr (r := x2) ch_ly0))) (Nat.le_of_ble_eq_true rfl) rfl ?_
  refine ch_aload_n 1 x1 dX11_called_0 rfl (ch_aload_n 2 x2 dX11_called_1 rfl (cp_gI (ci := 10) (k := 4) dX11_called_2 fl_X11_295 rfl h (fun v1 h => ?_)))
  obtain ⟨b3, hb2, h⟩ := ch_bd h
  obtain ⟨v4, hp5, h⟩ := ch_bd h
  refine ch_iv yX6_method prog_4_method_3_code 4 (some (.object "ClassHouse$Member")) (ci := 6) (q := (RX6, TX6, 8)) (b := b3) (d' := 6) (av := [.int v1]) (rest := []) (by rw [ch_rs hb2]; rfl) dX11_called_5 q1159 q1160 rfl q1161 q1162 can_X6_method (Nat.le_trans (Nat.le_of_ble_eq_true rfl) (Nat.le_add_left 11 d)) (Nat.le_of_ble_eq_true rfl) (ch_rtg hb2) (cp_kR (v := v4) (w1 := w) (fun Q' hq => s_X6_method hp5 hq) ?_)
  refine ch_astore_n 3 v4 (ls1 := [some (va_rf (some t0)), some (va_rf x1), some (va_rf x2), some (va_rf v4), none]) dX11_called_8 (Nat.le_of_ble_eq_true rfl) (ch_s1o rfl rfl) (ch_aload_n 0 (some t0) dX11_called_9 rfl (ch_aload_n 3 v4 dX11_called_10 rfl (cp_ifnull v4 (tgt := 33) dX11_called_11 rfl h (fun h => ?_) (fun h => ?_))))
  · exact ch_FT.wk (ch_wS (ch_wN (ch_wS (ch_wS (ch_wN ch_w0))))) (s_X11_called_33 hr0 h hk)
  · refine ch_aload_n 3 v4 dX11_called_14 rfl (cp_gR (ci := 7) (k := 4) dX11_called_15 fl_X11_172 rfl h (fun v6 h => ?_))
    refine cp_gI (ci := 8) (k := 1) dX11_called_18 fl_X11_173 rfl h (fun v7 h => ?_)
    refine ch_aload_n 2 x2 dX11_called_21 rfl (cp_gR (ci := 10) (k := 3) dX11_called_22 fl_X11_346 rfl h (fun v8 h => ?_))
    refine cp_alen (t := 27) dX11_called_25 rfl rfl h (fun v9 h => ?_)
    refine cp_icmp_ne _ _ (tgt := 33) dX11_called_26 rfl h (fun h => ?_) (fun h => ?_)
    · exact ch_FT.wk (ch_wS (ch_wN (ch_wS (ch_wS (ch_wN ch_w0))))) (s_X11_called_33 hr0 h hk)
    · exact ch_iconst _ 1 dX11_called_29 rfl (ch_goto 34 dX11_called_30 rfl (ch_FT.wk (ch_wS (ch_wN (ch_wS (ch_wS (ch_wN ch_w0))))) (s_X11_called_34 hr0 h hk)))

theorem bX11_behind_0 : ch_ck cX11_behind 0 [43, 180, 1, 36, 170, 0, 0, 0, 0, 0, 1, 26, 0, 0, 0, 10] := ch_ckof (by decide +kernel)
theorem bX11_behind_1 : ch_ck cX11_behind 16 [0, 0, 0, 15, 0, 0, 0, 40, 0, 0, 0, 131, 0, 0, 0, 161] := ch_ckof (by decide +kernel)
theorem bX11_behind_2 : ch_ck cX11_behind 32 [0, 0, 0, 196, 0, 0, 0, 196, 0, 0, 1, 19, 28, 16, 253, 160] := ch_ckof (by decide +kernel)
theorem bX11_behind_3 : ch_ck cX11_behind 48 [0, 22, 43, 180, 1, 39, 42, 180, 0, 80, 160, 0, 11, 42, 16, 8] := ch_ckof (by decide +kernel)
theorem bX11_behind_4 : ch_ck cX11_behind 64 [182, 0, 221, 2, 172, 28, 155, 0, 24, 42, 180, 0, 12, 28, 182, 0] := ch_ckof (by decide +kernel)
theorem bX11_behind_5 : ch_ck cX11_behind 80 [71, 192, 0, 51, 43, 180, 1, 39, 182, 0, 168, 167, 0, 4, 1, 78] := ch_ckof (by decide +kernel)
theorem bX11_behind_6 : ch_ck cX11_behind 96 [42, 45, 198, 0, 7, 4, 167, 0, 4, 3, 182, 1, 18, 42, 16, 6] := ch_ckof (by decide +kernel)
theorem bX11_behind_7 : ch_ck cX11_behind 112 [42, 180, 0, 12, 28, 182, 0, 71, 192, 0, 51, 45, 182, 1, 48, 182] := ch_ckof (by decide +kernel)
theorem bX11_behind_8 : ch_ck cX11_behind 128 [0, 247, 45, 180, 0, 156, 172, 42, 28, 155, 0, 7, 4, 167, 0, 4] := ch_ckof (by decide +kernel)
theorem bX11_behind_9 : ch_ck cX11_behind 144 [3, 182, 1, 18, 42, 42, 180, 0, 12, 28, 182, 0, 71, 192, 0, 51] := ch_ckof (by decide +kernel)
theorem bX11_behind_10 : ch_ck cX11_behind 160 [43, 182, 1, 86, 172, 42, 28, 16, 253, 160, 0, 19, 42, 43, 180, 1] := ch_ckof (by decide +kernel)
theorem bX11_behind_11 : ch_ck cX11_behind 176 [45, 182, 1, 6, 2, 160, 0, 7, 4, 167, 0, 4, 3, 182, 1, 18] := ch_ckof (by decide +kernel)
theorem bX11_behind_12 : ch_ck cX11_behind 192 [42, 16, 7, 182, 0, 221, 2, 172, 42, 43, 180, 1, 39, 182, 0, 98] := ch_ckof (by decide +kernel)
theorem bX11_behind_13 : ch_ck cX11_behind 208 [58, 4, 42, 28, 156, 0, 9, 28, 16, 251, 160, 0, 12, 25, 4, 198] := ch_ckof (by decide +kernel)
theorem bX11_behind_14 : ch_ck cX11_behind 224 [0, 7, 4, 167, 0, 4, 3, 182, 1, 18, 42, 43, 180, 1, 36, 16] := ch_ckof (by decide +kernel)
theorem bX11_behind_15 : ch_ck cX11_behind 240 [13, 160, 0, 8, 16, 11, 167, 0, 5, 16, 12, 25, 4, 180, 0, 75] := ch_ckof (by decide +kernel)
theorem bX11_behind_16 : ch_ck cX11_behind 256 [182, 0, 247, 43, 180, 1, 36, 16, 13, 160, 0, 11, 25, 4, 180, 0] := ch_ckof (by decide +kernel)
theorem bX11_behind_17 : ch_ck cX11_behind 272 [75, 167, 0, 5, 16, 254, 172, 42, 43, 28, 182, 1, 94, 172, 42, 28] := ch_ckof (by decide +kernel)
theorem bX11_behind_18 : ch_ck cX11_behind 288 [16, 254, 160, 0, 7, 4, 167, 0, 4, 3, 182, 1, 18, 42, 43, 180] := ch_ckof (by decide +kernel)
theorem bX11_behind_19 : ch_ck cX11_behind 304 [1, 36, 16, 16, 160, 0, 8, 16, 16, 167, 0, 5, 16, 17, 3, 182] := ch_ckof (by decide +kernel)
theorem bX11_behind_20 : ch_ck cX11_behind 320 [0, 247, 42, 180, 0, 194, 180, 0, 173, 4, 100, 54, 5, 42, 42, 43] := ch_ckof (by decide +kernel)
theorem bX11_behind_21 : ch_ck cX11_behind 336 [180, 1, 45, 182, 1, 6, 16, 254, 160, 0, 7, 4, 167, 0, 4, 3] := ch_ckof (by decide +kernel)
theorem bX11_behind_22 : ch_ck cX11_behind 352 [182, 1, 18, 42, 180, 0, 194, 180, 1, 62, 21, 5, 42, 180, 0, 194] := ch_ckof (by decide +kernel)
theorem bX11_behind_23 : ch_ck cX11_behind 368 [180, 0, 173, 79, 16, 254, 172] := ch_ckof (by decide +kernel)
theorem dX11_behind_0 : decode cX11_behind 0 = .ok (.aload_n 1, 1) := dz_43 (bX11_behind_0 0 _ rfl)
theorem dX11_behind_1 : decode cX11_behind 1 = .ok (.getfield 292, 3) := dz_180 (bX11_behind_0 1 _ rfl) (bX11_behind_0 2 _ rfl) (bX11_behind_0 3 _ rfl)
theorem dX11_behind_4 : decode cX11_behind 4 = .ok (.tableswitch 282 10 15 #[40, 131, 161, 196, 196, 275], 40) := by decide +kernel
theorem dX11_behind_44 : decode cX11_behind 44 = .ok (.iload_n 2, 1) := dz_28 (bX11_behind_2 12 _ rfl)
theorem dX11_behind_45 : decode cX11_behind 45 = .ok (.bipush (-3), 2) := dz_16 (bX11_behind_2 13 _ rfl) (bX11_behind_2 14 _ rfl)
theorem dX11_behind_47 : decode cX11_behind 47 = .ok (.if_icmp .ne 22, 3) := dz_160 (bX11_behind_2 15 _ rfl) (bX11_behind_3 0 _ rfl) (bX11_behind_3 1 _ rfl)
theorem dX11_behind_50 : decode cX11_behind 50 = .ok (.aload_n 1, 1) := dz_43 (bX11_behind_3 2 _ rfl)
theorem dX11_behind_51 : decode cX11_behind 51 = .ok (.getfield 295, 3) := dz_180 (bX11_behind_3 3 _ rfl) (bX11_behind_3 4 _ rfl) (bX11_behind_3 5 _ rfl)
theorem dX11_behind_54 : decode cX11_behind 54 = .ok (.aload_n 0, 1) := dz_42 (bX11_behind_3 6 _ rfl)
theorem dX11_behind_55 : decode cX11_behind 55 = .ok (.getfield 80, 3) := dz_180 (bX11_behind_3 7 _ rfl) (bX11_behind_3 8 _ rfl) (bX11_behind_3 9 _ rfl)
theorem dX11_behind_58 : decode cX11_behind 58 = .ok (.if_icmp .ne 11, 3) := dz_160 (bX11_behind_3 10 _ rfl) (bX11_behind_3 11 _ rfl) (bX11_behind_3 12 _ rfl)
theorem dX11_behind_61 : decode cX11_behind 61 = .ok (.aload_n 0, 1) := dz_42 (bX11_behind_3 13 _ rfl)
theorem dX11_behind_62 : decode cX11_behind 62 = .ok (.bipush 8, 2) := dz_16 (bX11_behind_3 14 _ rfl) (bX11_behind_3 15 _ rfl)
theorem dX11_behind_64 : decode cX11_behind 64 = .ok (.invokevirtual 221, 3) := dz_182 (bX11_behind_4 0 _ rfl) (bX11_behind_4 1 _ rfl) (bX11_behind_4 2 _ rfl)
theorem dX11_behind_67 : decode cX11_behind 67 = .ok (.iconst (-1), 1) := dz_2 (bX11_behind_4 3 _ rfl)
theorem dX11_behind_68 : decode cX11_behind 68 = .ok (.ireturn, 1) := dz_172 (bX11_behind_4 4 _ rfl)
theorem dX11_behind_69 : decode cX11_behind 69 = .ok (.iload_n 2, 1) := dz_28 (bX11_behind_4 5 _ rfl)
theorem dX11_behind_70 : decode cX11_behind 70 = .ok (.ifCond .lt 24, 3) := dz_155 (bX11_behind_4 6 _ rfl) (bX11_behind_4 7 _ rfl) (bX11_behind_4 8 _ rfl)
theorem dX11_behind_73 : decode cX11_behind 73 = .ok (.aload_n 0, 1) := dz_42 (bX11_behind_4 9 _ rfl)
theorem dX11_behind_74 : decode cX11_behind 74 = .ok (.getfield 12, 3) := dz_180 (bX11_behind_4 10 _ rfl) (bX11_behind_4 11 _ rfl) (bX11_behind_4 12 _ rfl)
theorem dX11_behind_77 : decode cX11_behind 77 = .ok (.iload_n 2, 1) := dz_28 (bX11_behind_4 13 _ rfl)
theorem dX11_behind_78 : decode cX11_behind 78 = .ok (.invokevirtual 71, 3) := dz_182 (bX11_behind_4 14 _ rfl) (bX11_behind_4 15 _ rfl) (bX11_behind_5 0 _ rfl)
theorem dX11_behind_81 : decode cX11_behind 81 = .ok (.checkcast 51, 3) := dz_192 (bX11_behind_5 1 _ rfl) (bX11_behind_5 2 _ rfl) (bX11_behind_5 3 _ rfl)
theorem dX11_behind_84 : decode cX11_behind 84 = .ok (.aload_n 1, 1) := dz_43 (bX11_behind_5 4 _ rfl)
theorem dX11_behind_85 : decode cX11_behind 85 = .ok (.getfield 295, 3) := dz_180 (bX11_behind_5 5 _ rfl) (bX11_behind_5 6 _ rfl) (bX11_behind_5 7 _ rfl)
theorem dX11_behind_88 : decode cX11_behind 88 = .ok (.invokevirtual 168, 3) := dz_182 (bX11_behind_5 8 _ rfl) (bX11_behind_5 9 _ rfl) (bX11_behind_5 10 _ rfl)
theorem dX11_behind_91 : decode cX11_behind 91 = .ok (.goto 4, 3) := dz_167 (bX11_behind_5 11 _ rfl) (bX11_behind_5 12 _ rfl) (bX11_behind_5 13 _ rfl)
theorem dX11_behind_94 : decode cX11_behind 94 = .ok (.aconst_null, 1) := dz_1 (bX11_behind_5 14 _ rfl)
theorem dX11_behind_95 : decode cX11_behind 95 = .ok (.astore_n 3, 1) := dz_78 (bX11_behind_5 15 _ rfl)
theorem dX11_behind_96 : decode cX11_behind 96 = .ok (.aload_n 0, 1) := dz_42 (bX11_behind_6 0 _ rfl)
theorem dX11_behind_97 : decode cX11_behind 97 = .ok (.aload_n 3, 1) := dz_45 (bX11_behind_6 1 _ rfl)
theorem dX11_behind_98 : decode cX11_behind 98 = .ok (.ifnull 7, 3) := dz_198 (bX11_behind_6 2 _ rfl) (bX11_behind_6 3 _ rfl) (bX11_behind_6 4 _ rfl)
theorem dX11_behind_101 : decode cX11_behind 101 = .ok (.iconst 1, 1) := dz_4 (bX11_behind_6 5 _ rfl)
theorem dX11_behind_102 : decode cX11_behind 102 = .ok (.goto 4, 3) := dz_167 (bX11_behind_6 6 _ rfl) (bX11_behind_6 7 _ rfl) (bX11_behind_6 8 _ rfl)
theorem dX11_behind_105 : decode cX11_behind 105 = .ok (.iconst 0, 1) := dz_3 (bX11_behind_6 9 _ rfl)
theorem dX11_behind_106 : decode cX11_behind 106 = .ok (.invokevirtual 274, 3) := dz_182 (bX11_behind_6 10 _ rfl) (bX11_behind_6 11 _ rfl) (bX11_behind_6 12 _ rfl)
theorem dX11_behind_109 : decode cX11_behind 109 = .ok (.aload_n 0, 1) := dz_42 (bX11_behind_6 13 _ rfl)
theorem dX11_behind_110 : decode cX11_behind 110 = .ok (.bipush 6, 2) := dz_16 (bX11_behind_6 14 _ rfl) (bX11_behind_6 15 _ rfl)
theorem dX11_behind_112 : decode cX11_behind 112 = .ok (.aload_n 0, 1) := dz_42 (bX11_behind_7 0 _ rfl)
theorem dX11_behind_113 : decode cX11_behind 113 = .ok (.getfield 12, 3) := dz_180 (bX11_behind_7 1 _ rfl) (bX11_behind_7 2 _ rfl) (bX11_behind_7 3 _ rfl)
theorem dX11_behind_116 : decode cX11_behind 116 = .ok (.iload_n 2, 1) := dz_28 (bX11_behind_7 4 _ rfl)
theorem dX11_behind_117 : decode cX11_behind 117 = .ok (.invokevirtual 71, 3) := dz_182 (bX11_behind_7 5 _ rfl) (bX11_behind_7 6 _ rfl) (bX11_behind_7 7 _ rfl)
theorem dX11_behind_120 : decode cX11_behind 120 = .ok (.checkcast 51, 3) := dz_192 (bX11_behind_7 8 _ rfl) (bX11_behind_7 9 _ rfl) (bX11_behind_7 10 _ rfl)
theorem dX11_behind_123 : decode cX11_behind 123 = .ok (.aload_n 3, 1) := dz_45 (bX11_behind_7 11 _ rfl)
theorem dX11_behind_124 : decode cX11_behind 124 = .ok (.invokevirtual 304, 3) := dz_182 (bX11_behind_7 12 _ rfl) (bX11_behind_7 13 _ rfl) (bX11_behind_7 14 _ rfl)
theorem dX11_behind_127 : decode cX11_behind 127 = .ok (.invokevirtual 247, 3) := dz_182 (bX11_behind_7 15 _ rfl) (bX11_behind_8 0 _ rfl) (bX11_behind_8 1 _ rfl)
theorem dX11_behind_130 : decode cX11_behind 130 = .ok (.aload_n 3, 1) := dz_45 (bX11_behind_8 2 _ rfl)
theorem dX11_behind_131 : decode cX11_behind 131 = .ok (.getfield 156, 3) := dz_180 (bX11_behind_8 3 _ rfl) (bX11_behind_8 4 _ rfl) (bX11_behind_8 5 _ rfl)
theorem dX11_behind_134 : decode cX11_behind 134 = .ok (.ireturn, 1) := dz_172 (bX11_behind_8 6 _ rfl)
theorem dX11_behind_135 : decode cX11_behind 135 = .ok (.aload_n 0, 1) := dz_42 (bX11_behind_8 7 _ rfl)
theorem dX11_behind_136 : decode cX11_behind 136 = .ok (.iload_n 2, 1) := dz_28 (bX11_behind_8 8 _ rfl)
theorem dX11_behind_137 : decode cX11_behind 137 = .ok (.ifCond .lt 7, 3) := dz_155 (bX11_behind_8 9 _ rfl) (bX11_behind_8 10 _ rfl) (bX11_behind_8 11 _ rfl)
theorem dX11_behind_140 : decode cX11_behind 140 = .ok (.iconst 1, 1) := dz_4 (bX11_behind_8 12 _ rfl)
theorem dX11_behind_141 : decode cX11_behind 141 = .ok (.goto 4, 3) := dz_167 (bX11_behind_8 13 _ rfl) (bX11_behind_8 14 _ rfl) (bX11_behind_8 15 _ rfl)
theorem dX11_behind_144 : decode cX11_behind 144 = .ok (.iconst 0, 1) := dz_3 (bX11_behind_9 0 _ rfl)
theorem dX11_behind_145 : decode cX11_behind 145 = .ok (.invokevirtual 274, 3) := dz_182 (bX11_behind_9 1 _ rfl) (bX11_behind_9 2 _ rfl) (bX11_behind_9 3 _ rfl)
theorem dX11_behind_148 : decode cX11_behind 148 = .ok (.aload_n 0, 1) := dz_42 (bX11_behind_9 4 _ rfl)
theorem dX11_behind_149 : decode cX11_behind 149 = .ok (.aload_n 0, 1) := dz_42 (bX11_behind_9 5 _ rfl)
theorem dX11_behind_150 : decode cX11_behind 150 = .ok (.getfield 12, 3) := dz_180 (bX11_behind_9 6 _ rfl) (bX11_behind_9 7 _ rfl) (bX11_behind_9 8 _ rfl)
theorem dX11_behind_153 : decode cX11_behind 153 = .ok (.iload_n 2, 1) := dz_28 (bX11_behind_9 9 _ rfl)
theorem dX11_behind_154 : decode cX11_behind 154 = .ok (.invokevirtual 71, 3) := dz_182 (bX11_behind_9 10 _ rfl) (bX11_behind_9 11 _ rfl) (bX11_behind_9 12 _ rfl)
theorem dX11_behind_157 : decode cX11_behind 157 = .ok (.checkcast 51, 3) := dz_192 (bX11_behind_9 13 _ rfl) (bX11_behind_9 14 _ rfl) (bX11_behind_9 15 _ rfl)
theorem dX11_behind_160 : decode cX11_behind 160 = .ok (.aload_n 1, 1) := dz_43 (bX11_behind_10 0 _ rfl)
theorem dX11_behind_161 : decode cX11_behind 161 = .ok (.invokevirtual 342, 3) := dz_182 (bX11_behind_10 1 _ rfl) (bX11_behind_10 2 _ rfl) (bX11_behind_10 3 _ rfl)
theorem dX11_behind_164 : decode cX11_behind 164 = .ok (.ireturn, 1) := dz_172 (bX11_behind_10 4 _ rfl)
theorem dX11_behind_165 : decode cX11_behind 165 = .ok (.aload_n 0, 1) := dz_42 (bX11_behind_10 5 _ rfl)
theorem dX11_behind_166 : decode cX11_behind 166 = .ok (.iload_n 2, 1) := dz_28 (bX11_behind_10 6 _ rfl)
theorem dX11_behind_167 : decode cX11_behind 167 = .ok (.bipush (-3), 2) := dz_16 (bX11_behind_10 7 _ rfl) (bX11_behind_10 8 _ rfl)
theorem dX11_behind_169 : decode cX11_behind 169 = .ok (.if_icmp .ne 19, 3) := dz_160 (bX11_behind_10 9 _ rfl) (bX11_behind_10 10 _ rfl) (bX11_behind_10 11 _ rfl)
theorem dX11_behind_172 : decode cX11_behind 172 = .ok (.aload_n 0, 1) := dz_42 (bX11_behind_10 12 _ rfl)
theorem dX11_behind_173 : decode cX11_behind 173 = .ok (.aload_n 1, 1) := dz_43 (bX11_behind_10 13 _ rfl)
theorem dX11_behind_174 : decode cX11_behind 174 = .ok (.getfield 301, 3) := dz_180 (bX11_behind_10 14 _ rfl) (bX11_behind_10 15 _ rfl) (bX11_behind_11 0 _ rfl)
theorem dX11_behind_177 : decode cX11_behind 177 = .ok (.invokevirtual 262, 3) := dz_182 (bX11_behind_11 1 _ rfl) (bX11_behind_11 2 _ rfl) (bX11_behind_11 3 _ rfl)
theorem dX11_behind_180 : decode cX11_behind 180 = .ok (.iconst (-1), 1) := dz_2 (bX11_behind_11 4 _ rfl)
theorem dX11_behind_181 : decode cX11_behind 181 = .ok (.if_icmp .ne 7, 3) := dz_160 (bX11_behind_11 5 _ rfl) (bX11_behind_11 6 _ rfl) (bX11_behind_11 7 _ rfl)
theorem dX11_behind_184 : decode cX11_behind 184 = .ok (.iconst 1, 1) := dz_4 (bX11_behind_11 8 _ rfl)
theorem dX11_behind_185 : decode cX11_behind 185 = .ok (.goto 4, 3) := dz_167 (bX11_behind_11 9 _ rfl) (bX11_behind_11 10 _ rfl) (bX11_behind_11 11 _ rfl)
theorem dX11_behind_188 : decode cX11_behind 188 = .ok (.iconst 0, 1) := dz_3 (bX11_behind_11 12 _ rfl)
theorem dX11_behind_189 : decode cX11_behind 189 = .ok (.invokevirtual 274, 3) := dz_182 (bX11_behind_11 13 _ rfl) (bX11_behind_11 14 _ rfl) (bX11_behind_11 15 _ rfl)
theorem dX11_behind_192 : decode cX11_behind 192 = .ok (.aload_n 0, 1) := dz_42 (bX11_behind_12 0 _ rfl)
theorem dX11_behind_193 : decode cX11_behind 193 = .ok (.bipush 7, 2) := dz_16 (bX11_behind_12 1 _ rfl) (bX11_behind_12 2 _ rfl)
theorem dX11_behind_195 : decode cX11_behind 195 = .ok (.invokevirtual 221, 3) := dz_182 (bX11_behind_12 3 _ rfl) (bX11_behind_12 4 _ rfl) (bX11_behind_12 5 _ rfl)
theorem dX11_behind_198 : decode cX11_behind 198 = .ok (.iconst (-1), 1) := dz_2 (bX11_behind_12 6 _ rfl)
theorem dX11_behind_199 : decode cX11_behind 199 = .ok (.ireturn, 1) := dz_172 (bX11_behind_12 7 _ rfl)
theorem dX11_behind_200 : decode cX11_behind 200 = .ok (.aload_n 0, 1) := dz_42 (bX11_behind_12 8 _ rfl)
theorem dX11_behind_201 : decode cX11_behind 201 = .ok (.aload_n 1, 1) := dz_43 (bX11_behind_12 9 _ rfl)
theorem dX11_behind_202 : decode cX11_behind 202 = .ok (.getfield 295, 3) := dz_180 (bX11_behind_12 10 _ rfl) (bX11_behind_12 11 _ rfl) (bX11_behind_12 12 _ rfl)
theorem dX11_behind_205 : decode cX11_behind 205 = .ok (.invokevirtual 98, 3) := dz_182 (bX11_behind_12 13 _ rfl) (bX11_behind_12 14 _ rfl) (bX11_behind_12 15 _ rfl)
theorem dX11_behind_208 : decode cX11_behind 208 = .ok (.astore 4, 2) := dz_58 (bX11_behind_13 0 _ rfl) (bX11_behind_13 1 _ rfl)
theorem dX11_behind_210 : decode cX11_behind 210 = .ok (.aload_n 0, 1) := dz_42 (bX11_behind_13 2 _ rfl)
theorem dX11_behind_211 : decode cX11_behind 211 = .ok (.iload_n 2, 1) := dz_28 (bX11_behind_13 3 _ rfl)
theorem dX11_behind_212 : decode cX11_behind 212 = .ok (.ifCond .ge 9, 3) := dz_156 (bX11_behind_13 4 _ rfl) (bX11_behind_13 5 _ rfl) (bX11_behind_13 6 _ rfl)
theorem dX11_behind_215 : decode cX11_behind 215 = .ok (.iload_n 2, 1) := dz_28 (bX11_behind_13 7 _ rfl)
theorem dX11_behind_216 : decode cX11_behind 216 = .ok (.bipush (-5), 2) := dz_16 (bX11_behind_13 8 _ rfl) (bX11_behind_13 9 _ rfl)
theorem dX11_behind_218 : decode cX11_behind 218 = .ok (.if_icmp .ne 12, 3) := dz_160 (bX11_behind_13 10 _ rfl) (bX11_behind_13 11 _ rfl) (bX11_behind_13 12 _ rfl)
theorem dX11_behind_221 : decode cX11_behind 221 = .ok (.aload 4, 2) := dz_25 (bX11_behind_13 13 _ rfl) (bX11_behind_13 14 _ rfl)
theorem dX11_behind_223 : decode cX11_behind 223 = .ok (.ifnull 7, 3) := dz_198 (bX11_behind_13 15 _ rfl) (bX11_behind_14 0 _ rfl) (bX11_behind_14 1 _ rfl)
theorem dX11_behind_226 : decode cX11_behind 226 = .ok (.iconst 1, 1) := dz_4 (bX11_behind_14 2 _ rfl)
theorem dX11_behind_227 : decode cX11_behind 227 = .ok (.goto 4, 3) := dz_167 (bX11_behind_14 3 _ rfl) (bX11_behind_14 4 _ rfl) (bX11_behind_14 5 _ rfl)
theorem dX11_behind_230 : decode cX11_behind 230 = .ok (.iconst 0, 1) := dz_3 (bX11_behind_14 6 _ rfl)
theorem dX11_behind_231 : decode cX11_behind 231 = .ok (.invokevirtual 274, 3) := dz_182 (bX11_behind_14 7 _ rfl) (bX11_behind_14 8 _ rfl) (bX11_behind_14 9 _ rfl)
theorem dX11_behind_234 : decode cX11_behind 234 = .ok (.aload_n 0, 1) := dz_42 (bX11_behind_14 10 _ rfl)
theorem dX11_behind_235 : decode cX11_behind 235 = .ok (.aload_n 1, 1) := dz_43 (bX11_behind_14 11 _ rfl)
theorem dX11_behind_236 : decode cX11_behind 236 = .ok (.getfield 292, 3) := dz_180 (bX11_behind_14 12 _ rfl) (bX11_behind_14 13 _ rfl) (bX11_behind_14 14 _ rfl)
theorem dX11_behind_239 : decode cX11_behind 239 = .ok (.bipush 13, 2) := dz_16 (bX11_behind_14 15 _ rfl) (bX11_behind_15 0 _ rfl)
theorem dX11_behind_241 : decode cX11_behind 241 = .ok (.if_icmp .ne 8, 3) := dz_160 (bX11_behind_15 1 _ rfl) (bX11_behind_15 2 _ rfl) (bX11_behind_15 3 _ rfl)
theorem dX11_behind_244 : decode cX11_behind 244 = .ok (.bipush 11, 2) := dz_16 (bX11_behind_15 4 _ rfl) (bX11_behind_15 5 _ rfl)
theorem dX11_behind_246 : decode cX11_behind 246 = .ok (.goto 5, 3) := dz_167 (bX11_behind_15 6 _ rfl) (bX11_behind_15 7 _ rfl) (bX11_behind_15 8 _ rfl)
theorem dX11_behind_249 : decode cX11_behind 249 = .ok (.bipush 12, 2) := dz_16 (bX11_behind_15 9 _ rfl) (bX11_behind_15 10 _ rfl)
theorem dX11_behind_251 : decode cX11_behind 251 = .ok (.aload 4, 2) := dz_25 (bX11_behind_15 11 _ rfl) (bX11_behind_15 12 _ rfl)
theorem dX11_behind_253 : decode cX11_behind 253 = .ok (.getfield 75, 3) := dz_180 (bX11_behind_15 13 _ rfl) (bX11_behind_15 14 _ rfl) (bX11_behind_15 15 _ rfl)
theorem dX11_behind_256 : decode cX11_behind 256 = .ok (.invokevirtual 247, 3) := dz_182 (bX11_behind_16 0 _ rfl) (bX11_behind_16 1 _ rfl) (bX11_behind_16 2 _ rfl)
theorem dX11_behind_259 : decode cX11_behind 259 = .ok (.aload_n 1, 1) := dz_43 (bX11_behind_16 3 _ rfl)
theorem dX11_behind_260 : decode cX11_behind 260 = .ok (.getfield 292, 3) := dz_180 (bX11_behind_16 4 _ rfl) (bX11_behind_16 5 _ rfl) (bX11_behind_16 6 _ rfl)
theorem dX11_behind_263 : decode cX11_behind 263 = .ok (.bipush 13, 2) := dz_16 (bX11_behind_16 7 _ rfl) (bX11_behind_16 8 _ rfl)
theorem dX11_behind_265 : decode cX11_behind 265 = .ok (.if_icmp .ne 11, 3) := dz_160 (bX11_behind_16 9 _ rfl) (bX11_behind_16 10 _ rfl) (bX11_behind_16 11 _ rfl)
theorem dX11_behind_268 : decode cX11_behind 268 = .ok (.aload 4, 2) := dz_25 (bX11_behind_16 12 _ rfl) (bX11_behind_16 13 _ rfl)
theorem dX11_behind_270 : decode cX11_behind 270 = .ok (.getfield 75, 3) := dz_180 (bX11_behind_16 14 _ rfl) (bX11_behind_16 15 _ rfl) (bX11_behind_17 0 _ rfl)
theorem dX11_behind_273 : decode cX11_behind 273 = .ok (.goto 5, 3) := dz_167 (bX11_behind_17 1 _ rfl) (bX11_behind_17 2 _ rfl) (bX11_behind_17 3 _ rfl)
theorem dX11_behind_276 : decode cX11_behind 276 = .ok (.bipush (-2), 2) := dz_16 (bX11_behind_17 4 _ rfl) (bX11_behind_17 5 _ rfl)
theorem dX11_behind_278 : decode cX11_behind 278 = .ok (.ireturn, 1) := dz_172 (bX11_behind_17 6 _ rfl)
theorem dX11_behind_279 : decode cX11_behind 279 = .ok (.aload_n 0, 1) := dz_42 (bX11_behind_17 7 _ rfl)
theorem dX11_behind_280 : decode cX11_behind 280 = .ok (.aload_n 1, 1) := dz_43 (bX11_behind_17 8 _ rfl)
theorem dX11_behind_281 : decode cX11_behind 281 = .ok (.iload_n 2, 1) := dz_28 (bX11_behind_17 9 _ rfl)
theorem dX11_behind_282 : decode cX11_behind 282 = .ok (.invokevirtual 350, 3) := dz_182 (bX11_behind_17 10 _ rfl) (bX11_behind_17 11 _ rfl) (bX11_behind_17 12 _ rfl)
theorem dX11_behind_285 : decode cX11_behind 285 = .ok (.ireturn, 1) := dz_172 (bX11_behind_17 13 _ rfl)
theorem dX11_behind_286 : decode cX11_behind 286 = .ok (.aload_n 0, 1) := dz_42 (bX11_behind_17 14 _ rfl)
theorem dX11_behind_287 : decode cX11_behind 287 = .ok (.iload_n 2, 1) := dz_28 (bX11_behind_17 15 _ rfl)
theorem dX11_behind_288 : decode cX11_behind 288 = .ok (.bipush (-2), 2) := dz_16 (bX11_behind_18 0 _ rfl) (bX11_behind_18 1 _ rfl)
theorem dX11_behind_290 : decode cX11_behind 290 = .ok (.if_icmp .ne 7, 3) := dz_160 (bX11_behind_18 2 _ rfl) (bX11_behind_18 3 _ rfl) (bX11_behind_18 4 _ rfl)
theorem dX11_behind_293 : decode cX11_behind 293 = .ok (.iconst 1, 1) := dz_4 (bX11_behind_18 5 _ rfl)
theorem dX11_behind_294 : decode cX11_behind 294 = .ok (.goto 4, 3) := dz_167 (bX11_behind_18 6 _ rfl) (bX11_behind_18 7 _ rfl) (bX11_behind_18 8 _ rfl)
theorem dX11_behind_297 : decode cX11_behind 297 = .ok (.iconst 0, 1) := dz_3 (bX11_behind_18 9 _ rfl)
theorem dX11_behind_298 : decode cX11_behind 298 = .ok (.invokevirtual 274, 3) := dz_182 (bX11_behind_18 10 _ rfl) (bX11_behind_18 11 _ rfl) (bX11_behind_18 12 _ rfl)
theorem dX11_behind_301 : decode cX11_behind 301 = .ok (.aload_n 0, 1) := dz_42 (bX11_behind_18 13 _ rfl)
theorem dX11_behind_302 : decode cX11_behind 302 = .ok (.aload_n 1, 1) := dz_43 (bX11_behind_18 14 _ rfl)
theorem dX11_behind_303 : decode cX11_behind 303 = .ok (.getfield 292, 3) := dz_180 (bX11_behind_18 15 _ rfl) (bX11_behind_19 0 _ rfl) (bX11_behind_19 1 _ rfl)
theorem dX11_behind_306 : decode cX11_behind 306 = .ok (.bipush 16, 2) := dz_16 (bX11_behind_19 2 _ rfl) (bX11_behind_19 3 _ rfl)
theorem dX11_behind_308 : decode cX11_behind 308 = .ok (.if_icmp .ne 8, 3) := dz_160 (bX11_behind_19 4 _ rfl) (bX11_behind_19 5 _ rfl) (bX11_behind_19 6 _ rfl)
theorem dX11_behind_311 : decode cX11_behind 311 = .ok (.bipush 16, 2) := dz_16 (bX11_behind_19 7 _ rfl) (bX11_behind_19 8 _ rfl)
theorem dX11_behind_313 : decode cX11_behind 313 = .ok (.goto 5, 3) := dz_167 (bX11_behind_19 9 _ rfl) (bX11_behind_19 10 _ rfl) (bX11_behind_19 11 _ rfl)
theorem dX11_behind_316 : decode cX11_behind 316 = .ok (.bipush 17, 2) := dz_16 (bX11_behind_19 12 _ rfl) (bX11_behind_19 13 _ rfl)
theorem dX11_behind_318 : decode cX11_behind 318 = .ok (.iconst 0, 1) := dz_3 (bX11_behind_19 14 _ rfl)
theorem dX11_behind_319 : decode cX11_behind 319 = .ok (.invokevirtual 247, 3) := dz_182 (bX11_behind_19 15 _ rfl) (bX11_behind_20 0 _ rfl) (bX11_behind_20 1 _ rfl)
theorem dX11_behind_322 : decode cX11_behind 322 = .ok (.aload_n 0, 1) := dz_42 (bX11_behind_20 2 _ rfl)
theorem dX11_behind_323 : decode cX11_behind 323 = .ok (.getfield 194, 3) := dz_180 (bX11_behind_20 3 _ rfl) (bX11_behind_20 4 _ rfl) (bX11_behind_20 5 _ rfl)
theorem dX11_behind_326 : decode cX11_behind 326 = .ok (.getfield 173, 3) := dz_180 (bX11_behind_20 6 _ rfl) (bX11_behind_20 7 _ rfl) (bX11_behind_20 8 _ rfl)
theorem dX11_behind_329 : decode cX11_behind 329 = .ok (.iconst 1, 1) := dz_4 (bX11_behind_20 9 _ rfl)
theorem dX11_behind_330 : decode cX11_behind 330 = .ok (.isub, 1) := dz_100 (bX11_behind_20 10 _ rfl)
theorem dX11_behind_331 : decode cX11_behind 331 = .ok (.istore 5, 2) := dz_54 (bX11_behind_20 11 _ rfl) (bX11_behind_20 12 _ rfl)
theorem dX11_behind_333 : decode cX11_behind 333 = .ok (.aload_n 0, 1) := dz_42 (bX11_behind_20 13 _ rfl)
theorem dX11_behind_334 : decode cX11_behind 334 = .ok (.aload_n 0, 1) := dz_42 (bX11_behind_20 14 _ rfl)
theorem dX11_behind_335 : decode cX11_behind 335 = .ok (.aload_n 1, 1) := dz_43 (bX11_behind_20 15 _ rfl)
theorem dX11_behind_336 : decode cX11_behind 336 = .ok (.getfield 301, 3) := dz_180 (bX11_behind_21 0 _ rfl) (bX11_behind_21 1 _ rfl) (bX11_behind_21 2 _ rfl)
theorem dX11_behind_339 : decode cX11_behind 339 = .ok (.invokevirtual 262, 3) := dz_182 (bX11_behind_21 3 _ rfl) (bX11_behind_21 4 _ rfl) (bX11_behind_21 5 _ rfl)
theorem dX11_behind_342 : decode cX11_behind 342 = .ok (.bipush (-2), 2) := dz_16 (bX11_behind_21 6 _ rfl) (bX11_behind_21 7 _ rfl)
theorem dX11_behind_344 : decode cX11_behind 344 = .ok (.if_icmp .ne 7, 3) := dz_160 (bX11_behind_21 8 _ rfl) (bX11_behind_21 9 _ rfl) (bX11_behind_21 10 _ rfl)
theorem dX11_behind_347 : decode cX11_behind 347 = .ok (.iconst 1, 1) := dz_4 (bX11_behind_21 11 _ rfl)
theorem dX11_behind_348 : decode cX11_behind 348 = .ok (.goto 4, 3) := dz_167 (bX11_behind_21 12 _ rfl) (bX11_behind_21 13 _ rfl) (bX11_behind_21 14 _ rfl)
theorem dX11_behind_351 : decode cX11_behind 351 = .ok (.iconst 0, 1) := dz_3 (bX11_behind_21 15 _ rfl)
theorem dX11_behind_352 : decode cX11_behind 352 = .ok (.invokevirtual 274, 3) := dz_182 (bX11_behind_22 0 _ rfl) (bX11_behind_22 1 _ rfl) (bX11_behind_22 2 _ rfl)
theorem dX11_behind_355 : decode cX11_behind 355 = .ok (.aload_n 0, 1) := dz_42 (bX11_behind_22 3 _ rfl)
theorem dX11_behind_356 : decode cX11_behind 356 = .ok (.getfield 194, 3) := dz_180 (bX11_behind_22 4 _ rfl) (bX11_behind_22 5 _ rfl) (bX11_behind_22 6 _ rfl)
theorem dX11_behind_359 : decode cX11_behind 359 = .ok (.getfield 318, 3) := dz_180 (bX11_behind_22 7 _ rfl) (bX11_behind_22 8 _ rfl) (bX11_behind_22 9 _ rfl)
theorem dX11_behind_362 : decode cX11_behind 362 = .ok (.iload 5, 2) := dz_21 (bX11_behind_22 10 _ rfl) (bX11_behind_22 11 _ rfl)
theorem dX11_behind_364 : decode cX11_behind 364 = .ok (.aload_n 0, 1) := dz_42 (bX11_behind_22 12 _ rfl)
theorem dX11_behind_365 : decode cX11_behind 365 = .ok (.getfield 194, 3) := dz_180 (bX11_behind_22 13 _ rfl) (bX11_behind_22 14 _ rfl) (bX11_behind_22 15 _ rfl)
theorem dX11_behind_368 : decode cX11_behind 368 = .ok (.getfield 173, 3) := dz_180 (bX11_behind_23 0 _ rfl) (bX11_behind_23 1 _ rfl) (bX11_behind_23 2 _ rfl)
theorem dX11_behind_371 : decode cX11_behind 371 = .ok (.iastore, 1) := dz_79 (bX11_behind_23 3 _ rfl)
theorem dX11_behind_372 : decode cX11_behind 372 = .ok (.bipush (-2), 2) := dz_16 (bX11_behind_23 4 _ rfl) (bX11_behind_23 5 _ rfl)
theorem dX11_behind_374 : decode cX11_behind 374 = .ok (.ireturn, 1) := dz_172 (bX11_behind_23 6 _ rfl)
def c_X11_behind_352 (rc : Nat → Nat → (Option Nat) → (Option Nat) → Int32 → ch_W → Option (Except Nat Int32 × ch_W)) (g : State) (t0 : Nat) (x5 : Int32) (y0 : Int32) (y1 : Nat) (w : ch_W) : Option (Except Nat Int32 × ch_W) := (ch_rc w (some y1) 12).bind fun _ => ch_tb (c_X11_must_2 g y1 y0 w) (fun a w => (.error a, w)) fun _ w3 => (ch_gR w3 (some t0) 12 fX11_code).bind fun v4 => (ch_gR w3 v4 9 fX8_all).bind fun v5 => (ch_gR w3 (some t0) 12 fX11_code).bind fun v6 => (ch_gI w3 v6 9 fX8_size).bind fun v7 => (ch_wI w3 v5 21 x5 v7).bind fun w8 => some ((.ok (-2), w8))
theorem s_X11_behind_352 {g : State} {d : Nat} {rc : Nat → Nat → (Option Nat) → (Option Nat) → Int32 → ch_W → Option (Except Nat Int32 × ch_W)} (hr0 : ∀ {t0 : Nat} {z0 : Option Nat} {w : ch_W} {p : Except Nat Int32 × ch_W} {Q : Outcome → ch_W → Prop}, rc 0 t0 z0 none 0 w = some p → ch_xI Q p → ch_CT g true yX11_value (d + 10) [.ref t0, va_rf z0] (w) Q) (hr2 : ∀ {t0 : Nat} {z0 : Option Nat} {z1 : Option Nat} {w : ch_W} {p : Except Nat Int32 × ch_W} {Q : Outcome → ch_W → Prop}, rc 2 t0 z0 z1 0 w = some p → ch_xI Q p → ch_CT g true yX11_called (d + 10) [.ref t0, va_rf z0, va_rf z1] (w) Q) (hr4 : ∀ {t0 : Nat} {z0 : Option Nat} {z1 : Int32} {w : ch_W} {p : Except Nat Int32 × ch_W} {Q : Outcome → ch_W → Prop}, rc 4 t0 z0 none z1 w = some p → ch_xI Q p → ch_CT g true yX11_signed (d + 10) [.ref t0, va_rf z0, .int z1] (w) Q)  {t0 : Nat} {x5 : Int32} {y0 : Int32} {y1 : Nat} {w : ch_W} {res : Except Nat Int32 × ch_W} {Q : Outcome → ch_W → Prop} (h : c_X11_behind_352 rc g t0 x5 y0 y1 w = some res) (hk : (ch_xI Q) res) : ch_FT g true mX11_behind (d + 11) 352 [some (va_rf (some t0)), none, none, none, none, some (.int x5)] [.int y0, va_rf (some y1)] (w) Q := by
  unfold c_X11_behind_352 at h
  obtain ⟨_, hb1, h⟩ := ch_bd h
  refine ch_iv yX11_must_2 prog_2_method_3_code 2 none (ci := 11) (q := (RX11, TX11, 14)) (b := y1) (d' := 8) (av := [.int y0]) (rest := []) rfl dX11_behind_352 q1202 q1204 rfl qs47 q1205 can_X11_must_2 (Nat.le_trans (Nat.le_of_ble_eq_true rfl) (Nat.le_add_left 11 d)) (Nat.le_of_ble_eq_true rfl) (ch_rts hb1) (cp_tV h (fun p hp Q' hq => s_X11_must_2 hp hq) (fun w3 h => ?_) (fun a w1 h => ?_))
  · refine ch_aload_n 0 (some t0) dX11_behind_355 rfl (cp_gR (ci := 11) (k := 5) dX11_behind_356 fl_X11_194 rfl h (fun v4 h => ?_))
    refine cp_gR (ci := 8) (k := 0) dX11_behind_359 fl_X11_318 rfl h (fun v5 h => ?_)
    refine ch_iload 5 _ dX11_behind_362 rfl (ch_aload_n 0 (some t0) dX11_behind_364 rfl (cp_gR (ci := 11) (k := 5) dX11_behind_365 fl_X11_194 rfl h (fun v6 h => ?_)))
    refine cp_gI (ci := 8) (k := 1) dX11_behind_368 fl_X11_173 rfl h (fun v7 h => ?_)
    refine cp_iast (t := 21) dX11_behind_371 rfl (Nat.le_of_ble_eq_true rfl) rfl h (fun w8 h => ?_)
    obtain rfl := Option.some.inj h
    exact ch_bipush _ (-2) dX11_behind_372 rfl (ch_ireturn _ dX11_behind_374 rfl rfl hk)
  · subst h
    exact ch_th rfl hk

def c_X11_behind_318 (rc : Nat → Nat → (Option Nat) → (Option Nat) → Int32 → ch_W → Option (Except Nat Int32 × ch_W)) (g : State) (t0 : Nat) (x1 : Option Nat) (y0 : Int32) (y1 : Nat) (w : ch_W) : Option (Except Nat Int32 × ch_W) := (ch_rc w (some y1) 12).bind fun _ => (c_X11_add y1 y0 0 w).bind fun p2 => (ch_gR p2 (some t0) 12 fX11_code).bind fun v4 => (ch_gI p2 v4 9 fX8_size).bind fun v5 => (ch_gR p2 x1 11 fX10_right).bind fun v6 => (ch_rc p2 (some t0) 12).bind fun _ => ch_tb (rc 0 t0 v6 none 0 p2) (fun a w => (.error a, w)) fun v8 w9 => if v8 = (-2) then (c_X11_behind_352 rc g t0 (v5 - 1) 1 t0 w9) else (c_X11_behind_352 rc g t0 (v5 - 1) 0 t0 w9)
theorem s_X11_behind_318 {g : State} {d : Nat} {rc : Nat → Nat → (Option Nat) → (Option Nat) → Int32 → ch_W → Option (Except Nat Int32 × ch_W)} (hr0 : ∀ {t0 : Nat} {z0 : Option Nat} {w : ch_W} {p : Except Nat Int32 × ch_W} {Q : Outcome → ch_W → Prop}, rc 0 t0 z0 none 0 w = some p → ch_xI Q p → ch_CT g true yX11_value (d + 10) [.ref t0, va_rf z0] (w) Q) (hr2 : ∀ {t0 : Nat} {z0 : Option Nat} {z1 : Option Nat} {w : ch_W} {p : Except Nat Int32 × ch_W} {Q : Outcome → ch_W → Prop}, rc 2 t0 z0 z1 0 w = some p → ch_xI Q p → ch_CT g true yX11_called (d + 10) [.ref t0, va_rf z0, va_rf z1] (w) Q) (hr4 : ∀ {t0 : Nat} {z0 : Option Nat} {z1 : Int32} {w : ch_W} {p : Except Nat Int32 × ch_W} {Q : Outcome → ch_W → Prop}, rc 4 t0 z0 none z1 w = some p → ch_xI Q p → ch_CT g true yX11_signed (d + 10) [.ref t0, va_rf z0, .int z1] (w) Q)  {t0 : Nat} {x1 : Option Nat} {y0 : Int32} {y1 : Nat} {w : ch_W} {res : Except Nat Int32 × ch_W} {Q : Outcome → ch_W → Prop} (h : c_X11_behind_318 rc g t0 x1 y0 y1 w = some res) (hk : (ch_xI Q) res) : ch_FT g true mX11_behind (d + 11) 318 [some (va_rf (some t0)), some (va_rf x1), none, none, none, none] [.int y0, va_rf (some y1)] (w) Q := by
  unfold c_X11_behind_318 at h
  obtain ⟨_, hb1, h⟩ := ch_bd h
  obtain ⟨p2, hp3, h⟩ := ch_bd h
  refine ch_iconst _ 0 dX11_behind_318 rfl (ch_iv yX11_add prog_2_method_14_code 3 none (ci := 11) (q := (RX11, TX11, 14)) (b := y1) (d' := 3) (av := [.int y0, .int 0]) (rest := []) rfl dX11_behind_319 q1214 q1216 rfl qs50 q1217 can_X11_add (Nat.le_trans (Nat.le_of_ble_eq_true rfl) (Nat.le_add_left 11 d)) (Nat.le_of_ble_eq_true rfl) (ch_rts hb1) (cp_kV (w1 := p2) (fun Q' hq => s_X11_add hp3 hq) ?_))
  refine ch_aload_n 0 (some t0) dX11_behind_322 rfl (cp_gR (ci := 11) (k := 5) dX11_behind_323 fl_X11_194 rfl h (fun v4 h => ?_))
  refine cp_gI (ci := 8) (k := 1) dX11_behind_326 fl_X11_173 rfl h (fun v5 h => ?_)
  refine ch_iconst _ 1 dX11_behind_329 rfl (ch_isub _ _ dX11_behind_330 (ch_istore 5 _ (ls1 := [some (va_rf (some t0)), some (va_rf x1), none, none, none, some (.int (v5 - 1))]) dX11_behind_331 (Nat.le_of_ble_eq_true rfl) rfl (ch_aload_n 0 (some t0) dX11_behind_333 rfl (ch_aload_n 0 (some t0) dX11_behind_334 rfl (ch_aload_n 1 x1 dX11_behind_335 rfl (cp_gR (ci := 10) (k := 2) dX11_behind_336 fl_X11_301 rfl h (fun v6 h => ?_)))))))
  obtain ⟨_, hb7, h⟩ := ch_bd h
  refine ch_iv yX11_value prog_2_method_28_code 5 (some .int) (ci := 11) (q := (RX11, TX11, 14)) (b := t0) (d' := (d + 10)) (av := [va_rf v6]) (rest := [va_rf (some t0)]) rfl dX11_behind_339 q1206 q1208 rfl qs48 q1209 can_X11_value (Nat.le_refl _) (ch_hw (Nat.le_of_ble_eq_true rfl)) (ch_rts hb7) (cp_tI h (fun p hp Q' hq => hr0 hp hq) (fun v8 w9 h => ?_) (fun a w1 h => ?_))
  · refine ch_bipush _ (-2) dX11_behind_342 rfl (cp_icmp_ne _ _ (tgt := 351) dX11_behind_344 rfl h (fun h => ?_) (fun h => ?_))
    · exact ch_iconst _ 0 dX11_behind_351 rfl (ch_FT.wk (ch_wS (ch_wN (ch_wN (ch_wN (ch_wN (ch_wS ch_w0)))))) (s_X11_behind_352 hr0 hr2 hr4 h hk))
    · exact ch_iconst _ 1 dX11_behind_347 rfl (ch_goto 352 dX11_behind_348 rfl (ch_FT.wk (ch_wS (ch_wN (ch_wN (ch_wN (ch_wN (ch_wS ch_w0)))))) (s_X11_behind_352 hr0 hr2 hr4 h hk)))
  · subst h
    exact ch_th rfl hk

def c_X11_behind_298 (rc : Nat → Nat → (Option Nat) → (Option Nat) → Int32 → ch_W → Option (Except Nat Int32 × ch_W)) (g : State) (t0 : Nat) (x1 : Option Nat) (y0 : Int32) (y1 : Nat) (w : ch_W) : Option (Except Nat Int32 × ch_W) := (ch_rc w (some y1) 12).bind fun _ => ch_tb (c_X11_must_2 g y1 y0 w) (fun a w => (.error a, w)) fun _ w3 => (ch_gI w3 x1 11 fX10_kind).bind fun v4 => if v4 = 16 then (c_X11_behind_318 rc g t0 x1 16 t0 w3) else (c_X11_behind_318 rc g t0 x1 17 t0 w3)
theorem s_X11_behind_298 {g : State} {d : Nat} {rc : Nat → Nat → (Option Nat) → (Option Nat) → Int32 → ch_W → Option (Except Nat Int32 × ch_W)} (hr0 : ∀ {t0 : Nat} {z0 : Option Nat} {w : ch_W} {p : Except Nat Int32 × ch_W} {Q : Outcome → ch_W → Prop}, rc 0 t0 z0 none 0 w = some p → ch_xI Q p → ch_CT g true yX11_value (d + 10) [.ref t0, va_rf z0] (w) Q) (hr2 : ∀ {t0 : Nat} {z0 : Option Nat} {z1 : Option Nat} {w : ch_W} {p : Except Nat Int32 × ch_W} {Q : Outcome → ch_W → Prop}, rc 2 t0 z0 z1 0 w = some p → ch_xI Q p → ch_CT g true yX11_called (d + 10) [.ref t0, va_rf z0, va_rf z1] (w) Q) (hr4 : ∀ {t0 : Nat} {z0 : Option Nat} {z1 : Int32} {w : ch_W} {p : Except Nat Int32 × ch_W} {Q : Outcome → ch_W → Prop}, rc 4 t0 z0 none z1 w = some p → ch_xI Q p → ch_CT g true yX11_signed (d + 10) [.ref t0, va_rf z0, .int z1] (w) Q)  {t0 : Nat} {x1 : Option Nat} {y0 : Int32} {y1 : Nat} {w : ch_W} {res : Except Nat Int32 × ch_W} {Q : Outcome → ch_W → Prop} (h : c_X11_behind_298 rc g t0 x1 y0 y1 w = some res) (hk : (ch_xI Q) res) : ch_FT g true mX11_behind (d + 11) 298 [some (va_rf (some t0)), some (va_rf x1), none, none, none, none] [.int y0, va_rf (some y1)] (w) Q := by
  unfold c_X11_behind_298 at h
  obtain ⟨_, hb1, h⟩ := ch_bd h
  refine ch_iv yX11_must_2 prog_2_method_3_code 2 none (ci := 11) (q := (RX11, TX11, 14)) (b := y1) (d' := 8) (av := [.int y0]) (rest := []) rfl dX11_behind_298 q1202 q1204 rfl qs47 q1205 can_X11_must_2 (Nat.le_trans (Nat.le_of_ble_eq_true rfl) (Nat.le_add_left 11 d)) (Nat.le_of_ble_eq_true rfl) (ch_rts hb1) (cp_tV h (fun p hp Q' hq => s_X11_must_2 hp hq) (fun w3 h => ?_) (fun a w1 h => ?_))
  · refine ch_aload_n 0 (some t0) dX11_behind_301 rfl (ch_aload_n 1 x1 dX11_behind_302 rfl (cp_gI (ci := 10) (k := 0) dX11_behind_303 fl_X11_292 rfl h (fun v4 h => ?_)))
    refine ch_bipush _ 16 dX11_behind_306 rfl (cp_icmp_ne _ _ (tgt := 316) dX11_behind_308 rfl h (fun h => ?_) (fun h => ?_))
    · exact ch_bipush _ 17 dX11_behind_316 rfl (ch_FT.wk (ch_wS (ch_wS (ch_wN (ch_wN (ch_wN (ch_wN ch_w0)))))) (s_X11_behind_318 hr0 hr2 hr4 h hk))
    · exact ch_bipush _ 16 dX11_behind_311 rfl (ch_goto 318 dX11_behind_313 rfl (ch_FT.wk (ch_wS (ch_wS (ch_wN (ch_wN (ch_wN (ch_wN ch_w0)))))) (s_X11_behind_318 hr0 hr2 hr4 h hk)))
  · subst h
    exact ch_th rfl hk

def c_X11_behind_106 (rc : Nat → Nat → (Option Nat) → (Option Nat) → Int32 → ch_W → Option (Except Nat Int32 × ch_W)) (g : State) (t0 : Nat) (x2 : Int32) (x3 : Option Nat) (y0 : Int32) (y1 : Nat) (w : ch_W) : Option (Except Nat Int32 × ch_W) := (ch_rc w (some y1) 12).bind fun _ => ch_tb (c_X11_must_2 g y1 y0 w) (fun a w => (.error a, w)) fun _ w3 => (ch_gR w3 (some t0) 12 fX11_kinds).bind fun v4 => (ch_rc w3 v4 14).bind fun b6 => (c_J5_get b6 x2 w3).bind fun v7 => (ch_cast w3 v7 7).bind fun _ => (ch_rc w3 v7 7).bind fun b10 => (c_X6_fieldAt b10 x3 w3).bind fun v11 => (ch_rc w3 (some t0) 12).bind fun _ => (c_X11_add t0 6 v11 w3).bind fun p14 => (ch_gI p14 x3 8 fX7_result).bind fun v16 => some ((.ok v16, p14))
theorem s_X11_behind_106 {g : State} {d : Nat} {rc : Nat → Nat → (Option Nat) → (Option Nat) → Int32 → ch_W → Option (Except Nat Int32 × ch_W)} (hr0 : ∀ {t0 : Nat} {z0 : Option Nat} {w : ch_W} {p : Except Nat Int32 × ch_W} {Q : Outcome → ch_W → Prop}, rc 0 t0 z0 none 0 w = some p → ch_xI Q p → ch_CT g true yX11_value (d + 10) [.ref t0, va_rf z0] (w) Q) (hr2 : ∀ {t0 : Nat} {z0 : Option Nat} {z1 : Option Nat} {w : ch_W} {p : Except Nat Int32 × ch_W} {Q : Outcome → ch_W → Prop}, rc 2 t0 z0 z1 0 w = some p → ch_xI Q p → ch_CT g true yX11_called (d + 10) [.ref t0, va_rf z0, va_rf z1] (w) Q) (hr4 : ∀ {t0 : Nat} {z0 : Option Nat} {z1 : Int32} {w : ch_W} {p : Except Nat Int32 × ch_W} {Q : Outcome → ch_W → Prop}, rc 4 t0 z0 none z1 w = some p → ch_xI Q p → ch_CT g true yX11_signed (d + 10) [.ref t0, va_rf z0, .int z1] (w) Q)  {t0 : Nat} {x2 : Int32} {x3 : Option Nat} {y0 : Int32} {y1 : Nat} {w : ch_W} {res : Except Nat Int32 × ch_W} {Q : Outcome → ch_W → Prop} (h : c_X11_behind_106 rc g t0 x2 x3 y0 y1 w = some res) (hk : (ch_xI Q) res) : ch_FT g true mX11_behind (d + 11) 106 [some (va_rf (some t0)), none, some (.int x2), some (va_rf x3), none, none] [.int y0, va_rf (some y1)] (w) Q := by
  unfold c_X11_behind_106 at h
  obtain ⟨_, hb1, h⟩ := ch_bd h
  refine ch_iv yX11_must_2 prog_2_method_3_code 2 none (ci := 11) (q := (RX11, TX11, 14)) (b := y1) (d' := 8) (av := [.int y0]) (rest := []) rfl dX11_behind_106 q1202 q1204 rfl qs47 q1205 can_X11_must_2 (Nat.le_trans (Nat.le_of_ble_eq_true rfl) (Nat.le_add_left 11 d)) (Nat.le_of_ble_eq_true rfl) (ch_rts hb1) (cp_tV h (fun p hp Q' hq => s_X11_must_2 hp hq) (fun w3 h => ?_) (fun a w1 h => ?_))
  · refine ch_aload_n 0 (some t0) dX11_behind_109 rfl (ch_bipush _ 6 dX11_behind_110 rfl (ch_aload_n 0 (some t0) dX11_behind_112 rfl (cp_gR (ci := 11) (k := 1) dX11_behind_113 fl_X11_12 rfl h (fun v4 h => ?_))))
    obtain ⟨b6, hb5, h⟩ := ch_bd h
    obtain ⟨v7, hp8, h⟩ := ch_bd h
    refine ch_iload_n 2 _ dX11_behind_116 rfl (ch_iv yJ5_get prog_32_method_20_code 2 (some (.object "java/lang/Object")) (ci := 13) (q := (RJ5, TJ5, 3)) (b := b6) (d' := 4) (av := [.int x2]) (rest := [.int 6, va_rf (some t0)]) (by rw [ch_rs hb5]; rfl) dX11_behind_117 q1062 q612 rfl q613 q614 can_J5_get (Nat.le_trans (Nat.le_of_ble_eq_true rfl) (Nat.le_add_left 11 d)) (ch_hw (Nat.le_of_ble_eq_true rfl)) (ch_rtg hb5) (cp_kR (v := v7) (w1 := w3) (fun Q' hq => s_J5_get hp8 hq) ?_))
    refine cp_cast (ci := 6) (q := (RX6, TX6, 8)) dX11_behind_120 rfl q1054 h (fun h => ?_)
    obtain ⟨b10, hb9, h⟩ := ch_bd h
    obtain ⟨v11, hp12, h⟩ := ch_bd h
    refine ch_aload_n 3 x3 dX11_behind_123 rfl (ch_iv yX6_fieldAt prog_4_method_5_code 5 (some .int) (ci := 6) (q := (RX6, TX6, 8)) (b := b10) (d' := 6) (av := [va_rf x3]) (rest := [.int 6, va_rf (some t0)]) (by rw [ch_rs hb9]; rfl) dX11_behind_124 q1226 q1227 rfl q1228 q1229 can_X6_fieldAt (Nat.le_trans (Nat.le_of_ble_eq_true rfl) (Nat.le_add_left 11 d)) (ch_hw (Nat.le_of_ble_eq_true rfl)) (ch_rtg hb9) (cp_kI (v := v11) (w1 := w3) (fun Q' hq => s_X6_fieldAt hp12 hq) ?_))
    obtain ⟨_, hb13, h⟩ := ch_bd h
    obtain ⟨p14, hp15, h⟩ := ch_bd h
    refine ch_iv yX11_add prog_2_method_14_code 3 none (ci := 11) (q := (RX11, TX11, 14)) (b := t0) (d' := 3) (av := [.int 6, .int v11]) (rest := []) rfl dX11_behind_127 q1214 q1216 rfl qs50 q1217 can_X11_add (Nat.le_trans (Nat.le_of_ble_eq_true rfl) (Nat.le_add_left 11 d)) (Nat.le_of_ble_eq_true rfl) (ch_rts hb13) (cp_kV (w1 := p14) (fun Q' hq => s_X11_add hp15 hq) ?_)
    refine ch_aload_n 3 x3 dX11_behind_130 rfl (cp_gI (ci := 7) (k := 11) dX11_behind_131 fl_X11_156 rfl h (fun v16 h => ?_))
    obtain rfl := Option.some.inj h
    exact ch_ireturn _ dX11_behind_134 rfl rfl hk
  · subst h
    exact ch_th rfl hk

def c_X11_behind_95 (rc : Nat → Nat → (Option Nat) → (Option Nat) → Int32 → ch_W → Option (Except Nat Int32 × ch_W)) (g : State) (t0 : Nat) (x2 : Int32) (y0 : Option Nat) (w : ch_W) : Option (Except Nat Int32 × ch_W) := if y0 = none then (c_X11_behind_106 rc g t0 x2 y0 0 t0 w) else (c_X11_behind_106 rc g t0 x2 y0 1 t0 w)
theorem s_X11_behind_95 {g : State} {d : Nat} {rc : Nat → Nat → (Option Nat) → (Option Nat) → Int32 → ch_W → Option (Except Nat Int32 × ch_W)} (hr0 : ∀ {t0 : Nat} {z0 : Option Nat} {w : ch_W} {p : Except Nat Int32 × ch_W} {Q : Outcome → ch_W → Prop}, rc 0 t0 z0 none 0 w = some p → ch_xI Q p → ch_CT g true yX11_value (d + 10) [.ref t0, va_rf z0] (w) Q) (hr2 : ∀ {t0 : Nat} {z0 : Option Nat} {z1 : Option Nat} {w : ch_W} {p : Except Nat Int32 × ch_W} {Q : Outcome → ch_W → Prop}, rc 2 t0 z0 z1 0 w = some p → ch_xI Q p → ch_CT g true yX11_called (d + 10) [.ref t0, va_rf z0, va_rf z1] (w) Q) (hr4 : ∀ {t0 : Nat} {z0 : Option Nat} {z1 : Int32} {w : ch_W} {p : Except Nat Int32 × ch_W} {Q : Outcome → ch_W → Prop}, rc 4 t0 z0 none z1 w = some p → ch_xI Q p → ch_CT g true yX11_signed (d + 10) [.ref t0, va_rf z0, .int z1] (w) Q)  {t0 : Nat} {x2 : Int32} {y0 : Option Nat} {w : ch_W} {res : Except Nat Int32 × ch_W} {Q : Outcome → ch_W → Prop} (h : c_X11_behind_95 rc g t0 x2 y0 w = some res) (hk : (ch_xI Q) res) : ch_FT g true mX11_behind (d + 11) 95 [some (va_rf (some t0)), none, some (.int x2), none, none, none] [va_rf y0] (w) Q := by
  unfold c_X11_behind_95 at h
  refine ch_astore_n 3 y0 (ls1 := [some (va_rf (some t0)), none, some (.int x2), some (va_rf y0), none, none]) dX11_behind_95 (Nat.le_of_ble_eq_true rfl) rfl (ch_aload_n 0 (some t0) dX11_behind_96 rfl (ch_aload_n 3 y0 dX11_behind_97 rfl (cp_ifnull y0 (tgt := 105) dX11_behind_98 rfl h (fun h => ?_) (fun h => ?_))))
  · exact ch_iconst _ 0 dX11_behind_105 rfl (ch_FT.wk (ch_wS (ch_wN (ch_wS (ch_wS (ch_wN (ch_wN ch_w0)))))) (s_X11_behind_106 hr0 hr2 hr4 h hk))
  · exact ch_iconst _ 1 dX11_behind_101 rfl (ch_goto 106 dX11_behind_102 rfl (ch_FT.wk (ch_wS (ch_wN (ch_wS (ch_wS (ch_wN (ch_wN ch_w0)))))) (s_X11_behind_106 hr0 hr2 hr4 h hk)))

def c_X11_behind_69 (rc : Nat → Nat → (Option Nat) → (Option Nat) → Int32 → ch_W → Option (Except Nat Int32 × ch_W)) (g : State) (t0 : Nat) (x1 : Option Nat) (x2 : Int32)  (w : ch_W) : Option (Except Nat Int32 × ch_W) := if x2 < 0 then (c_X11_behind_95 rc g t0 x2 none w) else ((ch_gR w (some t0) 12 fX11_kinds).bind fun v1 => (ch_rc w v1 14).bind fun b3 => (c_J5_get b3 x2 w).bind fun v4 => (ch_cast w v4 7).bind fun _ => (ch_gI w x1 11 fX10_what).bind fun v6 => (ch_rc w v4 7).bind fun b8 => (c_X6_field b8 v6 w).bind fun v9 => c_X11_behind_95 rc g t0 x2 v9 w)
theorem s_X11_behind_69 {g : State} {d : Nat} {rc : Nat → Nat → (Option Nat) → (Option Nat) → Int32 → ch_W → Option (Except Nat Int32 × ch_W)} (hr0 : ∀ {t0 : Nat} {z0 : Option Nat} {w : ch_W} {p : Except Nat Int32 × ch_W} {Q : Outcome → ch_W → Prop}, rc 0 t0 z0 none 0 w = some p → ch_xI Q p → ch_CT g true yX11_value (d + 10) [.ref t0, va_rf z0] (w) Q) (hr2 : ∀ {t0 : Nat} {z0 : Option Nat} {z1 : Option Nat} {w : ch_W} {p : Except Nat Int32 × ch_W} {Q : Outcome → ch_W → Prop}, rc 2 t0 z0 z1 0 w = some p → ch_xI Q p → ch_CT g true yX11_called (d + 10) [.ref t0, va_rf z0, va_rf z1] (w) Q) (hr4 : ∀ {t0 : Nat} {z0 : Option Nat} {z1 : Int32} {w : ch_W} {p : Except Nat Int32 × ch_W} {Q : Outcome → ch_W → Prop}, rc 4 t0 z0 none z1 w = some p → ch_xI Q p → ch_CT g true yX11_signed (d + 10) [.ref t0, va_rf z0, .int z1] (w) Q)  {t0 : Nat} {x1 : Option Nat} {x2 : Int32} {w : ch_W} {res : Except Nat Int32 × ch_W} {Q : Outcome → ch_W → Prop} (h : c_X11_behind_69 rc g t0 x1 x2 w = some res) (hk : (ch_xI Q) res) : ch_FT g true mX11_behind (d + 11) 69 [some (va_rf (some t0)), some (va_rf x1), some (.int x2), none, none, none] [] (w) Q := by
  unfold c_X11_behind_69 at h
  refine ch_iload_n 2 _ dX11_behind_69 rfl (cp_if_lt _ (tgt := 94) dX11_behind_70 rfl h (fun h => ?_) (fun h => ?_))
  · exact ch_null dX11_behind_94 (ch_FT.wk (ch_wS (ch_wN (ch_wS (ch_wN (ch_wN (ch_wN ch_w0)))))) (s_X11_behind_95 hr0 hr2 hr4 h hk))
  · refine ch_aload_n 0 (some t0) dX11_behind_73 rfl (cp_gR (ci := 11) (k := 1) dX11_behind_74 fl_X11_12 rfl h (fun v1 h => ?_))
    obtain ⟨b3, hb2, h⟩ := ch_bd h
    obtain ⟨v4, hp5, h⟩ := ch_bd h
    refine ch_iload_n 2 _ dX11_behind_77 rfl (ch_iv yJ5_get prog_32_method_20_code 2 (some (.object "java/lang/Object")) (ci := 13) (q := (RJ5, TJ5, 3)) (b := b3) (d' := 4) (av := [.int x2]) (rest := []) (by rw [ch_rs hb2]; rfl) dX11_behind_78 q1062 q612 rfl q613 q614 can_J5_get (Nat.le_trans (Nat.le_of_ble_eq_true rfl) (Nat.le_add_left 11 d)) (Nat.le_of_ble_eq_true rfl) (ch_rtg hb2) (cp_kR (v := v4) (w1 := w) (fun Q' hq => s_J5_get hp5 hq) ?_))
    refine cp_cast (ci := 6) (q := (RX6, TX6, 8)) dX11_behind_81 rfl q1054 h (fun h => ?_)
    refine ch_aload_n 1 x1 dX11_behind_84 rfl (cp_gI (ci := 10) (k := 4) dX11_behind_85 fl_X11_295 rfl h (fun v6 h => ?_))
    obtain ⟨b8, hb7, h⟩ := ch_bd h
    obtain ⟨v9, hp10, h⟩ := ch_bd h
    refine ch_iv yX6_field prog_4_method_4_code 4 (some (.object "ClassHouse$Member")) (ci := 6) (q := (RX6, TX6, 8)) (b := b8) (d' := 6) (av := [.int v6]) (rest := []) (by rw [ch_rs hb7]; rfl) dX11_behind_88 q1164 q1165 rfl q1166 q1167 can_X6_field (Nat.le_trans (Nat.le_of_ble_eq_true rfl) (Nat.le_add_left 11 d)) (Nat.le_of_ble_eq_true rfl) (ch_rtg hb7) (cp_kR (v := v9) (w1 := w) (fun Q' hq => s_X6_field hp10 hq) ?_)
    exact ch_goto 95 dX11_behind_91 rfl (ch_FT.wk (ch_wS (ch_wN (ch_wS (ch_wN (ch_wN (ch_wN ch_w0)))))) (s_X11_behind_95 hr0 hr2 hr4 h hk))

def c_X11_behind_145 (rc : Nat → Nat → (Option Nat) → (Option Nat) → Int32 → ch_W → Option (Except Nat Int32 × ch_W)) (g : State) (t0 : Nat) (x1 : Option Nat) (x2 : Int32) (y0 : Int32) (y1 : Nat) (w : ch_W) : Option (Except Nat Int32 × ch_W) := (ch_rc w (some y1) 12).bind fun _ => ch_tb (c_X11_must_2 g y1 y0 w) (fun a w => (.error a, w)) fun _ w3 => (ch_gR w3 (some t0) 12 fX11_kinds).bind fun v4 => (ch_rc w3 v4 14).bind fun b6 => (c_J5_get b6 x2 w3).bind fun v7 => (ch_cast w3 v7 7).bind fun _ => (ch_rc w3 (some t0) 12).bind fun _ => ch_tb (rc 2 t0 v7 x1 0 w3) (fun a w => (.error a, w)) fun v10 w11 => some ((.ok v10, w11))
theorem s_X11_behind_145 {g : State} {d : Nat} {rc : Nat → Nat → (Option Nat) → (Option Nat) → Int32 → ch_W → Option (Except Nat Int32 × ch_W)} (hr0 : ∀ {t0 : Nat} {z0 : Option Nat} {w : ch_W} {p : Except Nat Int32 × ch_W} {Q : Outcome → ch_W → Prop}, rc 0 t0 z0 none 0 w = some p → ch_xI Q p → ch_CT g true yX11_value (d + 10) [.ref t0, va_rf z0] (w) Q) (hr2 : ∀ {t0 : Nat} {z0 : Option Nat} {z1 : Option Nat} {w : ch_W} {p : Except Nat Int32 × ch_W} {Q : Outcome → ch_W → Prop}, rc 2 t0 z0 z1 0 w = some p → ch_xI Q p → ch_CT g true yX11_called (d + 10) [.ref t0, va_rf z0, va_rf z1] (w) Q) (hr4 : ∀ {t0 : Nat} {z0 : Option Nat} {z1 : Int32} {w : ch_W} {p : Except Nat Int32 × ch_W} {Q : Outcome → ch_W → Prop}, rc 4 t0 z0 none z1 w = some p → ch_xI Q p → ch_CT g true yX11_signed (d + 10) [.ref t0, va_rf z0, .int z1] (w) Q)  {t0 : Nat} {x1 : Option Nat} {x2 : Int32} {y0 : Int32} {y1 : Nat} {w : ch_W} {res : Except Nat Int32 × ch_W} {Q : Outcome → ch_W → Prop} (h : c_X11_behind_145 rc g t0 x1 x2 y0 y1 w = some res) (hk : (ch_xI Q) res) : ch_FT g true mX11_behind (d + 11) 145 [some (va_rf (some t0)), some (va_rf x1), some (.int x2), none, none, none] [.int y0, va_rf (some y1)] (w) Q := by
  unfold c_X11_behind_145 at h
  obtain ⟨_, hb1, h⟩ := ch_bd h
  refine ch_iv yX11_must_2 prog_2_method_3_code 2 none (ci := 11) (q := (RX11, TX11, 14)) (b := y1) (d' := 8) (av := [.int y0]) (rest := []) rfl dX11_behind_145 q1202 q1204 rfl qs47 q1205 can_X11_must_2 (Nat.le_trans (Nat.le_of_ble_eq_true rfl) (Nat.le_add_left 11 d)) (Nat.le_of_ble_eq_true rfl) (ch_rts hb1) (cp_tV h (fun p hp Q' hq => s_X11_must_2 hp hq) (fun w3 h => ?_) (fun a w1 h => ?_))
  · refine ch_aload_n 0 (some t0) dX11_behind_148 rfl (ch_aload_n 0 (some t0) dX11_behind_149 rfl (cp_gR (ci := 11) (k := 1) dX11_behind_150 fl_X11_12 rfl h (fun v4 h => ?_)))
    obtain ⟨b6, hb5, h⟩ := ch_bd h
    obtain ⟨v7, hp8, h⟩ := ch_bd h
    refine ch_iload_n 2 _ dX11_behind_153 rfl (ch_iv yJ5_get prog_32_method_20_code 2 (some (.object "java/lang/Object")) (ci := 13) (q := (RJ5, TJ5, 3)) (b := b6) (d' := 4) (av := [.int x2]) (rest := [va_rf (some t0)]) (by rw [ch_rs hb5]; rfl) dX11_behind_154 q1062 q612 rfl q613 q614 can_J5_get (Nat.le_trans (Nat.le_of_ble_eq_true rfl) (Nat.le_add_left 11 d)) (ch_hw (Nat.le_of_ble_eq_true rfl)) (ch_rtg hb5) (cp_kR (v := v7) (w1 := w3) (fun Q' hq => s_J5_get hp8 hq) ?_))
    refine cp_cast (ci := 6) (q := (RX6, TX6, 8)) dX11_behind_157 rfl q1054 h (fun h => ?_)
    obtain ⟨_, hb9, h⟩ := ch_bd h
    refine ch_aload_n 1 x1 dX11_behind_160 rfl (ch_iv yX11_called prog_2_method_31_code 5 (some .int) (ci := 11) (q := (RX11, TX11, 14)) (b := t0) (d' := (d + 10)) (av := [va_rf v7, va_rf x1]) (rest := []) rfl dX11_behind_161 q1230 q1232 rfl qs53 q1233 can_X11_called (Nat.le_refl _) (Nat.le_of_ble_eq_true rfl) (ch_rts hb9) (cp_tI h (fun p hp Q' hq => hr2 hp hq) (fun v10 w11 h => ?_) (fun a w1 h => ?_)))
    · obtain rfl := Option.some.inj h
      exact ch_ireturn _ dX11_behind_164 rfl rfl hk
    · subst h
      exact ch_th rfl hk
  · subst h
    exact ch_th rfl hk

def c_X11_behind_189 (rc : Nat → Nat → (Option Nat) → (Option Nat) → Int32 → ch_W → Option (Except Nat Int32 × ch_W)) (g : State) (t0 : Nat)  (y0 : Int32) (y1 : Nat) (w : ch_W) : Option (Except Nat Int32 × ch_W) := (ch_rc w (some y1) 12).bind fun _ => ch_tb (c_X11_must_2 g y1 y0 w) (fun a w => (.error a, w)) fun _ w3 => (ch_rc w3 (some t0) 12).bind fun _ => (c_X11_add_2 t0 7 w3).bind fun p5 => some ((.ok (-1), p5))
theorem s_X11_behind_189 {g : State} {d : Nat} {rc : Nat → Nat → (Option Nat) → (Option Nat) → Int32 → ch_W → Option (Except Nat Int32 × ch_W)} (hr0 : ∀ {t0 : Nat} {z0 : Option Nat} {w : ch_W} {p : Except Nat Int32 × ch_W} {Q : Outcome → ch_W → Prop}, rc 0 t0 z0 none 0 w = some p → ch_xI Q p → ch_CT g true yX11_value (d + 10) [.ref t0, va_rf z0] (w) Q) (hr2 : ∀ {t0 : Nat} {z0 : Option Nat} {z1 : Option Nat} {w : ch_W} {p : Except Nat Int32 × ch_W} {Q : Outcome → ch_W → Prop}, rc 2 t0 z0 z1 0 w = some p → ch_xI Q p → ch_CT g true yX11_called (d + 10) [.ref t0, va_rf z0, va_rf z1] (w) Q) (hr4 : ∀ {t0 : Nat} {z0 : Option Nat} {z1 : Int32} {w : ch_W} {p : Except Nat Int32 × ch_W} {Q : Outcome → ch_W → Prop}, rc 4 t0 z0 none z1 w = some p → ch_xI Q p → ch_CT g true yX11_signed (d + 10) [.ref t0, va_rf z0, .int z1] (w) Q)  {t0 : Nat} {y0 : Int32} {y1 : Nat} {w : ch_W} {res : Except Nat Int32 × ch_W} {Q : Outcome → ch_W → Prop} (h : c_X11_behind_189 rc g t0 y0 y1 w = some res) (hk : (ch_xI Q) res) : ch_FT g true mX11_behind (d + 11) 189 [some (va_rf (some t0)), none, none, none, none, none] [.int y0, va_rf (some y1)] (w) Q := by
  unfold c_X11_behind_189 at h
  obtain ⟨_, hb1, h⟩ := ch_bd h
  refine ch_iv yX11_must_2 prog_2_method_3_code 2 none (ci := 11) (q := (RX11, TX11, 14)) (b := y1) (d' := 8) (av := [.int y0]) (rest := []) rfl dX11_behind_189 q1202 q1204 rfl qs47 q1205 can_X11_must_2 (Nat.le_trans (Nat.le_of_ble_eq_true rfl) (Nat.le_add_left 11 d)) (Nat.le_of_ble_eq_true rfl) (ch_rts hb1) (cp_tV h (fun p hp Q' hq => s_X11_must_2 hp hq) (fun w3 h => ?_) (fun a w1 h => ?_))
  · obtain ⟨_, hb4, h⟩ := ch_bd h
    obtain ⟨p5, hp6, h⟩ := ch_bd h
    refine ch_aload_n 0 (some t0) dX11_behind_192 rfl (ch_bipush _ 7 dX11_behind_193 rfl (ch_iv yX11_add_2 prog_2_method_13_code 2 none (ci := 11) (q := (RX11, TX11, 14)) (b := t0) (d' := 3) (av := [.int 7]) (rest := []) rfl dX11_behind_195 q1218 q1220 rfl qs51 q1221 can_X11_add_2 (Nat.le_trans (Nat.le_of_ble_eq_true rfl) (Nat.le_add_left 11 d)) (Nat.le_of_ble_eq_true rfl) (ch_rts hb4) (cp_kV (w1 := p5) (fun Q' hq => s_X11_add_2 hp6 hq) ?_)))
    obtain rfl := Option.some.inj h
    exact ch_iconst _ (-1) dX11_behind_198 rfl (ch_ireturn _ dX11_behind_199 rfl rfl hk)
  · subst h
    exact ch_th rfl hk

def c_X11_behind_188 (rc : Nat → Nat → (Option Nat) → (Option Nat) → Int32 → ch_W → Option (Except Nat Int32 × ch_W)) (g : State) (t0 : Nat)  (y0 : Nat) (w : ch_W) : Option (Except Nat Int32 × ch_W) := c_X11_behind_189 rc g t0 0 y0 w
theorem s_X11_behind_188 {g : State} {d : Nat} {rc : Nat → Nat → (Option Nat) → (Option Nat) → Int32 → ch_W → Option (Except Nat Int32 × ch_W)} (hr0 : ∀ {t0 : Nat} {z0 : Option Nat} {w : ch_W} {p : Except Nat Int32 × ch_W} {Q : Outcome → ch_W → Prop}, rc 0 t0 z0 none 0 w = some p → ch_xI Q p → ch_CT g true yX11_value (d + 10) [.ref t0, va_rf z0] (w) Q) (hr2 : ∀ {t0 : Nat} {z0 : Option Nat} {z1 : Option Nat} {w : ch_W} {p : Except Nat Int32 × ch_W} {Q : Outcome → ch_W → Prop}, rc 2 t0 z0 z1 0 w = some p → ch_xI Q p → ch_CT g true yX11_called (d + 10) [.ref t0, va_rf z0, va_rf z1] (w) Q) (hr4 : ∀ {t0 : Nat} {z0 : Option Nat} {z1 : Int32} {w : ch_W} {p : Except Nat Int32 × ch_W} {Q : Outcome → ch_W → Prop}, rc 4 t0 z0 none z1 w = some p → ch_xI Q p → ch_CT g true yX11_signed (d + 10) [.ref t0, va_rf z0, .int z1] (w) Q)  {t0 : Nat} {y0 : Nat} {w : ch_W} {res : Except Nat Int32 × ch_W} {Q : Outcome → ch_W → Prop} (h : c_X11_behind_188 rc g t0 y0 w = some res) (hk : (ch_xI Q) res) : ch_FT g true mX11_behind (d + 11) 188 [some (va_rf (some t0)), none, none, none, none, none] [va_rf (some y0)] (w) Q := by
  unfold c_X11_behind_188 at h
  exact ch_iconst _ 0 dX11_behind_188 rfl (ch_FT.wk (ch_wS (ch_wN (ch_wN (ch_wN (ch_wN (ch_wN ch_w0)))))) (s_X11_behind_189 hr0 hr2 hr4 h hk))

def c_X11_behind_251 (rc : Nat → Nat → (Option Nat) → (Option Nat) → Int32 → ch_W → Option (Except Nat Int32 × ch_W)) (g : State) (t0 : Nat) (x1 : Option Nat) (x4 : Option Nat) (y0 : Int32) (y1 : Nat) (w : ch_W) : Option (Except Nat Int32 × ch_W) := (ch_gI w x4 7 fX6_number).bind fun v1 => (ch_rc w (some y1) 12).bind fun _ => (c_X11_add y1 y0 v1 w).bind fun p3 => (ch_gI p3 x1 11 fX10_kind).bind fun v5 => if v5 = 13 then ((ch_gI p3 x4 7 fX6_number).bind fun v6 => some ((.ok v6, p3))) else (some ((.ok (-2), p3)))
theorem s_X11_behind_251 {g : State} {d : Nat} {rc : Nat → Nat → (Option Nat) → (Option Nat) → Int32 → ch_W → Option (Except Nat Int32 × ch_W)} (hr0 : ∀ {t0 : Nat} {z0 : Option Nat} {w : ch_W} {p : Except Nat Int32 × ch_W} {Q : Outcome → ch_W → Prop}, rc 0 t0 z0 none 0 w = some p → ch_xI Q p → ch_CT g true yX11_value (d + 10) [.ref t0, va_rf z0] (w) Q) (hr2 : ∀ {t0 : Nat} {z0 : Option Nat} {z1 : Option Nat} {w : ch_W} {p : Except Nat Int32 × ch_W} {Q : Outcome → ch_W → Prop}, rc 2 t0 z0 z1 0 w = some p → ch_xI Q p → ch_CT g true yX11_called (d + 10) [.ref t0, va_rf z0, va_rf z1] (w) Q) (hr4 : ∀ {t0 : Nat} {z0 : Option Nat} {z1 : Int32} {w : ch_W} {p : Except Nat Int32 × ch_W} {Q : Outcome → ch_W → Prop}, rc 4 t0 z0 none z1 w = some p → ch_xI Q p → ch_CT g true yX11_signed (d + 10) [.ref t0, va_rf z0, .int z1] (w) Q)  {t0 : Nat} {x1 : Option Nat} {x4 : Option Nat} {y0 : Int32} {y1 : Nat} {w : ch_W} {res : Except Nat Int32 × ch_W} {Q : Outcome → ch_W → Prop} (h : c_X11_behind_251 rc g t0 x1 x4 y0 y1 w = some res) (hk : (ch_xI Q) res) : ch_FT g true mX11_behind (d + 11) 251 [none, some (va_rf x1), none, none, some (va_rf x4), none] [.int y0, va_rf (some y1)] (w) Q := by
  unfold c_X11_behind_251 at h
  refine ch_aload 4 x4 dX11_behind_251 rfl (cp_gI (ci := 6) (k := 4) dX11_behind_253 fl_X11_75 rfl h (fun v1 h => ?_))
  obtain ⟨_, hb2, h⟩ := ch_bd h
  obtain ⟨p3, hp4, h⟩ := ch_bd h
  refine ch_iv yX11_add prog_2_method_14_code 3 none (ci := 11) (q := (RX11, TX11, 14)) (b := y1) (d' := 3) (av := [.int y0, .int v1]) (rest := []) rfl dX11_behind_256 q1214 q1216 rfl qs50 q1217 can_X11_add (Nat.le_trans (Nat.le_of_ble_eq_true rfl) (Nat.le_add_left 11 d)) (Nat.le_of_ble_eq_true rfl) (ch_rts hb2) (cp_kV (w1 := p3) (fun Q' hq => s_X11_add hp4 hq) ?_)
  refine ch_aload_n 1 x1 dX11_behind_259 rfl (cp_gI (ci := 10) (k := 0) dX11_behind_260 fl_X11_292 rfl h (fun v5 h => ?_))
  refine ch_bipush _ 13 dX11_behind_263 rfl (cp_icmp_ne _ _ (tgt := 276) dX11_behind_265 rfl h (fun h => ?_) (fun h => ?_))
  · obtain rfl := Option.some.inj h
    exact ch_bipush _ (-2) dX11_behind_276 rfl (ch_ireturn _ dX11_behind_278 rfl rfl hk)
  · refine ch_aload 4 x4 dX11_behind_268 rfl (cp_gI (ci := 6) (k := 4) dX11_behind_270 fl_X11_75 rfl h (fun v6 h => ?_))
    obtain rfl := Option.some.inj h
    exact ch_goto 278 dX11_behind_273 rfl (ch_ireturn _ dX11_behind_278 rfl rfl hk)

def c_X11_behind_231 (rc : Nat → Nat → (Option Nat) → (Option Nat) → Int32 → ch_W → Option (Except Nat Int32 × ch_W)) (g : State) (t0 : Nat) (x1 : Option Nat) (x4 : Option Nat) (y0 : Int32) (y1 : Nat) (w : ch_W) : Option (Except Nat Int32 × ch_W) := (ch_rc w (some y1) 12).bind fun _ => ch_tb (c_X11_must_2 g y1 y0 w) (fun a w => (.error a, w)) fun _ w3 => (ch_gI w3 x1 11 fX10_kind).bind fun v4 => if v4 = 13 then (c_X11_behind_251 rc g t0 x1 x4 11 t0 w3) else (c_X11_behind_251 rc g t0 x1 x4 12 t0 w3)
theorem s_X11_behind_231 {g : State} {d : Nat} {rc : Nat → Nat → (Option Nat) → (Option Nat) → Int32 → ch_W → Option (Except Nat Int32 × ch_W)} (hr0 : ∀ {t0 : Nat} {z0 : Option Nat} {w : ch_W} {p : Except Nat Int32 × ch_W} {Q : Outcome → ch_W → Prop}, rc 0 t0 z0 none 0 w = some p → ch_xI Q p → ch_CT g true yX11_value (d + 10) [.ref t0, va_rf z0] (w) Q) (hr2 : ∀ {t0 : Nat} {z0 : Option Nat} {z1 : Option Nat} {w : ch_W} {p : Except Nat Int32 × ch_W} {Q : Outcome → ch_W → Prop}, rc 2 t0 z0 z1 0 w = some p → ch_xI Q p → ch_CT g true yX11_called (d + 10) [.ref t0, va_rf z0, va_rf z1] (w) Q) (hr4 : ∀ {t0 : Nat} {z0 : Option Nat} {z1 : Int32} {w : ch_W} {p : Except Nat Int32 × ch_W} {Q : Outcome → ch_W → Prop}, rc 4 t0 z0 none z1 w = some p → ch_xI Q p → ch_CT g true yX11_signed (d + 10) [.ref t0, va_rf z0, .int z1] (w) Q)  {t0 : Nat} {x1 : Option Nat} {x4 : Option Nat} {y0 : Int32} {y1 : Nat} {w : ch_W} {res : Except Nat Int32 × ch_W} {Q : Outcome → ch_W → Prop} (h : c_X11_behind_231 rc g t0 x1 x4 y0 y1 w = some res) (hk : (ch_xI Q) res) : ch_FT g true mX11_behind (d + 11) 231 [some (va_rf (some t0)), some (va_rf x1), none, none, some (va_rf x4), none] [.int y0, va_rf (some y1)] (w) Q := by
  unfold c_X11_behind_231 at h
  obtain ⟨_, hb1, h⟩ := ch_bd h
  refine ch_iv yX11_must_2 prog_2_method_3_code 2 none (ci := 11) (q := (RX11, TX11, 14)) (b := y1) (d' := 8) (av := [.int y0]) (rest := []) rfl dX11_behind_231 q1202 q1204 rfl qs47 q1205 can_X11_must_2 (Nat.le_trans (Nat.le_of_ble_eq_true rfl) (Nat.le_add_left 11 d)) (Nat.le_of_ble_eq_true rfl) (ch_rts hb1) (cp_tV h (fun p hp Q' hq => s_X11_must_2 hp hq) (fun w3 h => ?_) (fun a w1 h => ?_))
  · refine ch_aload_n 0 (some t0) dX11_behind_234 rfl (ch_aload_n 1 x1 dX11_behind_235 rfl (cp_gI (ci := 10) (k := 0) dX11_behind_236 fl_X11_292 rfl h (fun v4 h => ?_)))
    refine ch_bipush _ 13 dX11_behind_239 rfl (cp_icmp_ne _ _ (tgt := 249) dX11_behind_241 rfl h (fun h => ?_) (fun h => ?_))
    · exact ch_bipush _ 12 dX11_behind_249 rfl (ch_FT.wk (ch_wN (ch_wS (ch_wN (ch_wN (ch_wS (ch_wN ch_w0)))))) (s_X11_behind_251 hr0 hr2 hr4 h hk))
    · exact ch_bipush _ 11 dX11_behind_244 rfl (ch_goto 251 dX11_behind_246 rfl (ch_FT.wk (ch_wN (ch_wS (ch_wN (ch_wN (ch_wS (ch_wN ch_w0)))))) (s_X11_behind_251 hr0 hr2 hr4 h hk)))
  · subst h
    exact ch_th rfl hk

def c_X11_behind_230 (rc : Nat → Nat → (Option Nat) → (Option Nat) → Int32 → ch_W → Option (Except Nat Int32 × ch_W)) (g : State) (t0 : Nat) (x1 : Option Nat) (x4 : Option Nat) (y0 : Nat) (w : ch_W) : Option (Except Nat Int32 × ch_W) := c_X11_behind_231 rc g t0 x1 x4 0 y0 w
theorem s_X11_behind_230 {g : State} {d : Nat} {rc : Nat → Nat → (Option Nat) → (Option Nat) → Int32 → ch_W → Option (Except Nat Int32 × ch_W)} (hr0 : ∀ {t0 : Nat} {z0 : Option Nat} {w : ch_W} {p : Except Nat Int32 × ch_W} {Q : Outcome → ch_W → Prop}, rc 0 t0 z0 none 0 w = some p → ch_xI Q p → ch_CT g true yX11_value (d + 10) [.ref t0, va_rf z0] (w) Q) (hr2 : ∀ {t0 : Nat} {z0 : Option Nat} {z1 : Option Nat} {w : ch_W} {p : Except Nat Int32 × ch_W} {Q : Outcome → ch_W → Prop}, rc 2 t0 z0 z1 0 w = some p → ch_xI Q p → ch_CT g true yX11_called (d + 10) [.ref t0, va_rf z0, va_rf z1] (w) Q) (hr4 : ∀ {t0 : Nat} {z0 : Option Nat} {z1 : Int32} {w : ch_W} {p : Except Nat Int32 × ch_W} {Q : Outcome → ch_W → Prop}, rc 4 t0 z0 none z1 w = some p → ch_xI Q p → ch_CT g true yX11_signed (d + 10) [.ref t0, va_rf z0, .int z1] (w) Q)  {t0 : Nat} {x1 : Option Nat} {x4 : Option Nat} {y0 : Nat} {w : ch_W} {res : Except Nat Int32 × ch_W} {Q : Outcome → ch_W → Prop} (h : c_X11_behind_230 rc g t0 x1 x4 y0 w = some res) (hk : (ch_xI Q) res) : ch_FT g true mX11_behind (d + 11) 230 [some (va_rf (some t0)), some (va_rf x1), none, none, some (va_rf x4), none] [va_rf (some y0)] (w) Q := by
  unfold c_X11_behind_230 at h
  exact ch_iconst _ 0 dX11_behind_230 rfl (ch_FT.wk (ch_wS (ch_wS (ch_wN (ch_wN (ch_wS (ch_wN ch_w0)))))) (s_X11_behind_231 hr0 hr2 hr4 h hk))

def c_X11_behind_221 (rc : Nat → Nat → (Option Nat) → (Option Nat) → Int32 → ch_W → Option (Except Nat Int32 × ch_W)) (g : State) (t0 : Nat) (x1 : Option Nat) (x4 : Option Nat) (y0 : Nat) (w : ch_W) : Option (Except Nat Int32 × ch_W) := if x4 = none then (c_X11_behind_230 rc g t0 x1 x4 y0 w) else (c_X11_behind_231 rc g t0 x1 x4 1 y0 w)
theorem s_X11_behind_221 {g : State} {d : Nat} {rc : Nat → Nat → (Option Nat) → (Option Nat) → Int32 → ch_W → Option (Except Nat Int32 × ch_W)} (hr0 : ∀ {t0 : Nat} {z0 : Option Nat} {w : ch_W} {p : Except Nat Int32 × ch_W} {Q : Outcome → ch_W → Prop}, rc 0 t0 z0 none 0 w = some p → ch_xI Q p → ch_CT g true yX11_value (d + 10) [.ref t0, va_rf z0] (w) Q) (hr2 : ∀ {t0 : Nat} {z0 : Option Nat} {z1 : Option Nat} {w : ch_W} {p : Except Nat Int32 × ch_W} {Q : Outcome → ch_W → Prop}, rc 2 t0 z0 z1 0 w = some p → ch_xI Q p → ch_CT g true yX11_called (d + 10) [.ref t0, va_rf z0, va_rf z1] (w) Q) (hr4 : ∀ {t0 : Nat} {z0 : Option Nat} {z1 : Int32} {w : ch_W} {p : Except Nat Int32 × ch_W} {Q : Outcome → ch_W → Prop}, rc 4 t0 z0 none z1 w = some p → ch_xI Q p → ch_CT g true yX11_signed (d + 10) [.ref t0, va_rf z0, .int z1] (w) Q)  {t0 : Nat} {x1 : Option Nat} {x4 : Option Nat} {y0 : Nat} {w : ch_W} {res : Except Nat Int32 × ch_W} {Q : Outcome → ch_W → Prop} (h : c_X11_behind_221 rc g t0 x1 x4 y0 w = some res) (hk : (ch_xI Q) res) : ch_FT g true mX11_behind (d + 11) 221 [some (va_rf (some t0)), some (va_rf x1), none, none, some (va_rf x4), none] [va_rf (some y0)] (w) Q := by
  unfold c_X11_behind_221 at h
  refine ch_aload 4 x4 dX11_behind_221 rfl (cp_ifnull x4 (tgt := 230) dX11_behind_223 rfl h (fun h => ?_) (fun h => ?_))
  · exact ch_FT.wk (ch_wS (ch_wS (ch_wN (ch_wN (ch_wS (ch_wN ch_w0)))))) (s_X11_behind_230 hr0 hr2 hr4 h hk)
  · exact ch_iconst _ 1 dX11_behind_226 rfl (ch_goto 231 dX11_behind_227 rfl (ch_FT.wk (ch_wS (ch_wS (ch_wN (ch_wN (ch_wS (ch_wN ch_w0)))))) (s_X11_behind_231 hr0 hr2 hr4 h hk)))

def c_X11_behind (rc : Nat → Nat → (Option Nat) → (Option Nat) → Int32 → ch_W → Option (Except Nat Int32 × ch_W)) (g : State) (t0 : Nat) (x1 : Option Nat) (x2 : Int32) (w : ch_W) : Option (Except Nat Int32 × ch_W) := (ch_gI w x1 11 fX10_kind).bind fun v1 => if v1 = 10 then (if x2 = (-3) then ((ch_gI w x1 11 fX10_what).bind fun v2 => (ch_gI w (some t0) 12 fX11_sizeName).bind fun v3 => if v2 = v3 then ((ch_rc w (some t0) 12).bind fun _ => (c_X11_add_2 t0 8 w).bind fun p5 => some ((.ok (-1), p5))) else (c_X11_behind_69 rc g t0 x1 x2 w)) else (c_X11_behind_69 rc g t0 x1 x2 w)) else (if v1 = 11 then (if x2 < 0 then (c_X11_behind_145 rc g t0 x1 x2 0 t0 w) else (c_X11_behind_145 rc g t0 x1 x2 1 t0 w)) else (if v1 = 12 then (if x2 = (-3) then ((ch_gR w x1 11 fX10_right).bind fun v7 => (ch_rc w (some t0) 12).bind fun _ => ch_tb (rc 0 t0 v7 none 0 w) (fun a w => (.error a, w)) fun v9 w10 => if v9 = (-1) then (c_X11_behind_189 rc g t0 1 t0 w10) else (c_X11_behind_188 rc g t0 t0 w10)) else (c_X11_behind_188 rc g t0 t0 w)) else (if v1 = 13 then ((ch_gI w x1 11 fX10_what).bind fun v11 => (ch_rc w (some t0) 12).bind fun _ => (c_X11_kindOf t0 v11 w).bind fun v13 => if x2 < 0 then (if x2 = (-5) then (c_X11_behind_221 rc g t0 x1 v13 t0 w) else (c_X11_behind_230 rc g t0 x1 v13 t0 w)) else (c_X11_behind_221 rc g t0 x1 v13 t0 w)) else (if v1 = 14 then ((ch_gI w x1 11 fX10_what).bind fun v15 => (ch_rc w (some t0) 12).bind fun _ => (c_X11_kindOf t0 v15 w).bind fun v17 => if x2 < 0 then (if x2 = (-5) then (c_X11_behind_221 rc g t0 x1 v17 t0 w) else (c_X11_behind_230 rc g t0 x1 v17 t0 w)) else (c_X11_behind_221 rc g t0 x1 v17 t0 w)) else (if v1 = 15 then ((ch_rc w (some t0) 12).bind fun _ => ch_tb (rc 4 t0 x1 none x2 w) (fun a w => (.error a, w)) fun v20 w21 => some ((.ok v20, w21))) else (if x2 = (-2) then (c_X11_behind_298 rc g t0 x1 1 t0 w) else (c_X11_behind_298 rc g t0 x1 0 t0 w)))))))
theorem s_X11_behind {g : State} {d : Nat} {rc : Nat → Nat → (Option Nat) → (Option Nat) → Int32 → ch_W → Option (Except Nat Int32 × ch_W)} (hr0 : ∀ {t0 : Nat} {z0 : Option Nat} {w : ch_W} {p : Except Nat Int32 × ch_W} {Q : Outcome → ch_W → Prop}, rc 0 t0 z0 none 0 w = some p → ch_xI Q p → ch_CT g true yX11_value (d + 10) [.ref t0, va_rf z0] (w) Q) (hr2 : ∀ {t0 : Nat} {z0 : Option Nat} {z1 : Option Nat} {w : ch_W} {p : Except Nat Int32 × ch_W} {Q : Outcome → ch_W → Prop}, rc 2 t0 z0 z1 0 w = some p → ch_xI Q p → ch_CT g true yX11_called (d + 10) [.ref t0, va_rf z0, va_rf z1] (w) Q) (hr4 : ∀ {t0 : Nat} {z0 : Option Nat} {z1 : Int32} {w : ch_W} {p : Except Nat Int32 × ch_W} {Q : Outcome → ch_W → Prop}, rc 4 t0 z0 none z1 w = some p → ch_xI Q p → ch_CT g true yX11_signed (d + 10) [.ref t0, va_rf z0, .int z1] (w) Q)  {t0 : Nat} {x1 : Option Nat} {x2 : Int32} {w : ch_W} {res : Except Nat Int32 × ch_W} {Q : Outcome → ch_W → Prop} (h : c_X11_behind rc g t0 x1 x2 w = some res) (hk : (ch_xI Q) res) : ch_CT g true yX11_behind (d + 11) [.ref t0, va_rf x1, .int x2] (w) Q := by
  unfold c_X11_behind at h
  refine ch_ctL mX11_behind (ls := [some (va_rf (some t0)), some (va_rf x1), some (.int x2), none, none, none]) q1255 rfl (ch_lyr (r := some t0) (ch_lyr (r := x1) (ch_lyi ch_ly0))) (Nat.le_of_ble_eq_true rfl) rfl ?_
  refine ch_aload_n 1 x1 dX11_behind_0 rfl (cp_gI (ci := 10) (k := 0) dX11_behind_1 fl_X11_292 rfl h (fun v1 h => ?_))
  by_cases e0 : v1 = 10
  · have h := ch_ifT e0 h
    refine ch_tableIn _ (off := 40) (tgt := 44) dX11_behind_4 (by rw [e0]; decide) (by rw [e0]; decide) (by rw [e0]; rfl) rfl ?_
    refine ch_iload_n 2 _ dX11_behind_44 rfl (ch_bipush _ (-3) dX11_behind_45 rfl (cp_icmp_ne _ _ (tgt := 69) dX11_behind_47 rfl h (fun h => ?_) (fun h => ?_)))
    · exact ch_FT.wk (ch_wS (ch_wS (ch_wS (ch_wN (ch_wN (ch_wN ch_w0)))))) (s_X11_behind_69 hr0 hr2 hr4 h hk)
    · refine ch_aload_n 1 x1 dX11_behind_50 rfl (cp_gI (ci := 10) (k := 4) dX11_behind_51 fl_X11_295 rfl h (fun v2 h => ?_))
      refine ch_aload_n 0 (some t0) dX11_behind_54 rfl (cp_gI (ci := 11) (k := 2) dX11_behind_55 fl_X11_80 rfl h (fun v3 h => ?_))
      refine cp_icmp_ne _ _ (tgt := 69) dX11_behind_58 rfl h (fun h => ?_) (fun h => ?_)
      · exact ch_FT.wk (ch_wS (ch_wS (ch_wS (ch_wN (ch_wN (ch_wN ch_w0)))))) (s_X11_behind_69 hr0 hr2 hr4 h hk)
      · obtain ⟨_, hb4, h⟩ := ch_bd h
        obtain ⟨p5, hp6, h⟩ := ch_bd h
        refine ch_aload_n 0 (some t0) dX11_behind_61 rfl (ch_bipush _ 8 dX11_behind_62 rfl (ch_iv yX11_add_2 prog_2_method_13_code 2 none (ci := 11) (q := (RX11, TX11, 14)) (b := t0) (d' := 3) (av := [.int 8]) (rest := []) rfl dX11_behind_64 q1218 q1220 rfl qs51 q1221 can_X11_add_2 (Nat.le_trans (Nat.le_of_ble_eq_true rfl) (Nat.le_add_left 11 d)) (Nat.le_of_ble_eq_true rfl) (ch_rts hb4) (cp_kV (w1 := p5) (fun Q' hq => s_X11_add_2 hp6 hq) ?_)))
        obtain rfl := Option.some.inj h
        exact ch_iconst _ (-1) dX11_behind_67 rfl (ch_ireturn _ dX11_behind_68 rfl rfl hk)
  replace h := ch_ifF e0 h
  by_cases e1 : v1 = 11
  · have h := ch_ifT e1 h
    refine ch_tableIn _ (off := 131) (tgt := 135) dX11_behind_4 (by rw [e1]; decide) (by rw [e1]; decide) (by rw [e1]; rfl) rfl ?_
    refine ch_aload_n 0 (some t0) dX11_behind_135 rfl (ch_iload_n 2 _ dX11_behind_136 rfl (cp_if_lt _ (tgt := 144) dX11_behind_137 rfl h (fun h => ?_) (fun h => ?_)))
    · exact ch_iconst _ 0 dX11_behind_144 rfl (ch_FT.wk (ch_wS (ch_wS (ch_wS (ch_wN (ch_wN (ch_wN ch_w0)))))) (s_X11_behind_145 hr0 hr2 hr4 h hk))
    · exact ch_iconst _ 1 dX11_behind_140 rfl (ch_goto 145 dX11_behind_141 rfl (ch_FT.wk (ch_wS (ch_wS (ch_wS (ch_wN (ch_wN (ch_wN ch_w0)))))) (s_X11_behind_145 hr0 hr2 hr4 h hk)))
  replace h := ch_ifF e1 h
  by_cases e2 : v1 = 12
  · have h := ch_ifT e2 h
    refine ch_tableIn _ (off := 161) (tgt := 165) dX11_behind_4 (by rw [e2]; decide) (by rw [e2]; decide) (by rw [e2]; rfl) rfl ?_
    refine ch_aload_n 0 (some t0) dX11_behind_165 rfl (ch_iload_n 2 _ dX11_behind_166 rfl (ch_bipush _ (-3) dX11_behind_167 rfl (cp_icmp_ne _ _ (tgt := 188) dX11_behind_169 rfl h (fun h => ?_) (fun h => ?_))))
    · exact ch_FT.wk (ch_wS (ch_wN (ch_wN (ch_wN (ch_wN (ch_wN ch_w0)))))) (s_X11_behind_188 hr0 hr2 hr4 h hk)
    · refine ch_aload_n 0 (some t0) dX11_behind_172 rfl (ch_aload_n 1 x1 dX11_behind_173 rfl (cp_gR (ci := 10) (k := 2) dX11_behind_174 fl_X11_301 rfl h (fun v7 h => ?_)))
      obtain ⟨_, hb8, h⟩ := ch_bd h
      refine ch_iv yX11_value prog_2_method_28_code 5 (some .int) (ci := 11) (q := (RX11, TX11, 14)) (b := t0) (d' := (d + 10)) (av := [va_rf v7]) (rest := [va_rf (some t0)]) rfl dX11_behind_177 q1206 q1208 rfl qs48 q1209 can_X11_value (Nat.le_refl _) (ch_hw (Nat.le_of_ble_eq_true rfl)) (ch_rts hb8) (cp_tI h (fun p hp Q' hq => hr0 hp hq) (fun v9 w10 h => ?_) (fun a w1 h => ?_))
      · refine ch_iconst _ (-1) dX11_behind_180 rfl (cp_icmp_ne _ _ (tgt := 188) dX11_behind_181 rfl h (fun h => ?_) (fun h => ?_))
        · exact ch_FT.wk (ch_wS (ch_wN (ch_wN (ch_wN (ch_wN (ch_wN ch_w0)))))) (s_X11_behind_188 hr0 hr2 hr4 h hk)
        · exact ch_iconst _ 1 dX11_behind_184 rfl (ch_goto 189 dX11_behind_185 rfl (ch_FT.wk (ch_wS (ch_wN (ch_wN (ch_wN (ch_wN (ch_wN ch_w0)))))) (s_X11_behind_189 hr0 hr2 hr4 h hk)))
      · subst h
        exact ch_th rfl hk
  replace h := ch_ifF e2 h
  by_cases e3 : v1 = 13
  · have h := ch_ifT e3 h
    refine ch_tableIn _ (off := 196) (tgt := 200) dX11_behind_4 (by rw [e3]; decide) (by rw [e3]; decide) (by rw [e3]; rfl) rfl ?_
    refine ch_aload_n 0 (some t0) dX11_behind_200 rfl (ch_aload_n 1 x1 dX11_behind_201 rfl (cp_gI (ci := 10) (k := 4) dX11_behind_202 fl_X11_295 rfl h (fun v11 h => ?_)))
    obtain ⟨_, hb12, h⟩ := ch_bd h
    obtain ⟨v13, hp14, h⟩ := ch_bd h
    refine ch_iv yX11_kindOf prog_2_method_4_code 3 (some (.object "ClassHouse$Kind")) (ci := 11) (q := (RX11, TX11, 14)) (b := t0) (d' := 5) (av := [.int v11]) (rest := []) rfl dX11_behind_205 q1119 q1121 rfl qs36 q1122 can_X11_kindOf (Nat.le_trans (Nat.le_of_ble_eq_true rfl) (Nat.le_add_left 11 d)) (Nat.le_of_ble_eq_true rfl) (ch_rts hb12) (cp_kR (v := v13) (w1 := w) (fun Q' hq => s_X11_kindOf hp14 hq) ?_)
    refine ch_astore 4 v13 (ls1 := [some (va_rf (some t0)), some (va_rf x1), some (.int x2), none, some (va_rf v13), none]) dX11_behind_208 (Nat.le_of_ble_eq_true rfl) rfl (ch_aload_n 0 (some t0) dX11_behind_210 rfl (ch_iload_n 2 _ dX11_behind_211 rfl (cp_if_ge _ (tgt := 221) dX11_behind_212 rfl h (fun h => ?_) (fun h => ?_))))
    · exact ch_FT.wk (ch_wS (ch_wS (ch_wN (ch_wN (ch_wS (ch_wN ch_w0)))))) (s_X11_behind_221 hr0 hr2 hr4 h hk)
    · refine ch_iload_n 2 _ dX11_behind_215 rfl (ch_bipush _ (-5) dX11_behind_216 rfl (cp_icmp_ne _ _ (tgt := 230) dX11_behind_218 rfl h (fun h => ?_) (fun h => ?_)))
      · exact ch_FT.wk (ch_wS (ch_wS (ch_wN (ch_wN (ch_wS (ch_wN ch_w0)))))) (s_X11_behind_230 hr0 hr2 hr4 h hk)
      · exact ch_FT.wk (ch_wS (ch_wS (ch_wN (ch_wN (ch_wS (ch_wN ch_w0)))))) (s_X11_behind_221 hr0 hr2 hr4 h hk)
  replace h := ch_ifF e3 h
  by_cases e4 : v1 = 14
  · have h := ch_ifT e4 h
    refine ch_tableIn _ (off := 196) (tgt := 200) dX11_behind_4 (by rw [e4]; decide) (by rw [e4]; decide) (by rw [e4]; rfl) rfl ?_
    refine ch_aload_n 0 (some t0) dX11_behind_200 rfl (ch_aload_n 1 x1 dX11_behind_201 rfl (cp_gI (ci := 10) (k := 4) dX11_behind_202 fl_X11_295 rfl h (fun v15 h => ?_)))
    obtain ⟨_, hb16, h⟩ := ch_bd h
    obtain ⟨v17, hp18, h⟩ := ch_bd h
    refine ch_iv yX11_kindOf prog_2_method_4_code 3 (some (.object "ClassHouse$Kind")) (ci := 11) (q := (RX11, TX11, 14)) (b := t0) (d' := 5) (av := [.int v15]) (rest := []) rfl dX11_behind_205 q1119 q1121 rfl qs36 q1122 can_X11_kindOf (Nat.le_trans (Nat.le_of_ble_eq_true rfl) (Nat.le_add_left 11 d)) (Nat.le_of_ble_eq_true rfl) (ch_rts hb16) (cp_kR (v := v17) (w1 := w) (fun Q' hq => s_X11_kindOf hp18 hq) ?_)
    refine ch_astore 4 v17 (ls1 := [some (va_rf (some t0)), some (va_rf x1), some (.int x2), none, some (va_rf v17), none]) dX11_behind_208 (Nat.le_of_ble_eq_true rfl) rfl (ch_aload_n 0 (some t0) dX11_behind_210 rfl (ch_iload_n 2 _ dX11_behind_211 rfl (cp_if_ge _ (tgt := 221) dX11_behind_212 rfl h (fun h => ?_) (fun h => ?_))))
    · exact ch_FT.wk (ch_wS (ch_wS (ch_wN (ch_wN (ch_wS (ch_wN ch_w0)))))) (s_X11_behind_221 hr0 hr2 hr4 h hk)
    · refine ch_iload_n 2 _ dX11_behind_215 rfl (ch_bipush _ (-5) dX11_behind_216 rfl (cp_icmp_ne _ _ (tgt := 230) dX11_behind_218 rfl h (fun h => ?_) (fun h => ?_)))
      · exact ch_FT.wk (ch_wS (ch_wS (ch_wN (ch_wN (ch_wS (ch_wN ch_w0)))))) (s_X11_behind_230 hr0 hr2 hr4 h hk)
      · exact ch_FT.wk (ch_wS (ch_wS (ch_wN (ch_wN (ch_wS (ch_wN ch_w0)))))) (s_X11_behind_221 hr0 hr2 hr4 h hk)
  replace h := ch_ifF e4 h
  by_cases e5 : v1 = 15
  · have h := ch_ifT e5 h
    refine ch_tableIn _ (off := 275) (tgt := 279) dX11_behind_4 (by rw [e5]; decide) (by rw [e5]; decide) (by rw [e5]; rfl) rfl ?_
    obtain ⟨_, hb19, h⟩ := ch_bd h
    refine ch_aload_n 0 (some t0) dX11_behind_279 rfl (ch_aload_n 1 x1 dX11_behind_280 rfl (ch_iload_n 2 _ dX11_behind_281 rfl (ch_iv yX11_signed prog_2_method_34_code 5 (some .int) (ci := 11) (q := (RX11, TX11, 14)) (b := t0) (d' := (d + 10)) (av := [va_rf x1, .int x2]) (rest := []) rfl dX11_behind_282 q1256 q1258 rfl qs57 q1259 can_X11_signed (Nat.le_refl _) (Nat.le_of_ble_eq_true rfl) (ch_rts hb19) (cp_tI h (fun p hp Q' hq => hr4 hp hq) (fun v20 w21 h => ?_) (fun a w1 h => ?_)))))
    · obtain rfl := Option.some.inj h
      exact ch_ireturn _ dX11_behind_285 rfl rfl hk
    · subst h
      exact ch_th rfl hk
  replace h := ch_ifF e5 h
  refine ch_tableOut _ (tgt := 286) dX11_behind_4 (by have t0 := ch_ne (n := 10) e0 rfl; have t1 := ch_ne (n := 11) e1 rfl; have t2 := ch_ne (n := 12) e2 rfl; have t3 := ch_ne (n := 13) e3 rfl; have t4 := ch_ne (n := 14) e4 rfl; have t5 := ch_ne (n := 15) e5 rfl; omega) rfl ?_
  refine ch_aload_n 0 (some t0) dX11_behind_286 rfl (ch_iload_n 2 _ dX11_behind_287 rfl (ch_bipush _ (-2) dX11_behind_288 rfl (cp_icmp_ne _ _ (tgt := 297) dX11_behind_290 rfl h (fun h => ?_) (fun h => ?_))))
  · exact ch_iconst _ 0 dX11_behind_297 rfl (ch_FT.wk (ch_wS (ch_wS (ch_wN (ch_wN (ch_wN (ch_wN ch_w0)))))) (s_X11_behind_298 hr0 hr2 hr4 h hk))
  · exact ch_iconst _ 1 dX11_behind_293 rfl (ch_goto 298 dX11_behind_294 rfl (ch_FT.wk (ch_wS (ch_wS (ch_wN (ch_wN (ch_wN (ch_wN ch_w0)))))) (s_X11_behind_298 hr0 hr2 hr4 h hk)))

theorem bX11_signed_0 : ch_ck cX11_signed 0 [42, 43, 180, 1, 45, 182, 1, 6, 62, 42, 16, 15, 43, 180, 1, 39] := ch_ckof (by decide +kernel)
theorem bX11_signed_1 : ch_ck cX11_signed 16 [182, 0, 247, 43, 180, 1, 39, 16, 61, 159, 0, 12, 43, 180, 1, 39] := ch_ckof (by decide +kernel)
theorem bX11_signed_2 : ch_ck cX11_signed 32 [16, 33, 160, 0, 75, 28, 184, 1, 97, 153, 0, 32, 29, 184, 1, 97] := ch_ckof (by decide +kernel)
theorem bX11_signed_3 : ch_ck cX11_signed 48 [153, 0, 25, 42, 28, 29, 182, 1, 15, 154, 0, 12, 42, 29, 28, 182] := ch_ckof (by decide +kernel)
theorem bX11_signed_4 : ch_ck cX11_signed 64 [1, 15, 153, 0, 7, 4, 167, 0, 4, 3, 54, 4, 42, 21, 4, 154] := ch_ckof (by decide +kernel)
theorem bX11_signed_5 : ch_ck cX11_signed 80 [0, 19, 28, 29, 160, 0, 18, 28, 2, 159, 0, 9, 28, 16, 254, 160] := ch_ckof (by decide +kernel)
theorem bX11_signed_6 : ch_ck cX11_signed 96 [0, 7, 4, 167, 0, 4, 3, 182, 1, 18, 16, 254, 172, 42, 28, 2] := ch_ckof (by decide +kernel)
theorem bX11_signed_7 : ch_ck cX11_signed 112 [160, 0, 12, 29, 2, 160, 0, 7, 4, 167, 0, 4, 3, 182, 1, 18] := ch_ckof (by decide +kernel)
theorem bX11_signed_8 : ch_ck cX11_signed 128 [43, 180, 1, 39, 16, 60, 159, 0, 12, 43, 180, 1, 39, 16, 108, 160] := ch_ckof (by decide +kernel)
theorem bX11_signed_9 : ch_ck cX11_signed 144 [0, 8, 16, 254, 167, 0, 4, 2, 172] := ch_ckof (by decide +kernel)
theorem dX11_signed_0 : decode cX11_signed 0 = .ok (.aload_n 0, 1) := dz_42 (bX11_signed_0 0 _ rfl)
theorem dX11_signed_1 : decode cX11_signed 1 = .ok (.aload_n 1, 1) := dz_43 (bX11_signed_0 1 _ rfl)
theorem dX11_signed_2 : decode cX11_signed 2 = .ok (.getfield 301, 3) := dz_180 (bX11_signed_0 2 _ rfl) (bX11_signed_0 3 _ rfl) (bX11_signed_0 4 _ rfl)
theorem dX11_signed_5 : decode cX11_signed 5 = .ok (.invokevirtual 262, 3) := dz_182 (bX11_signed_0 5 _ rfl) (bX11_signed_0 6 _ rfl) (bX11_signed_0 7 _ rfl)
theorem dX11_signed_8 : decode cX11_signed 8 = .ok (.istore_n 3, 1) := dz_62 (bX11_signed_0 8 _ rfl)
theorem dX11_signed_9 : decode cX11_signed 9 = .ok (.aload_n 0, 1) := dz_42 (bX11_signed_0 9 _ rfl)
theorem dX11_signed_10 : decode cX11_signed 10 = .ok (.bipush 15, 2) := dz_16 (bX11_signed_0 10 _ rfl) (bX11_signed_0 11 _ rfl)
theorem dX11_signed_12 : decode cX11_signed 12 = .ok (.aload_n 1, 1) := dz_43 (bX11_signed_0 12 _ rfl)
theorem dX11_signed_13 : decode cX11_signed 13 = .ok (.getfield 295, 3) := dz_180 (bX11_signed_0 13 _ rfl) (bX11_signed_0 14 _ rfl) (bX11_signed_0 15 _ rfl)
theorem dX11_signed_16 : decode cX11_signed 16 = .ok (.invokevirtual 247, 3) := dz_182 (bX11_signed_1 0 _ rfl) (bX11_signed_1 1 _ rfl) (bX11_signed_1 2 _ rfl)
theorem dX11_signed_19 : decode cX11_signed 19 = .ok (.aload_n 1, 1) := dz_43 (bX11_signed_1 3 _ rfl)
theorem dX11_signed_20 : decode cX11_signed 20 = .ok (.getfield 295, 3) := dz_180 (bX11_signed_1 4 _ rfl) (bX11_signed_1 5 _ rfl) (bX11_signed_1 6 _ rfl)
theorem dX11_signed_23 : decode cX11_signed 23 = .ok (.bipush 61, 2) := dz_16 (bX11_signed_1 7 _ rfl) (bX11_signed_1 8 _ rfl)
theorem dX11_signed_25 : decode cX11_signed 25 = .ok (.if_icmp .eq 12, 3) := dz_159 (bX11_signed_1 9 _ rfl) (bX11_signed_1 10 _ rfl) (bX11_signed_1 11 _ rfl)
theorem dX11_signed_28 : decode cX11_signed 28 = .ok (.aload_n 1, 1) := dz_43 (bX11_signed_1 12 _ rfl)
theorem dX11_signed_29 : decode cX11_signed 29 = .ok (.getfield 295, 3) := dz_180 (bX11_signed_1 13 _ rfl) (bX11_signed_1 14 _ rfl) (bX11_signed_1 15 _ rfl)
theorem dX11_signed_32 : decode cX11_signed 32 = .ok (.bipush 33, 2) := dz_16 (bX11_signed_2 0 _ rfl) (bX11_signed_2 1 _ rfl)
theorem dX11_signed_34 : decode cX11_signed 34 = .ok (.if_icmp .ne 75, 3) := dz_160 (bX11_signed_2 2 _ rfl) (bX11_signed_2 3 _ rfl) (bX11_signed_2 4 _ rfl)
theorem dX11_signed_37 : decode cX11_signed 37 = .ok (.iload_n 2, 1) := dz_28 (bX11_signed_2 5 _ rfl)
theorem dX11_signed_38 : decode cX11_signed 38 = .ok (.invokestatic 353, 3) := dz_184 (bX11_signed_2 6 _ rfl) (bX11_signed_2 7 _ rfl) (bX11_signed_2 8 _ rfl)
theorem dX11_signed_41 : decode cX11_signed 41 = .ok (.ifCond .eq 32, 3) := dz_153 (bX11_signed_2 9 _ rfl) (bX11_signed_2 10 _ rfl) (bX11_signed_2 11 _ rfl)
theorem dX11_signed_44 : decode cX11_signed 44 = .ok (.iload_n 3, 1) := dz_29 (bX11_signed_2 12 _ rfl)
theorem dX11_signed_45 : decode cX11_signed 45 = .ok (.invokestatic 353, 3) := dz_184 (bX11_signed_2 13 _ rfl) (bX11_signed_2 14 _ rfl) (bX11_signed_2 15 _ rfl)
theorem dX11_signed_48 : decode cX11_signed 48 = .ok (.ifCond .eq 25, 3) := dz_153 (bX11_signed_3 0 _ rfl) (bX11_signed_3 1 _ rfl) (bX11_signed_3 2 _ rfl)
theorem dX11_signed_51 : decode cX11_signed 51 = .ok (.aload_n 0, 1) := dz_42 (bX11_signed_3 3 _ rfl)
theorem dX11_signed_52 : decode cX11_signed 52 = .ok (.iload_n 2, 1) := dz_28 (bX11_signed_3 4 _ rfl)
theorem dX11_signed_53 : decode cX11_signed 53 = .ok (.iload_n 3, 1) := dz_29 (bX11_signed_3 5 _ rfl)
theorem dX11_signed_54 : decode cX11_signed 54 = .ok (.invokevirtual 271, 3) := dz_182 (bX11_signed_3 6 _ rfl) (bX11_signed_3 7 _ rfl) (bX11_signed_3 8 _ rfl)
theorem dX11_signed_57 : decode cX11_signed 57 = .ok (.ifCond .ne 12, 3) := dz_154 (bX11_signed_3 9 _ rfl) (bX11_signed_3 10 _ rfl) (bX11_signed_3 11 _ rfl)
theorem dX11_signed_60 : decode cX11_signed 60 = .ok (.aload_n 0, 1) := dz_42 (bX11_signed_3 12 _ rfl)
theorem dX11_signed_61 : decode cX11_signed 61 = .ok (.iload_n 3, 1) := dz_29 (bX11_signed_3 13 _ rfl)
theorem dX11_signed_62 : decode cX11_signed 62 = .ok (.iload_n 2, 1) := dz_28 (bX11_signed_3 14 _ rfl)
theorem dX11_signed_63 : decode cX11_signed 63 = .ok (.invokevirtual 271, 3) := dz_182 (bX11_signed_3 15 _ rfl) (bX11_signed_4 0 _ rfl) (bX11_signed_4 1 _ rfl)
theorem dX11_signed_66 : decode cX11_signed 66 = .ok (.ifCond .eq 7, 3) := dz_153 (bX11_signed_4 2 _ rfl) (bX11_signed_4 3 _ rfl) (bX11_signed_4 4 _ rfl)
theorem dX11_signed_69 : decode cX11_signed 69 = .ok (.iconst 1, 1) := dz_4 (bX11_signed_4 5 _ rfl)
theorem dX11_signed_70 : decode cX11_signed 70 = .ok (.goto 4, 3) := dz_167 (bX11_signed_4 6 _ rfl) (bX11_signed_4 7 _ rfl) (bX11_signed_4 8 _ rfl)
theorem dX11_signed_73 : decode cX11_signed 73 = .ok (.iconst 0, 1) := dz_3 (bX11_signed_4 9 _ rfl)
theorem dX11_signed_74 : decode cX11_signed 74 = .ok (.istore 4, 2) := dz_54 (bX11_signed_4 10 _ rfl) (bX11_signed_4 11 _ rfl)
theorem dX11_signed_76 : decode cX11_signed 76 = .ok (.aload_n 0, 1) := dz_42 (bX11_signed_4 12 _ rfl)
theorem dX11_signed_77 : decode cX11_signed 77 = .ok (.iload 4, 2) := dz_21 (bX11_signed_4 13 _ rfl) (bX11_signed_4 14 _ rfl)
theorem dX11_signed_79 : decode cX11_signed 79 = .ok (.ifCond .ne 19, 3) := dz_154 (bX11_signed_4 15 _ rfl) (bX11_signed_5 0 _ rfl) (bX11_signed_5 1 _ rfl)
theorem dX11_signed_82 : decode cX11_signed 82 = .ok (.iload_n 2, 1) := dz_28 (bX11_signed_5 2 _ rfl)
theorem dX11_signed_83 : decode cX11_signed 83 = .ok (.iload_n 3, 1) := dz_29 (bX11_signed_5 3 _ rfl)
theorem dX11_signed_84 : decode cX11_signed 84 = .ok (.if_icmp .ne 18, 3) := dz_160 (bX11_signed_5 4 _ rfl) (bX11_signed_5 5 _ rfl) (bX11_signed_5 6 _ rfl)
theorem dX11_signed_87 : decode cX11_signed 87 = .ok (.iload_n 2, 1) := dz_28 (bX11_signed_5 7 _ rfl)
theorem dX11_signed_88 : decode cX11_signed 88 = .ok (.iconst (-1), 1) := dz_2 (bX11_signed_5 8 _ rfl)
theorem dX11_signed_89 : decode cX11_signed 89 = .ok (.if_icmp .eq 9, 3) := dz_159 (bX11_signed_5 9 _ rfl) (bX11_signed_5 10 _ rfl) (bX11_signed_5 11 _ rfl)
theorem dX11_signed_92 : decode cX11_signed 92 = .ok (.iload_n 2, 1) := dz_28 (bX11_signed_5 12 _ rfl)
theorem dX11_signed_93 : decode cX11_signed 93 = .ok (.bipush (-2), 2) := dz_16 (bX11_signed_5 13 _ rfl) (bX11_signed_5 14 _ rfl)
theorem dX11_signed_95 : decode cX11_signed 95 = .ok (.if_icmp .ne 7, 3) := dz_160 (bX11_signed_5 15 _ rfl) (bX11_signed_6 0 _ rfl) (bX11_signed_6 1 _ rfl)
theorem dX11_signed_98 : decode cX11_signed 98 = .ok (.iconst 1, 1) := dz_4 (bX11_signed_6 2 _ rfl)
theorem dX11_signed_99 : decode cX11_signed 99 = .ok (.goto 4, 3) := dz_167 (bX11_signed_6 3 _ rfl) (bX11_signed_6 4 _ rfl) (bX11_signed_6 5 _ rfl)
theorem dX11_signed_102 : decode cX11_signed 102 = .ok (.iconst 0, 1) := dz_3 (bX11_signed_6 6 _ rfl)
theorem dX11_signed_103 : decode cX11_signed 103 = .ok (.invokevirtual 274, 3) := dz_182 (bX11_signed_6 7 _ rfl) (bX11_signed_6 8 _ rfl) (bX11_signed_6 9 _ rfl)
theorem dX11_signed_106 : decode cX11_signed 106 = .ok (.bipush (-2), 2) := dz_16 (bX11_signed_6 10 _ rfl) (bX11_signed_6 11 _ rfl)
theorem dX11_signed_108 : decode cX11_signed 108 = .ok (.ireturn, 1) := dz_172 (bX11_signed_6 12 _ rfl)
theorem dX11_signed_109 : decode cX11_signed 109 = .ok (.aload_n 0, 1) := dz_42 (bX11_signed_6 13 _ rfl)
theorem dX11_signed_110 : decode cX11_signed 110 = .ok (.iload_n 2, 1) := dz_28 (bX11_signed_6 14 _ rfl)
theorem dX11_signed_111 : decode cX11_signed 111 = .ok (.iconst (-1), 1) := dz_2 (bX11_signed_6 15 _ rfl)
theorem dX11_signed_112 : decode cX11_signed 112 = .ok (.if_icmp .ne 12, 3) := dz_160 (bX11_signed_7 0 _ rfl) (bX11_signed_7 1 _ rfl) (bX11_signed_7 2 _ rfl)
theorem dX11_signed_115 : decode cX11_signed 115 = .ok (.iload_n 3, 1) := dz_29 (bX11_signed_7 3 _ rfl)
theorem dX11_signed_116 : decode cX11_signed 116 = .ok (.iconst (-1), 1) := dz_2 (bX11_signed_7 4 _ rfl)
theorem dX11_signed_117 : decode cX11_signed 117 = .ok (.if_icmp .ne 7, 3) := dz_160 (bX11_signed_7 5 _ rfl) (bX11_signed_7 6 _ rfl) (bX11_signed_7 7 _ rfl)
theorem dX11_signed_120 : decode cX11_signed 120 = .ok (.iconst 1, 1) := dz_4 (bX11_signed_7 8 _ rfl)
theorem dX11_signed_121 : decode cX11_signed 121 = .ok (.goto 4, 3) := dz_167 (bX11_signed_7 9 _ rfl) (bX11_signed_7 10 _ rfl) (bX11_signed_7 11 _ rfl)
theorem dX11_signed_124 : decode cX11_signed 124 = .ok (.iconst 0, 1) := dz_3 (bX11_signed_7 12 _ rfl)
theorem dX11_signed_125 : decode cX11_signed 125 = .ok (.invokevirtual 274, 3) := dz_182 (bX11_signed_7 13 _ rfl) (bX11_signed_7 14 _ rfl) (bX11_signed_7 15 _ rfl)
theorem dX11_signed_128 : decode cX11_signed 128 = .ok (.aload_n 1, 1) := dz_43 (bX11_signed_8 0 _ rfl)
theorem dX11_signed_129 : decode cX11_signed 129 = .ok (.getfield 295, 3) := dz_180 (bX11_signed_8 1 _ rfl) (bX11_signed_8 2 _ rfl) (bX11_signed_8 3 _ rfl)
theorem dX11_signed_132 : decode cX11_signed 132 = .ok (.bipush 60, 2) := dz_16 (bX11_signed_8 4 _ rfl) (bX11_signed_8 5 _ rfl)
theorem dX11_signed_134 : decode cX11_signed 134 = .ok (.if_icmp .eq 12, 3) := dz_159 (bX11_signed_8 6 _ rfl) (bX11_signed_8 7 _ rfl) (bX11_signed_8 8 _ rfl)
theorem dX11_signed_137 : decode cX11_signed 137 = .ok (.aload_n 1, 1) := dz_43 (bX11_signed_8 9 _ rfl)
theorem dX11_signed_138 : decode cX11_signed 138 = .ok (.getfield 295, 3) := dz_180 (bX11_signed_8 10 _ rfl) (bX11_signed_8 11 _ rfl) (bX11_signed_8 12 _ rfl)
theorem dX11_signed_141 : decode cX11_signed 141 = .ok (.bipush 108, 2) := dz_16 (bX11_signed_8 13 _ rfl) (bX11_signed_8 14 _ rfl)
theorem dX11_signed_143 : decode cX11_signed 143 = .ok (.if_icmp .ne 8, 3) := dz_160 (bX11_signed_8 15 _ rfl) (bX11_signed_9 0 _ rfl) (bX11_signed_9 1 _ rfl)
theorem dX11_signed_146 : decode cX11_signed 146 = .ok (.bipush (-2), 2) := dz_16 (bX11_signed_9 2 _ rfl) (bX11_signed_9 3 _ rfl)
theorem dX11_signed_148 : decode cX11_signed 148 = .ok (.goto 4, 3) := dz_167 (bX11_signed_9 4 _ rfl) (bX11_signed_9 5 _ rfl) (bX11_signed_9 6 _ rfl)
theorem dX11_signed_151 : decode cX11_signed 151 = .ok (.iconst (-1), 1) := dz_2 (bX11_signed_9 7 _ rfl)
theorem dX11_signed_152 : decode cX11_signed 152 = .ok (.ireturn, 1) := dz_172 (bX11_signed_9 8 _ rfl)
def c_X11_signed_103 (rc : Nat → Nat → (Option Nat) → (Option Nat) → Int32 → ch_W → Option (Except Nat Int32 × ch_W)) (g : State) (t0 : Nat)  (y0 : Int32) (y1 : Nat) (w : ch_W) : Option (Except Nat Int32 × ch_W) := (ch_rc w (some y1) 12).bind fun _ => ch_tb (c_X11_must_2 g y1 y0 w) (fun a w => (.error a, w)) fun _ w3 => some ((.ok (-2), w3))
theorem s_X11_signed_103 {g : State} {d : Nat} {rc : Nat → Nat → (Option Nat) → (Option Nat) → Int32 → ch_W → Option (Except Nat Int32 × ch_W)} (hr0 : ∀ {t0 : Nat} {z0 : Option Nat} {w : ch_W} {p : Except Nat Int32 × ch_W} {Q : Outcome → ch_W → Prop}, rc 0 t0 z0 none 0 w = some p → ch_xI Q p → ch_CT g true yX11_value (d + 10) [.ref t0, va_rf z0] (w) Q)  {t0 : Nat} {y0 : Int32} {y1 : Nat} {w : ch_W} {res : Except Nat Int32 × ch_W} {Q : Outcome → ch_W → Prop} (h : c_X11_signed_103 rc g t0 y0 y1 w = some res) (hk : (ch_xI Q) res) : ch_FT g true mX11_signed (d + 11) 103 [none, none, none, none, none] [.int y0, va_rf (some y1)] (w) Q := by
  unfold c_X11_signed_103 at h
  obtain ⟨_, hb1, h⟩ := ch_bd h
  refine ch_iv yX11_must_2 prog_2_method_3_code 2 none (ci := 11) (q := (RX11, TX11, 14)) (b := y1) (d' := 8) (av := [.int y0]) (rest := []) rfl dX11_signed_103 q1202 q1204 rfl qs47 q1205 can_X11_must_2 (Nat.le_trans (Nat.le_of_ble_eq_true rfl) (Nat.le_add_left 11 d)) (Nat.le_of_ble_eq_true rfl) (ch_rts hb1) (cp_tV h (fun p hp Q' hq => s_X11_must_2 hp hq) (fun w3 h => ?_) (fun a w1 h => ?_))
  · obtain rfl := Option.some.inj h
    exact ch_bipush _ (-2) dX11_signed_106 rfl (ch_ireturn _ dX11_signed_108 rfl rfl hk)
  · subst h
    exact ch_th rfl hk

def c_X11_signed_98 (rc : Nat → Nat → (Option Nat) → (Option Nat) → Int32 → ch_W → Option (Except Nat Int32 × ch_W)) (g : State) (t0 : Nat)  (y0 : Nat) (w : ch_W) : Option (Except Nat Int32 × ch_W) := c_X11_signed_103 rc g t0 1 y0 w
theorem s_X11_signed_98 {g : State} {d : Nat} {rc : Nat → Nat → (Option Nat) → (Option Nat) → Int32 → ch_W → Option (Except Nat Int32 × ch_W)} (hr0 : ∀ {t0 : Nat} {z0 : Option Nat} {w : ch_W} {p : Except Nat Int32 × ch_W} {Q : Outcome → ch_W → Prop}, rc 0 t0 z0 none 0 w = some p → ch_xI Q p → ch_CT g true yX11_value (d + 10) [.ref t0, va_rf z0] (w) Q)  {t0 : Nat} {y0 : Nat} {w : ch_W} {res : Except Nat Int32 × ch_W} {Q : Outcome → ch_W → Prop} (h : c_X11_signed_98 rc g t0 y0 w = some res) (hk : (ch_xI Q) res) : ch_FT g true mX11_signed (d + 11) 98 [none, none, none, none, none] [va_rf (some y0)] (w) Q := by
  unfold c_X11_signed_98 at h
  exact ch_iconst _ 1 dX11_signed_98 rfl (ch_goto 103 dX11_signed_99 rfl (ch_FT.wk (ch_wN (ch_wN (ch_wN (ch_wN (ch_wN ch_w0))))) (s_X11_signed_103 hr0 h hk)))

def c_X11_signed_102 (rc : Nat → Nat → (Option Nat) → (Option Nat) → Int32 → ch_W → Option (Except Nat Int32 × ch_W)) (g : State) (t0 : Nat)  (y0 : Nat) (w : ch_W) : Option (Except Nat Int32 × ch_W) := c_X11_signed_103 rc g t0 0 y0 w
theorem s_X11_signed_102 {g : State} {d : Nat} {rc : Nat → Nat → (Option Nat) → (Option Nat) → Int32 → ch_W → Option (Except Nat Int32 × ch_W)} (hr0 : ∀ {t0 : Nat} {z0 : Option Nat} {w : ch_W} {p : Except Nat Int32 × ch_W} {Q : Outcome → ch_W → Prop}, rc 0 t0 z0 none 0 w = some p → ch_xI Q p → ch_CT g true yX11_value (d + 10) [.ref t0, va_rf z0] (w) Q)  {t0 : Nat} {y0 : Nat} {w : ch_W} {res : Except Nat Int32 × ch_W} {Q : Outcome → ch_W → Prop} (h : c_X11_signed_102 rc g t0 y0 w = some res) (hk : (ch_xI Q) res) : ch_FT g true mX11_signed (d + 11) 102 [none, none, none, none, none] [va_rf (some y0)] (w) Q := by
  unfold c_X11_signed_102 at h
  exact ch_iconst _ 0 dX11_signed_102 rfl (ch_FT.wk (ch_wN (ch_wN (ch_wN (ch_wN (ch_wN ch_w0))))) (s_X11_signed_103 hr0 h hk))

def c_X11_signed_74 (rc : Nat → Nat → (Option Nat) → (Option Nat) → Int32 → ch_W → Option (Except Nat Int32 × ch_W)) (g : State) (t0 : Nat) (x2 : Int32) (x3 : Int32) (y0 : Int32) (w : ch_W) : Option (Except Nat Int32 × ch_W) := if y0 = 0 then (if x2 = x3 then (if x2 = (-1) then (c_X11_signed_98 rc g t0 t0 w) else (if x2 = (-2) then (c_X11_signed_98 rc g t0 t0 w) else (c_X11_signed_102 rc g t0 t0 w))) else (c_X11_signed_102 rc g t0 t0 w)) else (c_X11_signed_98 rc g t0 t0 w)
theorem s_X11_signed_74 {g : State} {d : Nat} {rc : Nat → Nat → (Option Nat) → (Option Nat) → Int32 → ch_W → Option (Except Nat Int32 × ch_W)} (hr0 : ∀ {t0 : Nat} {z0 : Option Nat} {w : ch_W} {p : Except Nat Int32 × ch_W} {Q : Outcome → ch_W → Prop}, rc 0 t0 z0 none 0 w = some p → ch_xI Q p → ch_CT g true yX11_value (d + 10) [.ref t0, va_rf z0] (w) Q)  {t0 : Nat} {x2 : Int32} {x3 : Int32} {y0 : Int32} {w : ch_W} {res : Except Nat Int32 × ch_W} {Q : Outcome → ch_W → Prop} (h : c_X11_signed_74 rc g t0 x2 x3 y0 w = some res) (hk : (ch_xI Q) res) : ch_FT g true mX11_signed (d + 11) 74 [some (va_rf (some t0)), none, some (.int x2), some (.int x3), none] [.int y0] (w) Q := by
  unfold c_X11_signed_74 at h
  refine ch_istore 4 _ (ls1 := [some (va_rf (some t0)), none, some (.int x2), some (.int x3), some (.int y0)]) dX11_signed_74 (Nat.le_of_ble_eq_true rfl) rfl (ch_aload_n 0 (some t0) dX11_signed_76 rfl (ch_iload 4 _ dX11_signed_77 rfl (cp_if_ne _ (tgt := 98) dX11_signed_79 rfl h (fun h => ?_) (fun h => ?_))))
  · exact ch_FT.wk (ch_wN (ch_wN (ch_wN (ch_wN (ch_wN ch_w0))))) (s_X11_signed_98 hr0 h hk)
  · refine ch_iload_n 2 _ dX11_signed_82 rfl (ch_iload_n 3 _ dX11_signed_83 rfl (cp_icmp_ne _ _ (tgt := 102) dX11_signed_84 rfl h (fun h => ?_) (fun h => ?_)))
    · exact ch_FT.wk (ch_wN (ch_wN (ch_wN (ch_wN (ch_wN ch_w0))))) (s_X11_signed_102 hr0 h hk)
    · refine ch_iload_n 2 _ dX11_signed_87 rfl (ch_iconst _ (-1) dX11_signed_88 rfl (cp_icmp_eq _ _ (tgt := 98) dX11_signed_89 rfl h (fun h => ?_) (fun h => ?_)))
      · exact ch_FT.wk (ch_wN (ch_wN (ch_wN (ch_wN (ch_wN ch_w0))))) (s_X11_signed_98 hr0 h hk)
      · refine ch_iload_n 2 _ dX11_signed_92 rfl (ch_bipush _ (-2) dX11_signed_93 rfl (cp_icmp_ne _ _ (tgt := 102) dX11_signed_95 rfl h (fun h => ?_) (fun h => ?_)))
        · exact ch_FT.wk (ch_wN (ch_wN (ch_wN (ch_wN (ch_wN ch_w0))))) (s_X11_signed_102 hr0 h hk)
        · exact ch_FT.wk (ch_wN (ch_wN (ch_wN (ch_wN (ch_wN ch_w0))))) (s_X11_signed_98 hr0 h hk)

def c_X11_signed_73 (rc : Nat → Nat → (Option Nat) → (Option Nat) → Int32 → ch_W → Option (Except Nat Int32 × ch_W)) (g : State) (t0 : Nat) (x2 : Int32) (x3 : Int32)  (w : ch_W) : Option (Except Nat Int32 × ch_W) := c_X11_signed_74 rc g t0 x2 x3 0 w
theorem s_X11_signed_73 {g : State} {d : Nat} {rc : Nat → Nat → (Option Nat) → (Option Nat) → Int32 → ch_W → Option (Except Nat Int32 × ch_W)} (hr0 : ∀ {t0 : Nat} {z0 : Option Nat} {w : ch_W} {p : Except Nat Int32 × ch_W} {Q : Outcome → ch_W → Prop}, rc 0 t0 z0 none 0 w = some p → ch_xI Q p → ch_CT g true yX11_value (d + 10) [.ref t0, va_rf z0] (w) Q)  {t0 : Nat} {x2 : Int32} {x3 : Int32} {w : ch_W} {res : Except Nat Int32 × ch_W} {Q : Outcome → ch_W → Prop} (h : c_X11_signed_73 rc g t0 x2 x3 w = some res) (hk : (ch_xI Q) res) : ch_FT g true mX11_signed (d + 11) 73 [some (va_rf (some t0)), none, some (.int x2), some (.int x3), none] [] (w) Q := by
  unfold c_X11_signed_73 at h
  exact ch_iconst _ 0 dX11_signed_73 rfl (ch_FT.wk (ch_wS (ch_wN (ch_wS (ch_wS (ch_wN ch_w0))))) (s_X11_signed_74 hr0 h hk))

def c_X11_signed_69 (rc : Nat → Nat → (Option Nat) → (Option Nat) → Int32 → ch_W → Option (Except Nat Int32 × ch_W)) (g : State) (t0 : Nat) (x2 : Int32) (x3 : Int32)  (w : ch_W) : Option (Except Nat Int32 × ch_W) := c_X11_signed_74 rc g t0 x2 x3 1 w
theorem s_X11_signed_69 {g : State} {d : Nat} {rc : Nat → Nat → (Option Nat) → (Option Nat) → Int32 → ch_W → Option (Except Nat Int32 × ch_W)} (hr0 : ∀ {t0 : Nat} {z0 : Option Nat} {w : ch_W} {p : Except Nat Int32 × ch_W} {Q : Outcome → ch_W → Prop}, rc 0 t0 z0 none 0 w = some p → ch_xI Q p → ch_CT g true yX11_value (d + 10) [.ref t0, va_rf z0] (w) Q)  {t0 : Nat} {x2 : Int32} {x3 : Int32} {w : ch_W} {res : Except Nat Int32 × ch_W} {Q : Outcome → ch_W → Prop} (h : c_X11_signed_69 rc g t0 x2 x3 w = some res) (hk : (ch_xI Q) res) : ch_FT g true mX11_signed (d + 11) 69 [some (va_rf (some t0)), none, some (.int x2), some (.int x3), none] [] (w) Q := by
  unfold c_X11_signed_69 at h
  exact ch_iconst _ 1 dX11_signed_69 rfl (ch_goto 74 dX11_signed_70 rfl (ch_FT.wk (ch_wS (ch_wN (ch_wS (ch_wS (ch_wN ch_w0))))) (s_X11_signed_74 hr0 h hk)))

def c_X11_signed_37 (rc : Nat → Nat → (Option Nat) → (Option Nat) → Int32 → ch_W → Option (Except Nat Int32 × ch_W)) (g : State) (t0 : Nat) (x2 : Int32) (x3 : Int32)  (w : ch_W) : Option (Except Nat Int32 × ch_W) := (c_X11_isReference x2 w).bind fun v1 => if v1 = 0 then (c_X11_signed_73 rc g t0 x2 x3 w) else ((c_X11_isReference x3 w).bind fun v3 => if v3 = 0 then (c_X11_signed_73 rc g t0 x2 x3 w) else ((ch_rc w (some t0) 12).bind fun _ => (c_X11_isSub t0 x2 x3 w).bind fun v6 => if v6 = 0 then ((ch_rc w (some t0) 12).bind fun _ => (c_X11_isSub t0 x3 x2 w).bind fun v9 => if v9 = 0 then (c_X11_signed_73 rc g t0 x2 x3 w) else (c_X11_signed_69 rc g t0 x2 x3 w)) else (c_X11_signed_69 rc g t0 x2 x3 w)))
theorem s_X11_signed_37 {g : State} {d : Nat} {rc : Nat → Nat → (Option Nat) → (Option Nat) → Int32 → ch_W → Option (Except Nat Int32 × ch_W)} (hr0 : ∀ {t0 : Nat} {z0 : Option Nat} {w : ch_W} {p : Except Nat Int32 × ch_W} {Q : Outcome → ch_W → Prop}, rc 0 t0 z0 none 0 w = some p → ch_xI Q p → ch_CT g true yX11_value (d + 10) [.ref t0, va_rf z0] (w) Q)  {t0 : Nat} {x2 : Int32} {x3 : Int32} {w : ch_W} {res : Except Nat Int32 × ch_W} {Q : Outcome → ch_W → Prop} (h : c_X11_signed_37 rc g t0 x2 x3 w = some res) (hk : (ch_xI Q) res) : ch_FT g true mX11_signed (d + 11) 37 [some (va_rf (some t0)), none, some (.int x2), some (.int x3), none] [] (w) Q := by
  unfold c_X11_signed_37 at h
  obtain ⟨v1, hp2, h⟩ := ch_bd h
  refine ch_iload_n 2 _ dX11_signed_37 rfl (ch_is yX11_isReference prog_2_method_33_code 1 (some .boolean) (d' := 2) (av := [.int x2]) (rest := []) rfl dX11_signed_38 q1260 q1261 q226 q1262 can_X11_isReference (Nat.le_trans (Nat.le_of_ble_eq_true rfl) (Nat.le_add_left 11 d)) (Nat.le_of_ble_eq_true rfl) (cp_kI (v := v1) (w1 := w) (fun Q' hq => s_X11_isReference hp2 hq) ?_))
  refine cp_if_eq _ (tgt := 73) dX11_signed_41 rfl h (fun h => ?_) (fun h => ?_)
  · exact ch_FT.wk (ch_wS (ch_wN (ch_wS (ch_wS (ch_wN ch_w0))))) (s_X11_signed_73 hr0 h hk)
  · obtain ⟨v3, hp4, h⟩ := ch_bd h
    refine ch_iload_n 3 _ dX11_signed_44 rfl (ch_is yX11_isReference prog_2_method_33_code 1 (some .boolean) (d' := 2) (av := [.int x3]) (rest := []) rfl dX11_signed_45 q1260 q1261 q226 q1262 can_X11_isReference (Nat.le_trans (Nat.le_of_ble_eq_true rfl) (Nat.le_add_left 11 d)) (Nat.le_of_ble_eq_true rfl) (cp_kI (v := v3) (w1 := w) (fun Q' hq => s_X11_isReference hp4 hq) ?_))
    refine cp_if_eq _ (tgt := 73) dX11_signed_48 rfl h (fun h => ?_) (fun h => ?_)
    · exact ch_FT.wk (ch_wS (ch_wN (ch_wS (ch_wS (ch_wN ch_w0))))) (s_X11_signed_73 hr0 h hk)
    · obtain ⟨_, hb5, h⟩ := ch_bd h
      obtain ⟨v6, hp7, h⟩ := ch_bd h
      refine ch_aload_n 0 (some t0) dX11_signed_51 rfl (ch_iload_n 2 _ dX11_signed_52 rfl (ch_iload_n 3 _ dX11_signed_53 rfl (ch_iv yX11_isSub prog_2_method_6_code 3 (some .boolean) (ci := 11) (q := (RX11, TX11, 14)) (b := t0) (d' := 5) (av := [.int x2, .int x3]) (rest := []) rfl dX11_signed_54 q1234 q1236 rfl qs54 q1237 can_X11_isSub (Nat.le_trans (Nat.le_of_ble_eq_true rfl) (Nat.le_add_left 11 d)) (Nat.le_of_ble_eq_true rfl) (ch_rts hb5) (cp_kI (v := v6) (w1 := w) (fun Q' hq => s_X11_isSub hp7 hq) ?_))))
      refine cp_if_ne _ (tgt := 69) dX11_signed_57 rfl h (fun h => ?_) (fun h => ?_)
      · exact ch_FT.wk (ch_wS (ch_wN (ch_wS (ch_wS (ch_wN ch_w0))))) (s_X11_signed_69 hr0 h hk)
      · obtain ⟨_, hb8, h⟩ := ch_bd h
        obtain ⟨v9, hp10, h⟩ := ch_bd h
        refine ch_aload_n 0 (some t0) dX11_signed_60 rfl (ch_iload_n 3 _ dX11_signed_61 rfl (ch_iload_n 2 _ dX11_signed_62 rfl (ch_iv yX11_isSub prog_2_method_6_code 3 (some .boolean) (ci := 11) (q := (RX11, TX11, 14)) (b := t0) (d' := 5) (av := [.int x3, .int x2]) (rest := []) rfl dX11_signed_63 q1234 q1236 rfl qs54 q1237 can_X11_isSub (Nat.le_trans (Nat.le_of_ble_eq_true rfl) (Nat.le_add_left 11 d)) (Nat.le_of_ble_eq_true rfl) (ch_rts hb8) (cp_kI (v := v9) (w1 := w) (fun Q' hq => s_X11_isSub hp10 hq) ?_))))
        refine cp_if_eq _ (tgt := 73) dX11_signed_66 rfl h (fun h => ?_) (fun h => ?_)
        · exact ch_FT.wk (ch_wS (ch_wN (ch_wS (ch_wS (ch_wN ch_w0))))) (s_X11_signed_73 hr0 h hk)
        · exact ch_FT.wk (ch_wS (ch_wN (ch_wS (ch_wS (ch_wN ch_w0))))) (s_X11_signed_69 hr0 h hk)

def c_X11_signed_125 (rc : Nat → Nat → (Option Nat) → (Option Nat) → Int32 → ch_W → Option (Except Nat Int32 × ch_W)) (g : State) (t0 : Nat) (x1 : Option Nat) (y0 : Int32) (y1 : Nat) (w : ch_W) : Option (Except Nat Int32 × ch_W) := (ch_rc w (some y1) 12).bind fun _ => ch_tb (c_X11_must_2 g y1 y0 w) (fun a w => (.error a, w)) fun _ w3 => (ch_gI w3 x1 11 fX10_what).bind fun v4 => if v4 = 60 then (some ((.ok (-2), w3))) else ((ch_gI w3 x1 11 fX10_what).bind fun v5 => if v5 = 108 then (some ((.ok (-2), w3))) else (some ((.ok (-1), w3))))
theorem s_X11_signed_125 {g : State} {d : Nat} {rc : Nat → Nat → (Option Nat) → (Option Nat) → Int32 → ch_W → Option (Except Nat Int32 × ch_W)} (hr0 : ∀ {t0 : Nat} {z0 : Option Nat} {w : ch_W} {p : Except Nat Int32 × ch_W} {Q : Outcome → ch_W → Prop}, rc 0 t0 z0 none 0 w = some p → ch_xI Q p → ch_CT g true yX11_value (d + 10) [.ref t0, va_rf z0] (w) Q)  {t0 : Nat} {x1 : Option Nat} {y0 : Int32} {y1 : Nat} {w : ch_W} {res : Except Nat Int32 × ch_W} {Q : Outcome → ch_W → Prop} (h : c_X11_signed_125 rc g t0 x1 y0 y1 w = some res) (hk : (ch_xI Q) res) : ch_FT g true mX11_signed (d + 11) 125 [none, some (va_rf x1), none, none, none] [.int y0, va_rf (some y1)] (w) Q := by
  unfold c_X11_signed_125 at h
  obtain ⟨_, hb1, h⟩ := ch_bd h
  refine ch_iv yX11_must_2 prog_2_method_3_code 2 none (ci := 11) (q := (RX11, TX11, 14)) (b := y1) (d' := 8) (av := [.int y0]) (rest := []) rfl dX11_signed_125 q1202 q1204 rfl qs47 q1205 can_X11_must_2 (Nat.le_trans (Nat.le_of_ble_eq_true rfl) (Nat.le_add_left 11 d)) (Nat.le_of_ble_eq_true rfl) (ch_rts hb1) (cp_tV h (fun p hp Q' hq => s_X11_must_2 hp hq) (fun w3 h => ?_) (fun a w1 h => ?_))
  · refine ch_aload_n 1 x1 dX11_signed_128 rfl (cp_gI (ci := 10) (k := 4) dX11_signed_129 fl_X11_295 rfl h (fun v4 h => ?_))
    refine ch_bipush _ 60 dX11_signed_132 rfl (cp_icmp_eq _ _ (tgt := 146) dX11_signed_134 rfl h (fun h => ?_) (fun h => ?_))
    · obtain rfl := Option.some.inj h
      exact ch_bipush _ (-2) dX11_signed_146 rfl (ch_goto 152 dX11_signed_148 rfl (ch_ireturn _ dX11_signed_152 rfl rfl hk))
    · refine ch_aload_n 1 x1 dX11_signed_137 rfl (cp_gI (ci := 10) (k := 4) dX11_signed_138 fl_X11_295 rfl h (fun v5 h => ?_))
      refine ch_bipush _ 108 dX11_signed_141 rfl (cp_icmp_ne _ _ (tgt := 151) dX11_signed_143 rfl h (fun h => ?_) (fun h => ?_))
      · obtain rfl := Option.some.inj h
        exact ch_iconst _ (-1) dX11_signed_151 rfl (ch_ireturn _ dX11_signed_152 rfl rfl hk)
      · obtain rfl := Option.some.inj h
        exact ch_bipush _ (-2) dX11_signed_146 rfl (ch_goto 152 dX11_signed_148 rfl (ch_ireturn _ dX11_signed_152 rfl rfl hk))
  · subst h
    exact ch_th rfl hk

def c_X11_signed_124 (rc : Nat → Nat → (Option Nat) → (Option Nat) → Int32 → ch_W → Option (Except Nat Int32 × ch_W)) (g : State) (t0 : Nat) (x1 : Option Nat) (y0 : Nat) (w : ch_W) : Option (Except Nat Int32 × ch_W) := c_X11_signed_125 rc g t0 x1 0 y0 w
theorem s_X11_signed_124 {g : State} {d : Nat} {rc : Nat → Nat → (Option Nat) → (Option Nat) → Int32 → ch_W → Option (Except Nat Int32 × ch_W)} (hr0 : ∀ {t0 : Nat} {z0 : Option Nat} {w : ch_W} {p : Except Nat Int32 × ch_W} {Q : Outcome → ch_W → Prop}, rc 0 t0 z0 none 0 w = some p → ch_xI Q p → ch_CT g true yX11_value (d + 10) [.ref t0, va_rf z0] (w) Q)  {t0 : Nat} {x1 : Option Nat} {y0 : Nat} {w : ch_W} {res : Except Nat Int32 × ch_W} {Q : Outcome → ch_W → Prop} (h : c_X11_signed_124 rc g t0 x1 y0 w = some res) (hk : (ch_xI Q) res) : ch_FT g true mX11_signed (d + 11) 124 [none, some (va_rf x1), none, none, none] [va_rf (some y0)] (w) Q := by
  unfold c_X11_signed_124 at h
  exact ch_iconst _ 0 dX11_signed_124 rfl (ch_FT.wk (ch_wN (ch_wS (ch_wN (ch_wN (ch_wN ch_w0))))) (s_X11_signed_125 hr0 h hk))

def c_X11_signed (rc : Nat → Nat → (Option Nat) → (Option Nat) → Int32 → ch_W → Option (Except Nat Int32 × ch_W)) (g : State) (t0 : Nat) (x1 : Option Nat) (x2 : Int32) (w : ch_W) : Option (Except Nat Int32 × ch_W) := (ch_gR w x1 11 fX10_right).bind fun v1 => (ch_rc w (some t0) 12).bind fun _ => ch_tb (rc 0 t0 v1 none 0 w) (fun a w => (.error a, w)) fun v3 w4 => (ch_gI w4 x1 11 fX10_what).bind fun v5 => (ch_rc w4 (some t0) 12).bind fun _ => (c_X11_add t0 15 v5 w4).bind fun p7 => (ch_gI p7 x1 11 fX10_what).bind fun v9 => if v9 = 61 then (c_X11_signed_37 rc g t0 x2 v3 p7) else ((ch_gI p7 x1 11 fX10_what).bind fun v10 => if v10 = 33 then (c_X11_signed_37 rc g t0 x2 v3 p7) else (if x2 = (-1) then (if v3 = (-1) then (c_X11_signed_125 rc g t0 x1 1 t0 p7) else (c_X11_signed_124 rc g t0 x1 t0 p7)) else (c_X11_signed_124 rc g t0 x1 t0 p7)))
theorem s_X11_signed {g : State} {d : Nat} {rc : Nat → Nat → (Option Nat) → (Option Nat) → Int32 → ch_W → Option (Except Nat Int32 × ch_W)} (hr0 : ∀ {t0 : Nat} {z0 : Option Nat} {w : ch_W} {p : Except Nat Int32 × ch_W} {Q : Outcome → ch_W → Prop}, rc 0 t0 z0 none 0 w = some p → ch_xI Q p → ch_CT g true yX11_value (d + 10) [.ref t0, va_rf z0] (w) Q)  {t0 : Nat} {x1 : Option Nat} {x2 : Int32} {w : ch_W} {res : Except Nat Int32 × ch_W} {Q : Outcome → ch_W → Prop} (h : c_X11_signed rc g t0 x1 x2 w = some res) (hk : (ch_xI Q) res) : ch_CT g true yX11_signed (d + 11) [.ref t0, va_rf x1, .int x2] (w) Q := by
  unfold c_X11_signed at h
  refine ch_ctL mX11_signed (ls := [some (va_rf (some t0)), some (va_rf x1), some (.int x2), none, none]) q1259 rfl (ch_lyr (r := some t0) (ch_lyr (r := x1) (ch_lyi ch_ly0))) (Nat.le_of_ble_eq_true rfl) rfl ?_
  refine ch_aload_n 0 (some t0) dX11_signed_0 rfl (ch_aload_n 1 x1 dX11_signed_1 rfl (cp_gR (ci := 10) (k := 2) dX11_signed_2 fl_X11_301 rfl h (fun v1 h => ?_)))
  obtain ⟨_, hb2, h⟩ := ch_bd h
  refine ch_iv yX11_value prog_2_method_28_code 5 (some .int) (ci := 11) (q := (RX11, TX11, 14)) (b := t0) (d' := (d + 10)) (av := [va_rf v1]) (rest := []) rfl dX11_signed_5 q1206 q1208 rfl qs48 q1209 can_X11_value (Nat.le_refl _) (Nat.le_of_ble_eq_true rfl) (ch_rts hb2) (cp_tI h (fun p hp Q' hq => hr0 hp hq) (fun v3 w4 h => ?_) (fun a w1 h => ?_))
  · refine ch_istore_n 3 _ (ls1 := [some (va_rf (some t0)), some (va_rf x1), some (.int x2), some (.int v3), none]) dX11_signed_8 (Nat.le_of_ble_eq_true rfl) rfl (ch_aload_n 0 (some t0) dX11_signed_9 rfl (ch_bipush _ 15 dX11_signed_10 rfl (ch_aload_n 1 x1 dX11_signed_12 rfl (cp_gI (ci := 10) (k := 4) dX11_signed_13 fl_X11_295 rfl h (fun v5 h => ?_)))))
    obtain ⟨_, hb6, h⟩ := ch_bd h
    obtain ⟨p7, hp8, h⟩ := ch_bd h
    refine ch_iv yX11_add prog_2_method_14_code 3 none (ci := 11) (q := (RX11, TX11, 14)) (b := t0) (d' := 3) (av := [.int 15, .int v5]) (rest := []) rfl dX11_signed_16 q1214 q1216 rfl qs50 q1217 can_X11_add (Nat.le_trans (Nat.le_of_ble_eq_true rfl) (Nat.le_add_left 11 d)) (Nat.le_of_ble_eq_true rfl) (ch_rts hb6) (cp_kV (w1 := p7) (fun Q' hq => s_X11_add hp8 hq) ?_)
    refine ch_aload_n 1 x1 dX11_signed_19 rfl (cp_gI (ci := 10) (k := 4) dX11_signed_20 fl_X11_295 rfl h (fun v9 h => ?_))
    refine ch_bipush _ 61 dX11_signed_23 rfl (cp_icmp_eq _ _ (tgt := 37) dX11_signed_25 rfl h (fun h => ?_) (fun h => ?_))
    · exact ch_FT.wk (ch_wS (ch_wN (ch_wS (ch_wS (ch_wN ch_w0))))) (s_X11_signed_37 hr0 h hk)
    · refine ch_aload_n 1 x1 dX11_signed_28 rfl (cp_gI (ci := 10) (k := 4) dX11_signed_29 fl_X11_295 rfl h (fun v10 h => ?_))
      refine ch_bipush _ 33 dX11_signed_32 rfl (cp_icmp_ne _ _ (tgt := 109) dX11_signed_34 rfl h (fun h => ?_) (fun h => ?_))
      · refine ch_aload_n 0 (some t0) dX11_signed_109 rfl (ch_iload_n 2 _ dX11_signed_110 rfl (ch_iconst _ (-1) dX11_signed_111 rfl (cp_icmp_ne _ _ (tgt := 124) dX11_signed_112 rfl h (fun h => ?_) (fun h => ?_))))
        · exact ch_FT.wk (ch_wN (ch_wS (ch_wN (ch_wN (ch_wN ch_w0))))) (s_X11_signed_124 hr0 h hk)
        · refine ch_iload_n 3 _ dX11_signed_115 rfl (ch_iconst _ (-1) dX11_signed_116 rfl (cp_icmp_ne _ _ (tgt := 124) dX11_signed_117 rfl h (fun h => ?_) (fun h => ?_)))
          · exact ch_FT.wk (ch_wN (ch_wS (ch_wN (ch_wN (ch_wN ch_w0))))) (s_X11_signed_124 hr0 h hk)
          · exact ch_iconst _ 1 dX11_signed_120 rfl (ch_goto 125 dX11_signed_121 rfl (ch_FT.wk (ch_wN (ch_wS (ch_wN (ch_wN (ch_wN ch_w0))))) (s_X11_signed_125 hr0 h hk)))
      · exact ch_FT.wk (ch_wS (ch_wN (ch_wS (ch_wS (ch_wN ch_w0))))) (s_X11_signed_37 hr0 h hk)
  · subst h
    exact ch_th rfl hk

def cr_CE (g : State) : Nat → Nat → Nat → (Option Nat) → (Option Nat) → Int32 → ch_W → Option (Except Nat Int32 × ch_W)
  | 0 => fun _ _ _ _ _ _ => none
  | d + 1 => fun k t0 z0 z1 z2 w => if k = 0 then c_X11_value (cr_CE g d) g t0 z0 w else if k = 1 then c_X11_first (cr_CE g d) g t0 z0 w else if k = 2 then c_X11_called (cr_CE g d) g t0 z0 z1 w else if k = 3 then c_X11_behind (cr_CE g d) g t0 z0 z2 w else c_X11_signed (cr_CE g d) g t0 z0 z2 w
theorem sr_CE {g : State} : ∀ d : Nat, (∀ {t0 : Nat} {z0 : Option Nat} {w : ch_W} {p : Except Nat Int32 × ch_W} {Q : Outcome → ch_W → Prop}, cr_CE g d 0 t0 z0 none 0 w = some p → ch_xI Q p → ch_CT g true yX11_value (d + 10) [.ref t0, va_rf z0] (w) Q) ∧ (∀ {t0 : Nat} {z0 : Option Nat} {w : ch_W} {p : Except Nat Int32 × ch_W} {Q : Outcome → ch_W → Prop}, cr_CE g d 1 t0 z0 none 0 w = some p → ch_xI Q p → ch_CT g true yX11_first (d + 10) [.ref t0, va_rf z0] (w) Q) ∧ (∀ {t0 : Nat} {z0 : Option Nat} {z1 : Option Nat} {w : ch_W} {p : Except Nat Int32 × ch_W} {Q : Outcome → ch_W → Prop}, cr_CE g d 2 t0 z0 z1 0 w = some p → ch_xI Q p → ch_CT g true yX11_called (d + 10) [.ref t0, va_rf z0, va_rf z1] (w) Q) ∧ (∀ {t0 : Nat} {z0 : Option Nat} {z1 : Int32} {w : ch_W} {p : Except Nat Int32 × ch_W} {Q : Outcome → ch_W → Prop}, cr_CE g d 3 t0 z0 none z1 w = some p → ch_xI Q p → ch_CT g true yX11_behind (d + 10) [.ref t0, va_rf z0, .int z1] (w) Q) ∧ (∀ {t0 : Nat} {z0 : Option Nat} {z1 : Int32} {w : ch_W} {p : Except Nat Int32 × ch_W} {Q : Outcome → ch_W → Prop}, cr_CE g d 4 t0 z0 none z1 w = some p → ch_xI Q p → ch_CT g true yX11_signed (d + 10) [.ref t0, va_rf z0, .int z1] (w) Q) := by
  intro d
  induction d with
  | zero => exact ⟨fun h _ => (by cases h), fun h _ => (by cases h), fun h _ => (by cases h), fun h _ => (by cases h), fun h _ => (by cases h)⟩
  | succ d ih =>
    exact ⟨fun {t0 z0 w p Q} h hk => s_X11_value ih.2.1 ih.2.2.2.1 h hk,
      fun {t0 z0 w p Q} h hk => s_X11_first ih.1 ih.2.2.1 h hk,
      fun {t0 z0 z1 w p Q} h hk => s_X11_called ih.1 h hk,
      fun {t0 z0 z1 w p Q} h hk => s_X11_behind ih.1 ih.2.2.1 ih.2.2.2.2 h hk,
      fun {t0 z0 z1 w p Q} h hk => s_X11_signed ih.1 h hk⟩
theorem sr_X11_value {g : State} {t0 : Nat} {z0 : Option Nat} {w : ch_W} {p : Except Nat Int32 × ch_W} {Q : Outcome → ch_W → Prop} (h : cr_CE g 700 0 t0 z0 none 0 w = some p) (hk : ch_xI Q p) : ch_CT g true yX11_value 710 [.ref t0, va_rf z0] (w) Q := (sr_CE 700).1 h hk
theorem sr_X11_first {g : State} {t0 : Nat} {z0 : Option Nat} {w : ch_W} {p : Except Nat Int32 × ch_W} {Q : Outcome → ch_W → Prop} (h : cr_CE g 700 1 t0 z0 none 0 w = some p) (hk : ch_xI Q p) : ch_CT g true yX11_first 710 [.ref t0, va_rf z0] (w) Q := (sr_CE 700).2.1 h hk
theorem sr_X11_called {g : State} {t0 : Nat} {z0 : Option Nat} {z1 : Option Nat} {w : ch_W} {p : Except Nat Int32 × ch_W} {Q : Outcome → ch_W → Prop} (h : cr_CE g 700 2 t0 z0 z1 0 w = some p) (hk : ch_xI Q p) : ch_CT g true yX11_called 710 [.ref t0, va_rf z0, va_rf z1] (w) Q := (sr_CE 700).2.2.1 h hk
theorem sr_X11_behind {g : State} {t0 : Nat} {z0 : Option Nat} {z1 : Int32} {w : ch_W} {p : Except Nat Int32 × ch_W} {Q : Outcome → ch_W → Prop} (h : cr_CE g 700 3 t0 z0 none z1 w = some p) (hk : ch_xI Q p) : ch_CT g true yX11_behind 710 [.ref t0, va_rf z0, .int z1] (w) Q := (sr_CE 700).2.2.2.1 h hk
theorem sr_X11_signed {g : State} {t0 : Nat} {z0 : Option Nat} {z1 : Int32} {w : ch_W} {p : Except Nat Int32 × ch_W} {Q : Outcome → ch_W → Prop} (h : cr_CE g 700 4 t0 z0 none z1 w = some p) (hk : ch_xI Q p) : ch_CT g true yX11_signed 710 [.ref t0, va_rf z0, .int z1] (w) Q := (sr_CE 700).2.2.2.2 h hk

theorem bX11_tell_0 : ch_ck cX11_tell 0 [42, 43, 180, 1, 28, 182, 0, 152, 61, 42, 28, 16, 250, 159, 0, 21] := ch_ckof (by decide +kernel)
theorem bX11_tell_1 : ch_ck cX11_tell 16 [42, 180, 0, 21, 43, 180, 1, 29, 182, 1, 30, 154, 0, 7, 4, 167] := ch_ckof (by decide +kernel)
theorem bX11_tell_2 : ch_ck cX11_tell 32 [0, 4, 3, 182, 1, 18, 43, 180, 1, 2, 198, 0, 35, 42, 42, 42] := ch_ckof (by decide +kernel)
theorem bX11_tell_3 : ch_ck cX11_tell 48 [43, 180, 1, 2, 182, 1, 6, 28, 182, 1, 15, 182, 1, 18, 42, 16] := ch_ckof (by decide +kernel)
theorem bX11_tell_4 : ch_ck cX11_tell 64 [19, 42, 180, 0, 21, 180, 0, 173, 4, 96, 182, 0, 247, 42, 43, 180] := ch_ckof (by decide +kernel)
theorem bX11_tell_5 : ch_ck cX11_tell 80 [1, 29, 28, 43, 180, 1, 2, 198, 0, 7, 4, 167, 0, 4, 3, 182] := ch_ckof (by decide +kernel)
theorem bX11_tell_6 : ch_ck cX11_tell 96 [0, 207, 177] := ch_ckof (by decide +kernel)
theorem dX11_tell_0 : decode cX11_tell 0 = .ok (.aload_n 0, 1) := dz_42 (bX11_tell_0 0 _ rfl)
theorem dX11_tell_1 : decode cX11_tell 1 = .ok (.aload_n 1, 1) := dz_43 (bX11_tell_0 1 _ rfl)
theorem dX11_tell_2 : decode cX11_tell 2 = .ok (.getfield 284, 3) := dz_180 (bX11_tell_0 2 _ rfl) (bX11_tell_0 3 _ rfl) (bX11_tell_0 4 _ rfl)
theorem dX11_tell_5 : decode cX11_tell 5 = .ok (.invokevirtual 152, 3) := dz_182 (bX11_tell_0 5 _ rfl) (bX11_tell_0 6 _ rfl) (bX11_tell_0 7 _ rfl)
theorem dX11_tell_8 : decode cX11_tell 8 = .ok (.istore_n 2, 1) := dz_61 (bX11_tell_0 8 _ rfl)
theorem dX11_tell_9 : decode cX11_tell 9 = .ok (.aload_n 0, 1) := dz_42 (bX11_tell_0 9 _ rfl)
theorem dX11_tell_10 : decode cX11_tell 10 = .ok (.iload_n 2, 1) := dz_28 (bX11_tell_0 10 _ rfl)
theorem dX11_tell_11 : decode cX11_tell 11 = .ok (.bipush (-6), 2) := dz_16 (bX11_tell_0 11 _ rfl) (bX11_tell_0 12 _ rfl)
theorem dX11_tell_13 : decode cX11_tell 13 = .ok (.if_icmp .eq 21, 3) := dz_159 (bX11_tell_0 13 _ rfl) (bX11_tell_0 14 _ rfl) (bX11_tell_0 15 _ rfl)
theorem dX11_tell_16 : decode cX11_tell 16 = .ok (.aload_n 0, 1) := dz_42 (bX11_tell_1 0 _ rfl)
theorem dX11_tell_17 : decode cX11_tell 17 = .ok (.getfield 21, 3) := dz_180 (bX11_tell_1 1 _ rfl) (bX11_tell_1 2 _ rfl) (bX11_tell_1 3 _ rfl)
theorem dX11_tell_20 : decode cX11_tell 20 = .ok (.aload_n 1, 1) := dz_43 (bX11_tell_1 4 _ rfl)
theorem dX11_tell_21 : decode cX11_tell 21 = .ok (.getfield 285, 3) := dz_180 (bX11_tell_1 5 _ rfl) (bX11_tell_1 6 _ rfl) (bX11_tell_1 7 _ rfl)
theorem dX11_tell_24 : decode cX11_tell 24 = .ok (.invokevirtual 286, 3) := dz_182 (bX11_tell_1 8 _ rfl) (bX11_tell_1 9 _ rfl) (bX11_tell_1 10 _ rfl)
theorem dX11_tell_27 : decode cX11_tell 27 = .ok (.ifCond .ne 7, 3) := dz_154 (bX11_tell_1 11 _ rfl) (bX11_tell_1 12 _ rfl) (bX11_tell_1 13 _ rfl)
theorem dX11_tell_30 : decode cX11_tell 30 = .ok (.iconst 1, 1) := dz_4 (bX11_tell_1 14 _ rfl)
theorem dX11_tell_31 : decode cX11_tell 31 = .ok (.goto 4, 3) := dz_167 (bX11_tell_1 15 _ rfl) (bX11_tell_2 0 _ rfl) (bX11_tell_2 1 _ rfl)
theorem dX11_tell_34 : decode cX11_tell 34 = .ok (.iconst 0, 1) := dz_3 (bX11_tell_2 2 _ rfl)
theorem dX11_tell_35 : decode cX11_tell 35 = .ok (.invokevirtual 274, 3) := dz_182 (bX11_tell_2 3 _ rfl) (bX11_tell_2 4 _ rfl) (bX11_tell_2 5 _ rfl)
theorem dX11_tell_38 : decode cX11_tell 38 = .ok (.aload_n 1, 1) := dz_43 (bX11_tell_2 6 _ rfl)
theorem dX11_tell_39 : decode cX11_tell 39 = .ok (.getfield 258, 3) := dz_180 (bX11_tell_2 7 _ rfl) (bX11_tell_2 8 _ rfl) (bX11_tell_2 9 _ rfl)
theorem dX11_tell_42 : decode cX11_tell 42 = .ok (.ifnull 35, 3) := dz_198 (bX11_tell_2 10 _ rfl) (bX11_tell_2 11 _ rfl) (bX11_tell_2 12 _ rfl)
theorem dX11_tell_45 : decode cX11_tell 45 = .ok (.aload_n 0, 1) := dz_42 (bX11_tell_2 13 _ rfl)
theorem dX11_tell_46 : decode cX11_tell 46 = .ok (.aload_n 0, 1) := dz_42 (bX11_tell_2 14 _ rfl)
theorem dX11_tell_47 : decode cX11_tell 47 = .ok (.aload_n 0, 1) := dz_42 (bX11_tell_2 15 _ rfl)
theorem dX11_tell_48 : decode cX11_tell 48 = .ok (.aload_n 1, 1) := dz_43 (bX11_tell_3 0 _ rfl)
theorem dX11_tell_49 : decode cX11_tell 49 = .ok (.getfield 258, 3) := dz_180 (bX11_tell_3 1 _ rfl) (bX11_tell_3 2 _ rfl) (bX11_tell_3 3 _ rfl)
theorem dX11_tell_52 : decode cX11_tell 52 = .ok (.invokevirtual 262, 3) := dz_182 (bX11_tell_3 4 _ rfl) (bX11_tell_3 5 _ rfl) (bX11_tell_3 6 _ rfl)
theorem dX11_tell_55 : decode cX11_tell 55 = .ok (.iload_n 2, 1) := dz_28 (bX11_tell_3 7 _ rfl)
theorem dX11_tell_56 : decode cX11_tell 56 = .ok (.invokevirtual 271, 3) := dz_182 (bX11_tell_3 8 _ rfl) (bX11_tell_3 9 _ rfl) (bX11_tell_3 10 _ rfl)
theorem dX11_tell_59 : decode cX11_tell 59 = .ok (.invokevirtual 274, 3) := dz_182 (bX11_tell_3 11 _ rfl) (bX11_tell_3 12 _ rfl) (bX11_tell_3 13 _ rfl)
theorem dX11_tell_62 : decode cX11_tell 62 = .ok (.aload_n 0, 1) := dz_42 (bX11_tell_3 14 _ rfl)
theorem dX11_tell_63 : decode cX11_tell 63 = .ok (.bipush 19, 2) := dz_16 (bX11_tell_3 15 _ rfl) (bX11_tell_4 0 _ rfl)
theorem dX11_tell_65 : decode cX11_tell 65 = .ok (.aload_n 0, 1) := dz_42 (bX11_tell_4 1 _ rfl)
theorem dX11_tell_66 : decode cX11_tell 66 = .ok (.getfield 21, 3) := dz_180 (bX11_tell_4 2 _ rfl) (bX11_tell_4 3 _ rfl) (bX11_tell_4 4 _ rfl)
theorem dX11_tell_69 : decode cX11_tell 69 = .ok (.getfield 173, 3) := dz_180 (bX11_tell_4 5 _ rfl) (bX11_tell_4 6 _ rfl) (bX11_tell_4 7 _ rfl)
theorem dX11_tell_72 : decode cX11_tell 72 = .ok (.iconst 1, 1) := dz_4 (bX11_tell_4 8 _ rfl)
theorem dX11_tell_73 : decode cX11_tell 73 = .ok (.iadd, 1) := dz_96 (bX11_tell_4 9 _ rfl)
theorem dX11_tell_74 : decode cX11_tell 74 = .ok (.invokevirtual 247, 3) := dz_182 (bX11_tell_4 10 _ rfl) (bX11_tell_4 11 _ rfl) (bX11_tell_4 12 _ rfl)
theorem dX11_tell_77 : decode cX11_tell 77 = .ok (.aload_n 0, 1) := dz_42 (bX11_tell_4 13 _ rfl)
theorem dX11_tell_78 : decode cX11_tell 78 = .ok (.aload_n 1, 1) := dz_43 (bX11_tell_4 14 _ rfl)
theorem dX11_tell_79 : decode cX11_tell 79 = .ok (.getfield 285, 3) := dz_180 (bX11_tell_4 15 _ rfl) (bX11_tell_5 0 _ rfl) (bX11_tell_5 1 _ rfl)
theorem dX11_tell_82 : decode cX11_tell 82 = .ok (.iload_n 2, 1) := dz_28 (bX11_tell_5 2 _ rfl)
theorem dX11_tell_83 : decode cX11_tell 83 = .ok (.aload_n 1, 1) := dz_43 (bX11_tell_5 3 _ rfl)
theorem dX11_tell_84 : decode cX11_tell 84 = .ok (.getfield 258, 3) := dz_180 (bX11_tell_5 4 _ rfl) (bX11_tell_5 5 _ rfl) (bX11_tell_5 6 _ rfl)
theorem dX11_tell_87 : decode cX11_tell 87 = .ok (.ifnull 7, 3) := dz_198 (bX11_tell_5 7 _ rfl) (bX11_tell_5 8 _ rfl) (bX11_tell_5 9 _ rfl)
theorem dX11_tell_90 : decode cX11_tell 90 = .ok (.iconst 1, 1) := dz_4 (bX11_tell_5 10 _ rfl)
theorem dX11_tell_91 : decode cX11_tell 91 = .ok (.goto 4, 3) := dz_167 (bX11_tell_5 11 _ rfl) (bX11_tell_5 12 _ rfl) (bX11_tell_5 13 _ rfl)
theorem dX11_tell_94 : decode cX11_tell 94 = .ok (.iconst 0, 1) := dz_3 (bX11_tell_5 14 _ rfl)
theorem dX11_tell_95 : decode cX11_tell 95 = .ok (.invokevirtual 207, 3) := dz_182 (bX11_tell_5 15 _ rfl) (bX11_tell_6 0 _ rfl) (bX11_tell_6 1 _ rfl)
theorem dX11_tell_98 : decode cX11_tell 98 = .ok (.return_, 1) := dz_177 (bX11_tell_6 2 _ rfl)
def c_X11_tell_95 (g : State) (t0 : Nat)  (y0 : Int32) (y1 : Int32) (y2 : Int32) (y3 : Nat) (w : ch_W) : Option (Except Nat Unit × ch_W) := (ch_rc w (some y3) 12).bind fun _ => (c_X11_declare y3 y2 y1 y0 w).bind fun p2 => some ((.ok (), p2))
theorem s_X11_tell_95 {g : State} {t0 : Nat} {y0 : Int32} {y1 : Int32} {y2 : Int32} {y3 : Nat} {w : ch_W} {res : Except Nat Unit × ch_W} {Q : Outcome → ch_W → Prop} (h : c_X11_tell_95 g t0 y0 y1 y2 y3 w = some res) (hk : (ch_xV Q) res) : ch_FT g true mX11_tell 711 95 [none, none, none] [.int y0, .int y1, .int y2, va_rf (some y3)] (w) Q := by
  unfold c_X11_tell_95 at h
  obtain ⟨_, hb1, h⟩ := ch_bd h
  obtain ⟨p2, hp3, h⟩ := ch_bd h
  refine ch_iv yX11_declare prog_2_method_16_code 5 none (ci := 11) (q := (RX11, TX11, 14)) (b := y3) (d' := 3) (av := [.int y2, .int y1, .int y0]) (rest := []) rfl dX11_tell_95 q1178 q1180 rfl qs43 q1181 can_X11_declare (Nat.le_of_ble_eq_true rfl) (Nat.le_of_ble_eq_true rfl) (ch_rts hb1) (cp_kV (w1 := p2) (fun Q' hq => s_X11_declare hp3 hq) ?_)
  obtain rfl := Option.some.inj h
  exact ch_return dX11_tell_98 rfl hk

def c_X11_tell_77 (g : State) (t0 : Nat) (x1 : Option Nat) (x2 : Int32)  (w : ch_W) : Option (Except Nat Unit × ch_W) := (ch_gI w x1 10 fX9_name).bind fun v1 => (ch_gR w x1 10 fX9_value).bind fun v2 => if v2 = none then (c_X11_tell_95 g t0 0 x2 v1 t0 w) else (c_X11_tell_95 g t0 1 x2 v1 t0 w)
theorem s_X11_tell_77 {g : State} {t0 : Nat} {x1 : Option Nat} {x2 : Int32} {w : ch_W} {res : Except Nat Unit × ch_W} {Q : Outcome → ch_W → Prop} (h : c_X11_tell_77 g t0 x1 x2 w = some res) (hk : (ch_xV Q) res) : ch_FT g true mX11_tell 711 77 [some (va_rf (some t0)), some (va_rf x1), some (.int x2)] [] (w) Q := by
  unfold c_X11_tell_77 at h
  refine ch_aload_n 0 (some t0) dX11_tell_77 rfl (ch_aload_n 1 x1 dX11_tell_78 rfl (cp_gI (ci := 9) (k := 3) dX11_tell_79 fl_X11_285 rfl h (fun v1 h => ?_)))
  refine ch_iload_n 2 _ dX11_tell_82 rfl (ch_aload_n 1 x1 dX11_tell_83 rfl (cp_gR (ci := 9) (k := 5) dX11_tell_84 fl_X11_258 rfl h (fun v2 h => ?_)))
  refine cp_ifnull v2 (tgt := 94) dX11_tell_87 rfl h (fun h => ?_) (fun h => ?_)
  · exact ch_iconst _ 0 dX11_tell_94 rfl (ch_FT.wk (ch_wN (ch_wN (ch_wN ch_w0))) (s_X11_tell_95  h hk))
  · exact ch_iconst _ 1 dX11_tell_90 rfl (ch_goto 95 dX11_tell_91 rfl (ch_FT.wk (ch_wN (ch_wN (ch_wN ch_w0))) (s_X11_tell_95  h hk)))

def c_X11_tell_35 (g : State) (t0 : Nat) (x1 : Option Nat) (x2 : Int32) (y0 : Int32) (y1 : Nat) (w : ch_W) : Option (Except Nat Unit × ch_W) := (ch_rc w (some y1) 12).bind fun _ => ch_tb (c_X11_must_2 g y1 y0 w) (fun a w => (.error a, w)) fun _ w3 => (ch_gR w3 x1 10 fX9_value).bind fun v4 => if v4 = none then (c_X11_tell_77 g t0 x1 x2 w3) else ((ch_gR w3 x1 10 fX9_value).bind fun v5 => (ch_rc w3 (some t0) 12).bind fun _ => ch_tb (cr_CE g 700 0 t0 v5 none 0 w3) (fun a w => (.error a, w)) fun v7 w8 => (ch_rc w8 (some t0) 12).bind fun _ => (c_X11_isSub t0 v7 x2 w8).bind fun v10 => (ch_rc w8 (some t0) 12).bind fun _ => ch_tb (c_X11_must_2 g t0 v10 w8) (fun a w => (.error a, w)) fun _ w14 => (ch_gR w14 (some t0) 12 fX11_names).bind fun v15 => (ch_gI w14 v15 9 fX8_size).bind fun v16 => (ch_rc w14 (some t0) 12).bind fun _ => (c_X11_add t0 19 (v16 + 1) w14).bind fun p18 => c_X11_tell_77 g t0 x1 x2 p18)
theorem s_X11_tell_35 {g : State} {t0 : Nat} {x1 : Option Nat} {x2 : Int32} {y0 : Int32} {y1 : Nat} {w : ch_W} {res : Except Nat Unit × ch_W} {Q : Outcome → ch_W → Prop} (h : c_X11_tell_35 g t0 x1 x2 y0 y1 w = some res) (hk : (ch_xV Q) res) : ch_FT g true mX11_tell 711 35 [some (va_rf (some t0)), some (va_rf x1), some (.int x2)] [.int y0, va_rf (some y1)] (w) Q := by
  unfold c_X11_tell_35 at h
  obtain ⟨_, hb1, h⟩ := ch_bd h
  refine ch_iv yX11_must_2 prog_2_method_3_code 2 none (ci := 11) (q := (RX11, TX11, 14)) (b := y1) (d' := 8) (av := [.int y0]) (rest := []) rfl dX11_tell_35 q1202 q1204 rfl qs47 q1205 can_X11_must_2 (Nat.le_of_ble_eq_true rfl) (Nat.le_of_ble_eq_true rfl) (ch_rts hb1) (cp_tV h (fun p hp Q' hq => s_X11_must_2 hp hq) (fun w3 h => ?_) (fun a w1 h => ?_))
  · refine ch_aload_n 1 x1 dX11_tell_38 rfl (cp_gR (ci := 9) (k := 5) dX11_tell_39 fl_X11_258 rfl h (fun v4 h => ?_))
    refine cp_ifnull v4 (tgt := 77) dX11_tell_42 rfl h (fun h => ?_) (fun h => ?_)
    · exact ch_FT.wk (ch_wS (ch_wS (ch_wS ch_w0))) (s_X11_tell_77  h hk)
    · refine ch_aload_n 0 (some t0) dX11_tell_45 rfl (ch_aload_n 0 (some t0) dX11_tell_46 rfl (ch_aload_n 0 (some t0) dX11_tell_47 rfl (ch_aload_n 1 x1 dX11_tell_48 rfl (cp_gR (ci := 9) (k := 5) dX11_tell_49 fl_X11_258 rfl h (fun v5 h => ?_)))))
      obtain ⟨_, hb6, h⟩ := ch_bd h
      refine ch_iv yX11_value prog_2_method_28_code 5 (some .int) (ci := 11) (q := (RX11, TX11, 14)) (b := t0) (d' := 710) (av := [va_rf v5]) (rest := [va_rf (some t0), va_rf (some t0)]) rfl dX11_tell_52 q1206 q1208 rfl qs48 q1209 can_X11_value (Nat.le_of_ble_eq_true rfl) (ch_hw (Nat.le_of_ble_eq_true rfl)) (ch_rts hb6) (cp_tI h (fun p hp Q' hq => sr_X11_value hp hq) (fun v7 w8 h => ?_) (fun a w1 h => ?_))
      · obtain ⟨_, hb9, h⟩ := ch_bd h
        obtain ⟨v10, hp11, h⟩ := ch_bd h
        refine ch_iload_n 2 _ dX11_tell_55 rfl (ch_iv yX11_isSub prog_2_method_6_code 3 (some .boolean) (ci := 11) (q := (RX11, TX11, 14)) (b := t0) (d' := 5) (av := [.int v7, .int x2]) (rest := [va_rf (some t0)]) rfl dX11_tell_56 q1234 q1236 rfl qs54 q1237 can_X11_isSub (Nat.le_of_ble_eq_true rfl) (ch_hw (Nat.le_of_ble_eq_true rfl)) (ch_rts hb9) (cp_kI (v := v10) (w1 := w8) (fun Q' hq => s_X11_isSub hp11 hq) ?_))
        obtain ⟨_, hb12, h⟩ := ch_bd h
        refine ch_iv yX11_must_2 prog_2_method_3_code 2 none (ci := 11) (q := (RX11, TX11, 14)) (b := t0) (d' := 8) (av := [.int v10]) (rest := []) rfl dX11_tell_59 q1202 q1204 rfl qs47 q1205 can_X11_must_2 (Nat.le_of_ble_eq_true rfl) (Nat.le_of_ble_eq_true rfl) (ch_rts hb12) (cp_tV h (fun p hp Q' hq => s_X11_must_2 hp hq) (fun w14 h => ?_) (fun a w1 h => ?_))
        · refine ch_aload_n 0 (some t0) dX11_tell_62 rfl (ch_bipush _ 19 dX11_tell_63 rfl (ch_aload_n 0 (some t0) dX11_tell_65 rfl (cp_gR (ci := 11) (k := 7) dX11_tell_66 fl_X11_21 rfl h (fun v15 h => ?_))))
          refine cp_gI (ci := 8) (k := 1) dX11_tell_69 fl_X11_173 rfl h (fun v16 h => ?_)
          obtain ⟨_, hb17, h⟩ := ch_bd h
          obtain ⟨p18, hp19, h⟩ := ch_bd h
          refine ch_iconst _ 1 dX11_tell_72 rfl (ch_iadd _ _ dX11_tell_73 (ch_iv yX11_add prog_2_method_14_code 3 none (ci := 11) (q := (RX11, TX11, 14)) (b := t0) (d' := 3) (av := [.int 19, .int (v16 + 1)]) (rest := []) rfl dX11_tell_74 q1214 q1216 rfl qs50 q1217 can_X11_add (Nat.le_of_ble_eq_true rfl) (Nat.le_of_ble_eq_true rfl) (ch_rts hb17) (cp_kV (w1 := p18) (fun Q' hq => s_X11_add hp19 hq) ?_)))
          exact ch_FT.wk (ch_wS (ch_wS (ch_wS ch_w0))) (s_X11_tell_77  h hk)
        · subst h
          exact ch_th rfl hk
      · subst h
        exact ch_th rfl hk
  · subst h
    exact ch_th rfl hk

def c_X11_tell_34 (g : State) (t0 : Nat) (x1 : Option Nat) (x2 : Int32) (y0 : Nat) (w : ch_W) : Option (Except Nat Unit × ch_W) := c_X11_tell_35 g t0 x1 x2 0 y0 w
theorem s_X11_tell_34 {g : State} {t0 : Nat} {x1 : Option Nat} {x2 : Int32} {y0 : Nat} {w : ch_W} {res : Except Nat Unit × ch_W} {Q : Outcome → ch_W → Prop} (h : c_X11_tell_34 g t0 x1 x2 y0 w = some res) (hk : (ch_xV Q) res) : ch_FT g true mX11_tell 711 34 [some (va_rf (some t0)), some (va_rf x1), some (.int x2)] [va_rf (some y0)] (w) Q := by
  unfold c_X11_tell_34 at h
  exact ch_iconst _ 0 dX11_tell_34 rfl (ch_FT.wk (ch_wS (ch_wS (ch_wS ch_w0))) (s_X11_tell_35  h hk))

def c_X11_tell (g : State) (t0 : Nat) (x1 : Option Nat) (w : ch_W) : Option (Except Nat Unit × ch_W) := (ch_gI w x1 10 fX9_type).bind fun v1 => (ch_rc w (some t0) 12).bind fun _ => (c_X11_typeOf t0 v1 w).bind fun v3 => if v3 = (-6) then (c_X11_tell_34 g t0 x1 v3 t0 w) else ((ch_gR w (some t0) 12 fX11_names).bind fun v5 => (ch_gI w x1 10 fX9_name).bind fun v6 => (ch_rc w v5 9).bind fun b8 => (c_X8_has b8 v6 w).bind fun v9 => if v9 = 0 then (c_X11_tell_35 g t0 x1 v3 1 t0 w) else (c_X11_tell_34 g t0 x1 v3 t0 w))
theorem s_X11_tell {g : State} {t0 : Nat} {x1 : Option Nat} {w : ch_W} {res : Except Nat Unit × ch_W} {Q : Outcome → ch_W → Prop} (h : c_X11_tell g t0 x1 w = some res) (hk : (ch_xV Q) res) : ch_CT g true yX11_tell 711 [.ref t0, va_rf x1] (w) Q := by
  unfold c_X11_tell at h
  refine ch_ctL mX11_tell (ls := [some (va_rf (some t0)), some (va_rf x1), none]) q1196 rfl (ch_lyr (r := some t0) (ch_lyr (r := x1) ch_ly0)) (Nat.le_of_ble_eq_true rfl) rfl ?_
  refine ch_aload_n 0 (some t0) dX11_tell_0 rfl (ch_aload_n 1 x1 dX11_tell_1 rfl (cp_gI (ci := 9) (k := 2) dX11_tell_2 fl_X11_284 rfl h (fun v1 h => ?_)))
  obtain ⟨_, hb2, h⟩ := ch_bd h
  obtain ⟨v3, hp4, h⟩ := ch_bd h
  refine ch_iv yX11_typeOf prog_2_method_5_code 3 (some .int) (ci := 11) (q := (RX11, TX11, 14)) (b := t0) (d' := 6) (av := [.int v1]) (rest := []) rfl dX11_tell_5 q1136 q1138 rfl qs38 q1139 can_X11_typeOf (Nat.le_of_ble_eq_true rfl) (Nat.le_of_ble_eq_true rfl) (ch_rts hb2) (cp_kI (v := v3) (w1 := w) (fun Q' hq => s_X11_typeOf hp4 hq) ?_)
  refine ch_istore_n 2 _ (ls1 := [some (va_rf (some t0)), some (va_rf x1), some (.int v3)]) dX11_tell_8 (Nat.le_of_ble_eq_true rfl) (ch_s1o rfl rfl) (ch_aload_n 0 (some t0) dX11_tell_9 rfl (ch_iload_n 2 _ dX11_tell_10 rfl (ch_bipush _ (-6) dX11_tell_11 rfl (cp_icmp_eq _ _ (tgt := 34) dX11_tell_13 rfl h (fun h => ?_) (fun h => ?_)))))
  · exact ch_FT.wk (ch_wS (ch_wS (ch_wS ch_w0))) (s_X11_tell_34  h hk)
  · refine ch_aload_n 0 (some t0) dX11_tell_16 rfl (cp_gR (ci := 11) (k := 7) dX11_tell_17 fl_X11_21 rfl h (fun v5 h => ?_))
    refine ch_aload_n 1 x1 dX11_tell_20 rfl (cp_gI (ci := 9) (k := 3) dX11_tell_21 fl_X11_285 rfl h (fun v6 h => ?_))
    obtain ⟨b8, hb7, h⟩ := ch_bd h
    obtain ⟨v9, hp10, h⟩ := ch_bd h
    refine ch_iv yX8_has prog_9_method_5_code 2 (some .boolean) (ci := 8) (q := (RX8, TX8, 2)) (b := b8) (d' := 3) (av := [.int v6]) (rest := [va_rf (some t0)]) (by rw [ch_rs hb7]; rfl) dX11_tell_24 q1197 q1198 rfl q1199 q1200 can_X8_has (Nat.le_of_ble_eq_true rfl) (ch_hw (Nat.le_of_ble_eq_true rfl)) (ch_rtg hb7) (cp_kI (v := v9) (w1 := w) (fun Q' hq => s_X8_has hp10 hq) ?_)
    refine cp_if_ne _ (tgt := 34) dX11_tell_27 rfl h (fun h => ?_) (fun h => ?_)
    · exact ch_FT.wk (ch_wS (ch_wS (ch_wS ch_w0))) (s_X11_tell_34  h hk)
    · exact ch_iconst _ 1 dX11_tell_30 rfl (ch_goto 35 dX11_tell_31 rfl (ch_FT.wk (ch_wS (ch_wS (ch_wS ch_w0))) (s_X11_tell_35  h hk)))

theorem bX11_put_0 : ch_ck cX11_put 0 [43, 180, 1, 33, 77, 44, 180, 1, 36, 7, 160, 0, 17, 42, 180, 0] := ch_ckof (by decide +kernel)
theorem bX11_put_1 : ch_ck cX11_put 16 [21, 44, 180, 1, 39, 182, 0, 178, 167, 0, 4, 2, 62, 2, 54, 5] := ch_ckof (by decide +kernel)
theorem bX11_put_2 : ch_ck cX11_put 32 [29, 155, 0, 16, 42, 180, 0, 25, 29, 182, 0, 175, 54, 4, 167, 0] := ch_ckof (by decide +kernel)
theorem bX11_put_3 : ch_ck cX11_put 48 [150, 44, 180, 1, 36, 16, 12, 160, 0, 43, 42, 42, 44, 180, 1, 42] := ch_ckof (by decide +kernel)
theorem bX11_put_4 : ch_ck cX11_put 64 [182, 1, 6, 16, 253, 160, 0, 19, 42, 44, 180, 1, 45, 182, 1, 6] := ch_ckof (by decide +kernel)
theorem bX11_put_5 : ch_ck cX11_put 80 [2, 160, 0, 7, 4, 167, 0, 4, 3, 182, 1, 18, 2, 54, 4, 167] := ch_ckof (by decide +kernel)
theorem bX11_put_6 : ch_ck cX11_put 96 [0, 101, 44, 180, 1, 36, 7, 160, 0, 13, 42, 180, 0, 199, 180, 0] := ch_ckof (by decide +kernel)
theorem bX11_put_7 : ch_ck cX11_put 112 [75, 167, 0, 11, 42, 44, 180, 1, 42, 182, 1, 6, 54, 6, 21, 6] := ch_ckof (by decide +kernel)
theorem bX11_put_8 : ch_ck cX11_put 128 [155, 0, 25, 42, 180, 0, 12, 21, 6, 182, 0, 71, 192, 0, 51, 44] := ch_ckof (by decide +kernel)
theorem bX11_put_9 : ch_ck cX11_put 144 [180, 1, 39, 182, 0, 168, 167, 0, 4, 1, 58, 7, 42, 25, 7, 198] := ch_ckof (by decide +kernel)
theorem bX11_put_10 : ch_ck cX11_put 160 [0, 7, 4, 167, 0, 4, 3, 182, 1, 18, 25, 7, 180, 0, 156, 54] := ch_ckof (by decide +kernel)
theorem bX11_put_11 : ch_ck cX11_put 176 [4, 42, 180, 0, 12, 21, 6, 182, 0, 71, 192, 0, 51, 25, 7, 182] := ch_ckof (by decide +kernel)
theorem bX11_put_12 : ch_ck cX11_put 192 [1, 48, 54, 5, 42, 42, 42, 43, 180, 1, 2, 182, 1, 6, 21, 4] := ch_ckof (by decide +kernel)
theorem bX11_put_13 : ch_ck cX11_put 208 [182, 1, 15, 182, 1, 18, 29, 155, 0, 22, 42, 16, 19, 29, 4, 96] := ch_ckof (by decide +kernel)
theorem bX11_put_14 : ch_ck cX11_put 224 [182, 0, 247, 42, 180, 0, 28, 29, 4, 84, 167, 0, 42, 44, 180, 1] := ch_ckof (by decide +kernel)
theorem bX11_put_15 : ch_ck cX11_put 240 [36, 16, 12, 160, 0, 12, 42, 16, 22, 182, 0, 221, 167, 0, 24, 42] := ch_ckof (by decide +kernel)
theorem bX11_put_16 : ch_ck cX11_put 256 [44, 180, 1, 36, 7, 160, 0, 8, 16, 20, 167, 0, 5, 16, 21, 21] := ch_ckof (by decide +kernel)
theorem bX11_put_17 : ch_ck cX11_put 272 [5, 182, 0, 247, 177] := ch_ckof (by decide +kernel)
theorem dX11_put_0 : decode cX11_put 0 = .ok (.aload_n 1, 1) := dz_43 (bX11_put_0 0 _ rfl)
theorem dX11_put_1 : decode cX11_put 1 = .ok (.getfield 289, 3) := dz_180 (bX11_put_0 1 _ rfl) (bX11_put_0 2 _ rfl) (bX11_put_0 3 _ rfl)
theorem dX11_put_4 : decode cX11_put 4 = .ok (.astore_n 2, 1) := dz_77 (bX11_put_0 4 _ rfl)
theorem dX11_put_5 : decode cX11_put 5 = .ok (.aload_n 2, 1) := dz_44 (bX11_put_0 5 _ rfl)
theorem dX11_put_6 : decode cX11_put 6 = .ok (.getfield 292, 3) := dz_180 (bX11_put_0 6 _ rfl) (bX11_put_0 7 _ rfl) (bX11_put_0 8 _ rfl)
theorem dX11_put_9 : decode cX11_put 9 = .ok (.iconst 4, 1) := dz_7 (bX11_put_0 9 _ rfl)
theorem dX11_put_10 : decode cX11_put 10 = .ok (.if_icmp .ne 17, 3) := dz_160 (bX11_put_0 10 _ rfl) (bX11_put_0 11 _ rfl) (bX11_put_0 12 _ rfl)
theorem dX11_put_13 : decode cX11_put 13 = .ok (.aload_n 0, 1) := dz_42 (bX11_put_0 13 _ rfl)
theorem dX11_put_14 : decode cX11_put 14 = .ok (.getfield 21, 3) := dz_180 (bX11_put_0 14 _ rfl) (bX11_put_0 15 _ rfl) (bX11_put_1 0 _ rfl)
theorem dX11_put_17 : decode cX11_put 17 = .ok (.aload_n 2, 1) := dz_44 (bX11_put_1 1 _ rfl)
theorem dX11_put_18 : decode cX11_put 18 = .ok (.getfield 295, 3) := dz_180 (bX11_put_1 2 _ rfl) (bX11_put_1 3 _ rfl) (bX11_put_1 4 _ rfl)
theorem dX11_put_21 : decode cX11_put 21 = .ok (.invokevirtual 178, 3) := dz_182 (bX11_put_1 5 _ rfl) (bX11_put_1 6 _ rfl) (bX11_put_1 7 _ rfl)
theorem dX11_put_24 : decode cX11_put 24 = .ok (.goto 4, 3) := dz_167 (bX11_put_1 8 _ rfl) (bX11_put_1 9 _ rfl) (bX11_put_1 10 _ rfl)
theorem dX11_put_27 : decode cX11_put 27 = .ok (.iconst (-1), 1) := dz_2 (bX11_put_1 11 _ rfl)
theorem dX11_put_28 : decode cX11_put 28 = .ok (.istore_n 3, 1) := dz_62 (bX11_put_1 12 _ rfl)
theorem dX11_put_29 : decode cX11_put 29 = .ok (.iconst (-1), 1) := dz_2 (bX11_put_1 13 _ rfl)
theorem dX11_put_30 : decode cX11_put 30 = .ok (.istore 5, 2) := dz_54 (bX11_put_1 14 _ rfl) (bX11_put_1 15 _ rfl)
theorem dX11_put_32 : decode cX11_put 32 = .ok (.iload_n 3, 1) := dz_29 (bX11_put_2 0 _ rfl)
theorem dX11_put_33 : decode cX11_put 33 = .ok (.ifCond .lt 16, 3) := dz_155 (bX11_put_2 1 _ rfl) (bX11_put_2 2 _ rfl) (bX11_put_2 3 _ rfl)
theorem dX11_put_36 : decode cX11_put 36 = .ok (.aload_n 0, 1) := dz_42 (bX11_put_2 4 _ rfl)
theorem dX11_put_37 : decode cX11_put 37 = .ok (.getfield 25, 3) := dz_180 (bX11_put_2 5 _ rfl) (bX11_put_2 6 _ rfl) (bX11_put_2 7 _ rfl)
theorem dX11_put_40 : decode cX11_put 40 = .ok (.iload_n 3, 1) := dz_29 (bX11_put_2 8 _ rfl)
theorem dX11_put_41 : decode cX11_put 41 = .ok (.invokevirtual 175, 3) := dz_182 (bX11_put_2 9 _ rfl) (bX11_put_2 10 _ rfl) (bX11_put_2 11 _ rfl)
theorem dX11_put_44 : decode cX11_put 44 = .ok (.istore 4, 2) := dz_54 (bX11_put_2 12 _ rfl) (bX11_put_2 13 _ rfl)
theorem dX11_put_46 : decode cX11_put 46 = .ok (.goto 150, 3) := dz_167 (bX11_put_2 14 _ rfl) (bX11_put_2 15 _ rfl) (bX11_put_3 0 _ rfl)
theorem dX11_put_49 : decode cX11_put 49 = .ok (.aload_n 2, 1) := dz_44 (bX11_put_3 1 _ rfl)
theorem dX11_put_50 : decode cX11_put 50 = .ok (.getfield 292, 3) := dz_180 (bX11_put_3 2 _ rfl) (bX11_put_3 3 _ rfl) (bX11_put_3 4 _ rfl)
theorem dX11_put_53 : decode cX11_put 53 = .ok (.bipush 12, 2) := dz_16 (bX11_put_3 5 _ rfl) (bX11_put_3 6 _ rfl)
theorem dX11_put_55 : decode cX11_put 55 = .ok (.if_icmp .ne 43, 3) := dz_160 (bX11_put_3 7 _ rfl) (bX11_put_3 8 _ rfl) (bX11_put_3 9 _ rfl)
theorem dX11_put_58 : decode cX11_put 58 = .ok (.aload_n 0, 1) := dz_42 (bX11_put_3 10 _ rfl)
theorem dX11_put_59 : decode cX11_put 59 = .ok (.aload_n 0, 1) := dz_42 (bX11_put_3 11 _ rfl)
theorem dX11_put_60 : decode cX11_put 60 = .ok (.aload_n 2, 1) := dz_44 (bX11_put_3 12 _ rfl)
theorem dX11_put_61 : decode cX11_put 61 = .ok (.getfield 298, 3) := dz_180 (bX11_put_3 13 _ rfl) (bX11_put_3 14 _ rfl) (bX11_put_3 15 _ rfl)
theorem dX11_put_64 : decode cX11_put 64 = .ok (.invokevirtual 262, 3) := dz_182 (bX11_put_4 0 _ rfl) (bX11_put_4 1 _ rfl) (bX11_put_4 2 _ rfl)
theorem dX11_put_67 : decode cX11_put 67 = .ok (.bipush (-3), 2) := dz_16 (bX11_put_4 3 _ rfl) (bX11_put_4 4 _ rfl)
theorem dX11_put_69 : decode cX11_put 69 = .ok (.if_icmp .ne 19, 3) := dz_160 (bX11_put_4 5 _ rfl) (bX11_put_4 6 _ rfl) (bX11_put_4 7 _ rfl)
theorem dX11_put_72 : decode cX11_put 72 = .ok (.aload_n 0, 1) := dz_42 (bX11_put_4 8 _ rfl)
theorem dX11_put_73 : decode cX11_put 73 = .ok (.aload_n 2, 1) := dz_44 (bX11_put_4 9 _ rfl)
theorem dX11_put_74 : decode cX11_put 74 = .ok (.getfield 301, 3) := dz_180 (bX11_put_4 10 _ rfl) (bX11_put_4 11 _ rfl) (bX11_put_4 12 _ rfl)
theorem dX11_put_77 : decode cX11_put 77 = .ok (.invokevirtual 262, 3) := dz_182 (bX11_put_4 13 _ rfl) (bX11_put_4 14 _ rfl) (bX11_put_4 15 _ rfl)
theorem dX11_put_80 : decode cX11_put 80 = .ok (.iconst (-1), 1) := dz_2 (bX11_put_5 0 _ rfl)
theorem dX11_put_81 : decode cX11_put 81 = .ok (.if_icmp .ne 7, 3) := dz_160 (bX11_put_5 1 _ rfl) (bX11_put_5 2 _ rfl) (bX11_put_5 3 _ rfl)
theorem dX11_put_84 : decode cX11_put 84 = .ok (.iconst 1, 1) := dz_4 (bX11_put_5 4 _ rfl)
theorem dX11_put_85 : decode cX11_put 85 = .ok (.goto 4, 3) := dz_167 (bX11_put_5 5 _ rfl) (bX11_put_5 6 _ rfl) (bX11_put_5 7 _ rfl)
theorem dX11_put_88 : decode cX11_put 88 = .ok (.iconst 0, 1) := dz_3 (bX11_put_5 8 _ rfl)
theorem dX11_put_89 : decode cX11_put 89 = .ok (.invokevirtual 274, 3) := dz_182 (bX11_put_5 9 _ rfl) (bX11_put_5 10 _ rfl) (bX11_put_5 11 _ rfl)
theorem dX11_put_92 : decode cX11_put 92 = .ok (.iconst (-1), 1) := dz_2 (bX11_put_5 12 _ rfl)
theorem dX11_put_93 : decode cX11_put 93 = .ok (.istore 4, 2) := dz_54 (bX11_put_5 13 _ rfl) (bX11_put_5 14 _ rfl)
theorem dX11_put_95 : decode cX11_put 95 = .ok (.goto 101, 3) := dz_167 (bX11_put_5 15 _ rfl) (bX11_put_6 0 _ rfl) (bX11_put_6 1 _ rfl)
theorem dX11_put_98 : decode cX11_put 98 = .ok (.aload_n 2, 1) := dz_44 (bX11_put_6 2 _ rfl)
theorem dX11_put_99 : decode cX11_put 99 = .ok (.getfield 292, 3) := dz_180 (bX11_put_6 3 _ rfl) (bX11_put_6 4 _ rfl) (bX11_put_6 5 _ rfl)
theorem dX11_put_102 : decode cX11_put 102 = .ok (.iconst 4, 1) := dz_7 (bX11_put_6 6 _ rfl)
theorem dX11_put_103 : decode cX11_put 103 = .ok (.if_icmp .ne 13, 3) := dz_160 (bX11_put_6 7 _ rfl) (bX11_put_6 8 _ rfl) (bX11_put_6 9 _ rfl)
theorem dX11_put_106 : decode cX11_put 106 = .ok (.aload_n 0, 1) := dz_42 (bX11_put_6 10 _ rfl)
theorem dX11_put_107 : decode cX11_put 107 = .ok (.getfield 199, 3) := dz_180 (bX11_put_6 11 _ rfl) (bX11_put_6 12 _ rfl) (bX11_put_6 13 _ rfl)
theorem dX11_put_110 : decode cX11_put 110 = .ok (.getfield 75, 3) := dz_180 (bX11_put_6 14 _ rfl) (bX11_put_6 15 _ rfl) (bX11_put_7 0 _ rfl)
theorem dX11_put_113 : decode cX11_put 113 = .ok (.goto 11, 3) := dz_167 (bX11_put_7 1 _ rfl) (bX11_put_7 2 _ rfl) (bX11_put_7 3 _ rfl)
theorem dX11_put_116 : decode cX11_put 116 = .ok (.aload_n 0, 1) := dz_42 (bX11_put_7 4 _ rfl)
theorem dX11_put_117 : decode cX11_put 117 = .ok (.aload_n 2, 1) := dz_44 (bX11_put_7 5 _ rfl)
theorem dX11_put_118 : decode cX11_put 118 = .ok (.getfield 298, 3) := dz_180 (bX11_put_7 6 _ rfl) (bX11_put_7 7 _ rfl) (bX11_put_7 8 _ rfl)
theorem dX11_put_121 : decode cX11_put 121 = .ok (.invokevirtual 262, 3) := dz_182 (bX11_put_7 9 _ rfl) (bX11_put_7 10 _ rfl) (bX11_put_7 11 _ rfl)
theorem dX11_put_124 : decode cX11_put 124 = .ok (.istore 6, 2) := dz_54 (bX11_put_7 12 _ rfl) (bX11_put_7 13 _ rfl)
theorem dX11_put_126 : decode cX11_put 126 = .ok (.iload 6, 2) := dz_21 (bX11_put_7 14 _ rfl) (bX11_put_7 15 _ rfl)
theorem dX11_put_128 : decode cX11_put 128 = .ok (.ifCond .lt 25, 3) := dz_155 (bX11_put_8 0 _ rfl) (bX11_put_8 1 _ rfl) (bX11_put_8 2 _ rfl)
theorem dX11_put_131 : decode cX11_put 131 = .ok (.aload_n 0, 1) := dz_42 (bX11_put_8 3 _ rfl)
theorem dX11_put_132 : decode cX11_put 132 = .ok (.getfield 12, 3) := dz_180 (bX11_put_8 4 _ rfl) (bX11_put_8 5 _ rfl) (bX11_put_8 6 _ rfl)
theorem dX11_put_135 : decode cX11_put 135 = .ok (.iload 6, 2) := dz_21 (bX11_put_8 7 _ rfl) (bX11_put_8 8 _ rfl)
theorem dX11_put_137 : decode cX11_put 137 = .ok (.invokevirtual 71, 3) := dz_182 (bX11_put_8 9 _ rfl) (bX11_put_8 10 _ rfl) (bX11_put_8 11 _ rfl)
theorem dX11_put_140 : decode cX11_put 140 = .ok (.checkcast 51, 3) := dz_192 (bX11_put_8 12 _ rfl) (bX11_put_8 13 _ rfl) (bX11_put_8 14 _ rfl)
theorem dX11_put_143 : decode cX11_put 143 = .ok (.aload_n 2, 1) := dz_44 (bX11_put_8 15 _ rfl)
theorem dX11_put_144 : decode cX11_put 144 = .ok (.getfield 295, 3) := dz_180 (bX11_put_9 0 _ rfl) (bX11_put_9 1 _ rfl) (bX11_put_9 2 _ rfl)
theorem dX11_put_147 : decode cX11_put 147 = .ok (.invokevirtual 168, 3) := dz_182 (bX11_put_9 3 _ rfl) (bX11_put_9 4 _ rfl) (bX11_put_9 5 _ rfl)
theorem dX11_put_150 : decode cX11_put 150 = .ok (.goto 4, 3) := dz_167 (bX11_put_9 6 _ rfl) (bX11_put_9 7 _ rfl) (bX11_put_9 8 _ rfl)
theorem dX11_put_153 : decode cX11_put 153 = .ok (.aconst_null, 1) := dz_1 (bX11_put_9 9 _ rfl)
theorem dX11_put_154 : decode cX11_put 154 = .ok (.astore 7, 2) := dz_58 (bX11_put_9 10 _ rfl) (bX11_put_9 11 _ rfl)
theorem dX11_put_156 : decode cX11_put 156 = .ok (.aload_n 0, 1) := dz_42 (bX11_put_9 12 _ rfl)
theorem dX11_put_157 : decode cX11_put 157 = .ok (.aload 7, 2) := dz_25 (bX11_put_9 13 _ rfl) (bX11_put_9 14 _ rfl)
theorem dX11_put_159 : decode cX11_put 159 = .ok (.ifnull 7, 3) := dz_198 (bX11_put_9 15 _ rfl) (bX11_put_10 0 _ rfl) (bX11_put_10 1 _ rfl)
theorem dX11_put_162 : decode cX11_put 162 = .ok (.iconst 1, 1) := dz_4 (bX11_put_10 2 _ rfl)
theorem dX11_put_163 : decode cX11_put 163 = .ok (.goto 4, 3) := dz_167 (bX11_put_10 3 _ rfl) (bX11_put_10 4 _ rfl) (bX11_put_10 5 _ rfl)
theorem dX11_put_166 : decode cX11_put 166 = .ok (.iconst 0, 1) := dz_3 (bX11_put_10 6 _ rfl)
theorem dX11_put_167 : decode cX11_put 167 = .ok (.invokevirtual 274, 3) := dz_182 (bX11_put_10 7 _ rfl) (bX11_put_10 8 _ rfl) (bX11_put_10 9 _ rfl)
theorem dX11_put_170 : decode cX11_put 170 = .ok (.aload 7, 2) := dz_25 (bX11_put_10 10 _ rfl) (bX11_put_10 11 _ rfl)
theorem dX11_put_172 : decode cX11_put 172 = .ok (.getfield 156, 3) := dz_180 (bX11_put_10 12 _ rfl) (bX11_put_10 13 _ rfl) (bX11_put_10 14 _ rfl)
theorem dX11_put_175 : decode cX11_put 175 = .ok (.istore 4, 2) := dz_54 (bX11_put_10 15 _ rfl) (bX11_put_11 0 _ rfl)
theorem dX11_put_177 : decode cX11_put 177 = .ok (.aload_n 0, 1) := dz_42 (bX11_put_11 1 _ rfl)
theorem dX11_put_178 : decode cX11_put 178 = .ok (.getfield 12, 3) := dz_180 (bX11_put_11 2 _ rfl) (bX11_put_11 3 _ rfl) (bX11_put_11 4 _ rfl)
theorem dX11_put_181 : decode cX11_put 181 = .ok (.iload 6, 2) := dz_21 (bX11_put_11 5 _ rfl) (bX11_put_11 6 _ rfl)
theorem dX11_put_183 : decode cX11_put 183 = .ok (.invokevirtual 71, 3) := dz_182 (bX11_put_11 7 _ rfl) (bX11_put_11 8 _ rfl) (bX11_put_11 9 _ rfl)
theorem dX11_put_186 : decode cX11_put 186 = .ok (.checkcast 51, 3) := dz_192 (bX11_put_11 10 _ rfl) (bX11_put_11 11 _ rfl) (bX11_put_11 12 _ rfl)
theorem dX11_put_189 : decode cX11_put 189 = .ok (.aload 7, 2) := dz_25 (bX11_put_11 13 _ rfl) (bX11_put_11 14 _ rfl)
theorem dX11_put_191 : decode cX11_put 191 = .ok (.invokevirtual 304, 3) := dz_182 (bX11_put_11 15 _ rfl) (bX11_put_12 0 _ rfl) (bX11_put_12 1 _ rfl)
theorem dX11_put_194 : decode cX11_put 194 = .ok (.istore 5, 2) := dz_54 (bX11_put_12 2 _ rfl) (bX11_put_12 3 _ rfl)
theorem dX11_put_196 : decode cX11_put 196 = .ok (.aload_n 0, 1) := dz_42 (bX11_put_12 4 _ rfl)
theorem dX11_put_197 : decode cX11_put 197 = .ok (.aload_n 0, 1) := dz_42 (bX11_put_12 5 _ rfl)
theorem dX11_put_198 : decode cX11_put 198 = .ok (.aload_n 0, 1) := dz_42 (bX11_put_12 6 _ rfl)
theorem dX11_put_199 : decode cX11_put 199 = .ok (.aload_n 1, 1) := dz_43 (bX11_put_12 7 _ rfl)
theorem dX11_put_200 : decode cX11_put 200 = .ok (.getfield 258, 3) := dz_180 (bX11_put_12 8 _ rfl) (bX11_put_12 9 _ rfl) (bX11_put_12 10 _ rfl)
theorem dX11_put_203 : decode cX11_put 203 = .ok (.invokevirtual 262, 3) := dz_182 (bX11_put_12 11 _ rfl) (bX11_put_12 12 _ rfl) (bX11_put_12 13 _ rfl)
theorem dX11_put_206 : decode cX11_put 206 = .ok (.iload 4, 2) := dz_21 (bX11_put_12 14 _ rfl) (bX11_put_12 15 _ rfl)
theorem dX11_put_208 : decode cX11_put 208 = .ok (.invokevirtual 271, 3) := dz_182 (bX11_put_13 0 _ rfl) (bX11_put_13 1 _ rfl) (bX11_put_13 2 _ rfl)
theorem dX11_put_211 : decode cX11_put 211 = .ok (.invokevirtual 274, 3) := dz_182 (bX11_put_13 3 _ rfl) (bX11_put_13 4 _ rfl) (bX11_put_13 5 _ rfl)
theorem dX11_put_214 : decode cX11_put 214 = .ok (.iload_n 3, 1) := dz_29 (bX11_put_13 6 _ rfl)
theorem dX11_put_215 : decode cX11_put 215 = .ok (.ifCond .lt 22, 3) := dz_155 (bX11_put_13 7 _ rfl) (bX11_put_13 8 _ rfl) (bX11_put_13 9 _ rfl)
theorem dX11_put_218 : decode cX11_put 218 = .ok (.aload_n 0, 1) := dz_42 (bX11_put_13 10 _ rfl)
theorem dX11_put_219 : decode cX11_put 219 = .ok (.bipush 19, 2) := dz_16 (bX11_put_13 11 _ rfl) (bX11_put_13 12 _ rfl)
theorem dX11_put_221 : decode cX11_put 221 = .ok (.iload_n 3, 1) := dz_29 (bX11_put_13 13 _ rfl)
theorem dX11_put_222 : decode cX11_put 222 = .ok (.iconst 1, 1) := dz_4 (bX11_put_13 14 _ rfl)
theorem dX11_put_223 : decode cX11_put 223 = .ok (.iadd, 1) := dz_96 (bX11_put_13 15 _ rfl)
theorem dX11_put_224 : decode cX11_put 224 = .ok (.invokevirtual 247, 3) := dz_182 (bX11_put_14 0 _ rfl) (bX11_put_14 1 _ rfl) (bX11_put_14 2 _ rfl)
theorem dX11_put_227 : decode cX11_put 227 = .ok (.aload_n 0, 1) := dz_42 (bX11_put_14 3 _ rfl)
theorem dX11_put_228 : decode cX11_put 228 = .ok (.getfield 28, 3) := dz_180 (bX11_put_14 4 _ rfl) (bX11_put_14 5 _ rfl) (bX11_put_14 6 _ rfl)
theorem dX11_put_231 : decode cX11_put 231 = .ok (.iload_n 3, 1) := dz_29 (bX11_put_14 7 _ rfl)
theorem dX11_put_232 : decode cX11_put 232 = .ok (.iconst 1, 1) := dz_4 (bX11_put_14 8 _ rfl)
theorem dX11_put_233 : decode cX11_put 233 = .ok (.bastore, 1) := dz_84 (bX11_put_14 9 _ rfl)
theorem dX11_put_234 : decode cX11_put 234 = .ok (.goto 42, 3) := dz_167 (bX11_put_14 10 _ rfl) (bX11_put_14 11 _ rfl) (bX11_put_14 12 _ rfl)
theorem dX11_put_237 : decode cX11_put 237 = .ok (.aload_n 2, 1) := dz_44 (bX11_put_14 13 _ rfl)
theorem dX11_put_238 : decode cX11_put 238 = .ok (.getfield 292, 3) := dz_180 (bX11_put_14 14 _ rfl) (bX11_put_14 15 _ rfl) (bX11_put_15 0 _ rfl)
theorem dX11_put_241 : decode cX11_put 241 = .ok (.bipush 12, 2) := dz_16 (bX11_put_15 1 _ rfl) (bX11_put_15 2 _ rfl)
theorem dX11_put_243 : decode cX11_put 243 = .ok (.if_icmp .ne 12, 3) := dz_160 (bX11_put_15 3 _ rfl) (bX11_put_15 4 _ rfl) (bX11_put_15 5 _ rfl)
theorem dX11_put_246 : decode cX11_put 246 = .ok (.aload_n 0, 1) := dz_42 (bX11_put_15 6 _ rfl)
theorem dX11_put_247 : decode cX11_put 247 = .ok (.bipush 22, 2) := dz_16 (bX11_put_15 7 _ rfl) (bX11_put_15 8 _ rfl)
theorem dX11_put_249 : decode cX11_put 249 = .ok (.invokevirtual 221, 3) := dz_182 (bX11_put_15 9 _ rfl) (bX11_put_15 10 _ rfl) (bX11_put_15 11 _ rfl)
theorem dX11_put_252 : decode cX11_put 252 = .ok (.goto 24, 3) := dz_167 (bX11_put_15 12 _ rfl) (bX11_put_15 13 _ rfl) (bX11_put_15 14 _ rfl)
theorem dX11_put_255 : decode cX11_put 255 = .ok (.aload_n 0, 1) := dz_42 (bX11_put_15 15 _ rfl)
theorem dX11_put_256 : decode cX11_put 256 = .ok (.aload_n 2, 1) := dz_44 (bX11_put_16 0 _ rfl)
theorem dX11_put_257 : decode cX11_put 257 = .ok (.getfield 292, 3) := dz_180 (bX11_put_16 1 _ rfl) (bX11_put_16 2 _ rfl) (bX11_put_16 3 _ rfl)
theorem dX11_put_260 : decode cX11_put 260 = .ok (.iconst 4, 1) := dz_7 (bX11_put_16 4 _ rfl)
theorem dX11_put_261 : decode cX11_put 261 = .ok (.if_icmp .ne 8, 3) := dz_160 (bX11_put_16 5 _ rfl) (bX11_put_16 6 _ rfl) (bX11_put_16 7 _ rfl)
theorem dX11_put_264 : decode cX11_put 264 = .ok (.bipush 20, 2) := dz_16 (bX11_put_16 8 _ rfl) (bX11_put_16 9 _ rfl)
theorem dX11_put_266 : decode cX11_put 266 = .ok (.goto 5, 3) := dz_167 (bX11_put_16 10 _ rfl) (bX11_put_16 11 _ rfl) (bX11_put_16 12 _ rfl)
theorem dX11_put_269 : decode cX11_put 269 = .ok (.bipush 21, 2) := dz_16 (bX11_put_16 13 _ rfl) (bX11_put_16 14 _ rfl)
theorem dX11_put_271 : decode cX11_put 271 = .ok (.iload 5, 2) := dz_21 (bX11_put_16 15 _ rfl) (bX11_put_17 0 _ rfl)
theorem dX11_put_273 : decode cX11_put 273 = .ok (.invokevirtual 247, 3) := dz_182 (bX11_put_17 1 _ rfl) (bX11_put_17 2 _ rfl) (bX11_put_17 3 _ rfl)
theorem dX11_put_276 : decode cX11_put 276 = .ok (.return_, 1) := dz_177 (bX11_put_17 4 _ rfl)
def c_X11_put_271 (g : State) (t0 : Nat) (x5 : Int32) (y0 : Int32) (y1 : Nat) (w : ch_W) : Option (Except Nat Unit × ch_W) := (ch_rc w (some y1) 12).bind fun _ => (c_X11_add y1 y0 x5 w).bind fun p2 => some ((.ok (), p2))
theorem s_X11_put_271 {g : State} {t0 : Nat} {x5 : Int32} {y0 : Int32} {y1 : Nat} {w : ch_W} {res : Except Nat Unit × ch_W} {Q : Outcome → ch_W → Prop} (h : c_X11_put_271 g t0 x5 y0 y1 w = some res) (hk : (ch_xV Q) res) : ch_FT g true mX11_put 711 271 [none, none, none, none, none, some (.int x5), none, none] [.int y0, va_rf (some y1)] (w) Q := by
  unfold c_X11_put_271 at h
  obtain ⟨_, hb1, h⟩ := ch_bd h
  obtain ⟨p2, hp3, h⟩ := ch_bd h
  refine ch_iload 5 _ dX11_put_271 rfl (ch_iv yX11_add prog_2_method_14_code 3 none (ci := 11) (q := (RX11, TX11, 14)) (b := y1) (d' := 3) (av := [.int y0, .int x5]) (rest := []) rfl dX11_put_273 q1214 q1216 rfl qs50 q1217 can_X11_add (Nat.le_of_ble_eq_true rfl) (Nat.le_of_ble_eq_true rfl) (ch_rts hb1) (cp_kV (w1 := p2) (fun Q' hq => s_X11_add hp3 hq) ?_))
  obtain rfl := Option.some.inj h
  exact ch_return dX11_put_276 rfl hk

def c_X11_put_196 (g : State) (t0 : Nat) (x1 : Option Nat) (x2 : Option Nat) (x3 : Int32) (x4 : Int32) (x5 : Int32)  (w : ch_W) : Option (Except Nat Unit × ch_W) := (ch_gR w x1 10 fX9_value).bind fun v1 => (ch_rc w (some t0) 12).bind fun _ => ch_tb (cr_CE g 700 0 t0 v1 none 0 w) (fun a w => (.error a, w)) fun v3 w4 => (ch_rc w4 (some t0) 12).bind fun _ => (c_X11_isSub t0 v3 x4 w4).bind fun v6 => (ch_rc w4 (some t0) 12).bind fun _ => ch_tb (c_X11_must_2 g t0 v6 w4) (fun a w => (.error a, w)) fun _ w10 => if x3 < 0 then ((ch_gI w10 x2 11 fX10_kind).bind fun v11 => if v11 = 12 then ((ch_rc w10 (some t0) 12).bind fun _ => (c_X11_add_2 t0 22 w10).bind fun p14 => some ((.ok (), p14))) else ((ch_gI w10 x2 11 fX10_kind).bind fun v12 => if v12 = 4 then (c_X11_put_271 g t0 x5 20 t0 w10) else (c_X11_put_271 g t0 x5 21 t0 w10))) else ((ch_rc w10 (some t0) 12).bind fun _ => (c_X11_add t0 19 (x3 + 1) w10).bind fun p17 => (ch_gR p17 (some t0) 12 fX11_set).bind fun v19 => (ch_bit 1).bind fun _ => (ch_wI p17 v19 23 x3 1).bind fun w20 => some ((.ok (), w20)))
theorem s_X11_put_196 {g : State} {t0 : Nat} {x1 : Option Nat} {x2 : Option Nat} {x3 : Int32} {x4 : Int32} {x5 : Int32} {w : ch_W} {res : Except Nat Unit × ch_W} {Q : Outcome → ch_W → Prop} (h : c_X11_put_196 g t0 x1 x2 x3 x4 x5 w = some res) (hk : (ch_xV Q) res) : ch_FT g true mX11_put 711 196 [some (va_rf (some t0)), some (va_rf x1), some (va_rf x2), some (.int x3), some (.int x4), some (.int x5), none, none] [] (w) Q := by
  unfold c_X11_put_196 at h
  refine ch_aload_n 0 (some t0) dX11_put_196 rfl (ch_aload_n 0 (some t0) dX11_put_197 rfl (ch_aload_n 0 (some t0) dX11_put_198 rfl (ch_aload_n 1 x1 dX11_put_199 rfl (cp_gR (ci := 9) (k := 5) dX11_put_200 fl_X11_258 rfl h (fun v1 h => ?_)))))
  obtain ⟨_, hb2, h⟩ := ch_bd h
  refine ch_iv yX11_value prog_2_method_28_code 5 (some .int) (ci := 11) (q := (RX11, TX11, 14)) (b := t0) (d' := 710) (av := [va_rf v1]) (rest := [va_rf (some t0), va_rf (some t0)]) rfl dX11_put_203 q1206 q1208 rfl qs48 q1209 can_X11_value (Nat.le_of_ble_eq_true rfl) (ch_hw (Nat.le_of_ble_eq_true rfl)) (ch_rts hb2) (cp_tI h (fun p hp Q' hq => sr_X11_value hp hq) (fun v3 w4 h => ?_) (fun a w1 h => ?_))
  · obtain ⟨_, hb5, h⟩ := ch_bd h
    obtain ⟨v6, hp7, h⟩ := ch_bd h
    refine ch_iload 4 _ dX11_put_206 rfl (ch_iv yX11_isSub prog_2_method_6_code 3 (some .boolean) (ci := 11) (q := (RX11, TX11, 14)) (b := t0) (d' := 5) (av := [.int v3, .int x4]) (rest := [va_rf (some t0)]) rfl dX11_put_208 q1234 q1236 rfl qs54 q1237 can_X11_isSub (Nat.le_of_ble_eq_true rfl) (ch_hw (Nat.le_of_ble_eq_true rfl)) (ch_rts hb5) (cp_kI (v := v6) (w1 := w4) (fun Q' hq => s_X11_isSub hp7 hq) ?_))
    obtain ⟨_, hb8, h⟩ := ch_bd h
    refine ch_iv yX11_must_2 prog_2_method_3_code 2 none (ci := 11) (q := (RX11, TX11, 14)) (b := t0) (d' := 8) (av := [.int v6]) (rest := []) rfl dX11_put_211 q1202 q1204 rfl qs47 q1205 can_X11_must_2 (Nat.le_of_ble_eq_true rfl) (Nat.le_of_ble_eq_true rfl) (ch_rts hb8) (cp_tV h (fun p hp Q' hq => s_X11_must_2 hp hq) (fun w10 h => ?_) (fun a w1 h => ?_))
    · refine ch_iload_n 3 _ dX11_put_214 rfl (cp_if_lt _ (tgt := 237) dX11_put_215 rfl h (fun h => ?_) (fun h => ?_))
      · refine ch_aload_n 2 x2 dX11_put_237 rfl (cp_gI (ci := 10) (k := 0) dX11_put_238 fl_X11_292 rfl h (fun v11 h => ?_))
        refine ch_bipush _ 12 dX11_put_241 rfl (cp_icmp_ne _ _ (tgt := 255) dX11_put_243 rfl h (fun h => ?_) (fun h => ?_))
        · refine ch_aload_n 0 (some t0) dX11_put_255 rfl (ch_aload_n 2 x2 dX11_put_256 rfl (cp_gI (ci := 10) (k := 0) dX11_put_257 fl_X11_292 rfl h (fun v12 h => ?_)))
          refine ch_iconst _ 4 dX11_put_260 rfl (cp_icmp_ne _ _ (tgt := 269) dX11_put_261 rfl h (fun h => ?_) (fun h => ?_))
          · exact ch_bipush _ 21 dX11_put_269 rfl (ch_FT.wk (ch_wN (ch_wN (ch_wN (ch_wN (ch_wN (ch_wS (ch_wN (ch_wN ch_w0)))))))) (s_X11_put_271  h hk))
          · exact ch_bipush _ 20 dX11_put_264 rfl (ch_goto 271 dX11_put_266 rfl (ch_FT.wk (ch_wN (ch_wN (ch_wN (ch_wN (ch_wN (ch_wS (ch_wN (ch_wN ch_w0)))))))) (s_X11_put_271  h hk)))
        · obtain ⟨_, hb13, h⟩ := ch_bd h
          obtain ⟨p14, hp15, h⟩ := ch_bd h
          refine ch_aload_n 0 (some t0) dX11_put_246 rfl (ch_bipush _ 22 dX11_put_247 rfl (ch_iv yX11_add_2 prog_2_method_13_code 2 none (ci := 11) (q := (RX11, TX11, 14)) (b := t0) (d' := 3) (av := [.int 22]) (rest := []) rfl dX11_put_249 q1218 q1220 rfl qs51 q1221 can_X11_add_2 (Nat.le_of_ble_eq_true rfl) (Nat.le_of_ble_eq_true rfl) (ch_rts hb13) (cp_kV (w1 := p14) (fun Q' hq => s_X11_add_2 hp15 hq) ?_)))
          obtain rfl := Option.some.inj h
          exact ch_goto 276 dX11_put_252 rfl (ch_return dX11_put_276 rfl hk)
      · obtain ⟨_, hb16, h⟩ := ch_bd h
        obtain ⟨p17, hp18, h⟩ := ch_bd h
        refine ch_aload_n 0 (some t0) dX11_put_218 rfl (ch_bipush _ 19 dX11_put_219 rfl (ch_iload_n 3 _ dX11_put_221 rfl (ch_iconst _ 1 dX11_put_222 rfl (ch_iadd _ _ dX11_put_223 (ch_iv yX11_add prog_2_method_14_code 3 none (ci := 11) (q := (RX11, TX11, 14)) (b := t0) (d' := 3) (av := [.int 19, .int (x3 + 1)]) (rest := []) rfl dX11_put_224 q1214 q1216 rfl qs50 q1217 can_X11_add (Nat.le_of_ble_eq_true rfl) (Nat.le_of_ble_eq_true rfl) (ch_rts hb16) (cp_kV (w1 := p17) (fun Q' hq => s_X11_add hp18 hq) ?_))))))
        refine ch_aload_n 0 (some t0) dX11_put_227 rfl (cp_gR (ci := 11) (k := 9) dX11_put_228 fl_X11_28 rfl h (fun v19 h => ?_))
        refine ch_iload_n 3 _ dX11_put_231 rfl (ch_iconst _ 1 dX11_put_232 rfl (cp_zast (t := 23) dX11_put_233 rfl (Nat.le_of_ble_eq_true rfl) rfl h (fun w20 h => ?_)))
        obtain rfl := Option.some.inj h
        exact ch_goto 276 dX11_put_234 rfl (ch_return dX11_put_276 rfl hk)
    · subst h
      exact ch_th rfl hk
  · subst h
    exact ch_th rfl hk

def c_X11_put_167 (g : State) (t0 : Nat) (x1 : Option Nat) (x2 : Option Nat) (x3 : Int32) (x6 : Int32) (x7 : Option Nat) (y0 : Int32) (y1 : Nat) (w : ch_W) : Option (Except Nat Unit × ch_W) := (ch_rc w (some y1) 12).bind fun _ => ch_tb (c_X11_must_2 g y1 y0 w) (fun a w => (.error a, w)) fun _ w3 => (ch_gI w3 x7 8 fX7_result).bind fun v4 => (ch_gR w3 (some t0) 12 fX11_kinds).bind fun v5 => (ch_rc w3 v5 14).bind fun b7 => (c_J5_get b7 x6 w3).bind fun v8 => (ch_cast w3 v8 7).bind fun _ => (ch_rc w3 v8 7).bind fun b11 => (c_X6_fieldAt b11 x7 w3).bind fun v12 => c_X11_put_196 g t0 x1 x2 x3 v4 v12 w3
theorem s_X11_put_167 {g : State} {t0 : Nat} {x1 : Option Nat} {x2 : Option Nat} {x3 : Int32} {x6 : Int32} {x7 : Option Nat} {y0 : Int32} {y1 : Nat} {w : ch_W} {res : Except Nat Unit × ch_W} {Q : Outcome → ch_W → Prop} (h : c_X11_put_167 g t0 x1 x2 x3 x6 x7 y0 y1 w = some res) (hk : (ch_xV Q) res) : ch_FT g true mX11_put 711 167 [some (va_rf (some t0)), some (va_rf x1), some (va_rf x2), some (.int x3), none, none, some (.int x6), some (va_rf x7)] [.int y0, va_rf (some y1)] (w) Q := by
  unfold c_X11_put_167 at h
  obtain ⟨_, hb1, h⟩ := ch_bd h
  refine ch_iv yX11_must_2 prog_2_method_3_code 2 none (ci := 11) (q := (RX11, TX11, 14)) (b := y1) (d' := 8) (av := [.int y0]) (rest := []) rfl dX11_put_167 q1202 q1204 rfl qs47 q1205 can_X11_must_2 (Nat.le_of_ble_eq_true rfl) (Nat.le_of_ble_eq_true rfl) (ch_rts hb1) (cp_tV h (fun p hp Q' hq => s_X11_must_2 hp hq) (fun w3 h => ?_) (fun a w1 h => ?_))
  · refine ch_aload 7 x7 dX11_put_170 rfl (cp_gI (ci := 7) (k := 11) dX11_put_172 fl_X11_156 rfl h (fun v4 h => ?_))
    refine ch_istore 4 _ (ls1 := [some (va_rf (some t0)), some (va_rf x1), some (va_rf x2), some (.int x3), some (.int v4), none, some (.int x6), some (va_rf x7)]) dX11_put_175 (Nat.le_of_ble_eq_true rfl) rfl (ch_aload_n 0 (some t0) dX11_put_177 rfl (cp_gR (ci := 11) (k := 1) dX11_put_178 fl_X11_12 rfl h (fun v5 h => ?_)))
    obtain ⟨b7, hb6, h⟩ := ch_bd h
    obtain ⟨v8, hp9, h⟩ := ch_bd h
    refine ch_iload 6 _ dX11_put_181 rfl (ch_iv yJ5_get prog_32_method_20_code 2 (some (.object "java/lang/Object")) (ci := 13) (q := (RJ5, TJ5, 3)) (b := b7) (d' := 4) (av := [.int x6]) (rest := []) (by rw [ch_rs hb6]; rfl) dX11_put_183 q1062 q612 rfl q613 q614 can_J5_get (Nat.le_of_ble_eq_true rfl) (Nat.le_of_ble_eq_true rfl) (ch_rtg hb6) (cp_kR (v := v8) (w1 := w3) (fun Q' hq => s_J5_get hp9 hq) ?_))
    refine cp_cast (ci := 6) (q := (RX6, TX6, 8)) dX11_put_186 rfl q1054 h (fun h => ?_)
    obtain ⟨b11, hb10, h⟩ := ch_bd h
    obtain ⟨v12, hp13, h⟩ := ch_bd h
    refine ch_aload 7 x7 dX11_put_189 rfl (ch_iv yX6_fieldAt prog_4_method_5_code 5 (some .int) (ci := 6) (q := (RX6, TX6, 8)) (b := b11) (d' := 6) (av := [va_rf x7]) (rest := []) (by rw [ch_rs hb10]; rfl) dX11_put_191 q1226 q1227 rfl q1228 q1229 can_X6_fieldAt (Nat.le_of_ble_eq_true rfl) (Nat.le_of_ble_eq_true rfl) (ch_rtg hb10) (cp_kI (v := v12) (w1 := w3) (fun Q' hq => s_X6_fieldAt hp13 hq) ?_))
    exact ch_istore 5 _ (ls1 := [some (va_rf (some t0)), some (va_rf x1), some (va_rf x2), some (.int x3), some (.int v4), some (.int v12), some (.int x6), some (va_rf x7)]) dX11_put_194 (Nat.le_of_ble_eq_true rfl) rfl (ch_FT.wk (ch_wS (ch_wS (ch_wS (ch_wS (ch_wS (ch_wS (ch_wN (ch_wN ch_w0)))))))) (s_X11_put_196  h hk))
  · subst h
    exact ch_th rfl hk

def c_X11_put_154 (g : State) (t0 : Nat) (x1 : Option Nat) (x2 : Option Nat) (x3 : Int32) (x6 : Int32) (y0 : Option Nat) (w : ch_W) : Option (Except Nat Unit × ch_W) := if y0 = none then (c_X11_put_167 g t0 x1 x2 x3 x6 y0 0 t0 w) else (c_X11_put_167 g t0 x1 x2 x3 x6 y0 1 t0 w)
theorem s_X11_put_154 {g : State} {t0 : Nat} {x1 : Option Nat} {x2 : Option Nat} {x3 : Int32} {x6 : Int32} {y0 : Option Nat} {w : ch_W} {res : Except Nat Unit × ch_W} {Q : Outcome → ch_W → Prop} (h : c_X11_put_154 g t0 x1 x2 x3 x6 y0 w = some res) (hk : (ch_xV Q) res) : ch_FT g true mX11_put 711 154 [some (va_rf (some t0)), some (va_rf x1), some (va_rf x2), some (.int x3), none, none, some (.int x6), none] [va_rf y0] (w) Q := by
  unfold c_X11_put_154 at h
  refine ch_astore 7 y0 (ls1 := [some (va_rf (some t0)), some (va_rf x1), some (va_rf x2), some (.int x3), none, none, some (.int x6), some (va_rf y0)]) dX11_put_154 (Nat.le_of_ble_eq_true rfl) rfl (ch_aload_n 0 (some t0) dX11_put_156 rfl (ch_aload 7 y0 dX11_put_157 rfl (cp_ifnull y0 (tgt := 166) dX11_put_159 rfl h (fun h => ?_) (fun h => ?_))))
  · exact ch_iconst _ 0 dX11_put_166 rfl (ch_FT.wk (ch_wS (ch_wS (ch_wS (ch_wS (ch_wN (ch_wN (ch_wS (ch_wS ch_w0)))))))) (s_X11_put_167  h hk))
  · exact ch_iconst _ 1 dX11_put_162 rfl (ch_goto 167 dX11_put_163 rfl (ch_FT.wk (ch_wS (ch_wS (ch_wS (ch_wS (ch_wN (ch_wN (ch_wS (ch_wS ch_w0)))))))) (s_X11_put_167  h hk)))

def c_X11_put_124 (g : State) (t0 : Nat) (x1 : Option Nat) (x2 : Option Nat) (x3 : Int32) (y0 : Int32) (w : ch_W) : Option (Except Nat Unit × ch_W) := if y0 < 0 then (c_X11_put_154 g t0 x1 x2 x3 y0 none w) else ((ch_gR w (some t0) 12 fX11_kinds).bind fun v1 => (ch_rc w v1 14).bind fun b3 => (c_J5_get b3 y0 w).bind fun v4 => (ch_cast w v4 7).bind fun _ => (ch_gI w x2 11 fX10_what).bind fun v6 => (ch_rc w v4 7).bind fun b8 => (c_X6_field b8 v6 w).bind fun v9 => c_X11_put_154 g t0 x1 x2 x3 y0 v9 w)
theorem s_X11_put_124 {g : State} {t0 : Nat} {x1 : Option Nat} {x2 : Option Nat} {x3 : Int32} {y0 : Int32} {w : ch_W} {res : Except Nat Unit × ch_W} {Q : Outcome → ch_W → Prop} (h : c_X11_put_124 g t0 x1 x2 x3 y0 w = some res) (hk : (ch_xV Q) res) : ch_FT g true mX11_put 711 124 [some (va_rf (some t0)), some (va_rf x1), some (va_rf x2), some (.int x3), none, none, none, none] [.int y0] (w) Q := by
  unfold c_X11_put_124 at h
  refine ch_istore 6 _ (ls1 := [some (va_rf (some t0)), some (va_rf x1), some (va_rf x2), some (.int x3), none, none, some (.int y0), none]) dX11_put_124 (Nat.le_of_ble_eq_true rfl) rfl (ch_iload 6 _ dX11_put_126 rfl (cp_if_lt _ (tgt := 153) dX11_put_128 rfl h (fun h => ?_) (fun h => ?_)))
  · exact ch_null dX11_put_153 (ch_FT.wk (ch_wS (ch_wS (ch_wS (ch_wS (ch_wN (ch_wN (ch_wS (ch_wN ch_w0)))))))) (s_X11_put_154  h hk))
  · refine ch_aload_n 0 (some t0) dX11_put_131 rfl (cp_gR (ci := 11) (k := 1) dX11_put_132 fl_X11_12 rfl h (fun v1 h => ?_))
    obtain ⟨b3, hb2, h⟩ := ch_bd h
    obtain ⟨v4, hp5, h⟩ := ch_bd h
    refine ch_iload 6 _ dX11_put_135 rfl (ch_iv yJ5_get prog_32_method_20_code 2 (some (.object "java/lang/Object")) (ci := 13) (q := (RJ5, TJ5, 3)) (b := b3) (d' := 4) (av := [.int y0]) (rest := []) (by rw [ch_rs hb2]; rfl) dX11_put_137 q1062 q612 rfl q613 q614 can_J5_get (Nat.le_of_ble_eq_true rfl) (Nat.le_of_ble_eq_true rfl) (ch_rtg hb2) (cp_kR (v := v4) (w1 := w) (fun Q' hq => s_J5_get hp5 hq) ?_))
    refine cp_cast (ci := 6) (q := (RX6, TX6, 8)) dX11_put_140 rfl q1054 h (fun h => ?_)
    refine ch_aload_n 2 x2 dX11_put_143 rfl (cp_gI (ci := 10) (k := 4) dX11_put_144 fl_X11_295 rfl h (fun v6 h => ?_))
    obtain ⟨b8, hb7, h⟩ := ch_bd h
    obtain ⟨v9, hp10, h⟩ := ch_bd h
    refine ch_iv yX6_field prog_4_method_4_code 4 (some (.object "ClassHouse$Member")) (ci := 6) (q := (RX6, TX6, 8)) (b := b8) (d' := 6) (av := [.int v6]) (rest := []) (by rw [ch_rs hb7]; rfl) dX11_put_147 q1164 q1165 rfl q1166 q1167 can_X6_field (Nat.le_of_ble_eq_true rfl) (Nat.le_of_ble_eq_true rfl) (ch_rtg hb7) (cp_kR (v := v9) (w1 := w) (fun Q' hq => s_X6_field hp10 hq) ?_)
    exact ch_goto 154 dX11_put_150 rfl (ch_FT.wk (ch_wS (ch_wS (ch_wS (ch_wS (ch_wN (ch_wN (ch_wS (ch_wN ch_w0)))))))) (s_X11_put_154  h hk))

def c_X11_put_89 (g : State) (t0 : Nat) (x1 : Option Nat) (x2 : Option Nat) (x3 : Int32) (x5 : Int32) (y0 : Int32) (y1 : Nat) (w : ch_W) : Option (Except Nat Unit × ch_W) := (ch_rc w (some y1) 12).bind fun _ => ch_tb (c_X11_must_2 g y1 y0 w) (fun a w => (.error a, w)) fun _ w3 => c_X11_put_196 g t0 x1 x2 x3 (-1) x5 w3
theorem s_X11_put_89 {g : State} {t0 : Nat} {x1 : Option Nat} {x2 : Option Nat} {x3 : Int32} {x5 : Int32} {y0 : Int32} {y1 : Nat} {w : ch_W} {res : Except Nat Unit × ch_W} {Q : Outcome → ch_W → Prop} (h : c_X11_put_89 g t0 x1 x2 x3 x5 y0 y1 w = some res) (hk : (ch_xV Q) res) : ch_FT g true mX11_put 711 89 [some (va_rf (some t0)), some (va_rf x1), some (va_rf x2), some (.int x3), none, some (.int x5), none, none] [.int y0, va_rf (some y1)] (w) Q := by
  unfold c_X11_put_89 at h
  obtain ⟨_, hb1, h⟩ := ch_bd h
  refine ch_iv yX11_must_2 prog_2_method_3_code 2 none (ci := 11) (q := (RX11, TX11, 14)) (b := y1) (d' := 8) (av := [.int y0]) (rest := []) rfl dX11_put_89 q1202 q1204 rfl qs47 q1205 can_X11_must_2 (Nat.le_of_ble_eq_true rfl) (Nat.le_of_ble_eq_true rfl) (ch_rts hb1) (cp_tV h (fun p hp Q' hq => s_X11_must_2 hp hq) (fun w3 h => ?_) (fun a w1 h => ?_))
  · exact ch_iconst _ (-1) dX11_put_92 rfl (ch_istore 4 _ (ls1 := [some (va_rf (some t0)), some (va_rf x1), some (va_rf x2), some (.int x3), some (.int (-1)), some (.int x5), none, none]) dX11_put_93 (Nat.le_of_ble_eq_true rfl) rfl (ch_goto 196 dX11_put_95 rfl (ch_FT.wk (ch_wS (ch_wS (ch_wS (ch_wS (ch_wS (ch_wS (ch_wN (ch_wN ch_w0)))))))) (s_X11_put_196  h hk))))
  · subst h
    exact ch_th rfl hk

def c_X11_put_88 (g : State) (t0 : Nat) (x1 : Option Nat) (x2 : Option Nat) (x3 : Int32) (x5 : Int32) (y0 : Nat) (w : ch_W) : Option (Except Nat Unit × ch_W) := c_X11_put_89 g t0 x1 x2 x3 x5 0 y0 w
theorem s_X11_put_88 {g : State} {t0 : Nat} {x1 : Option Nat} {x2 : Option Nat} {x3 : Int32} {x5 : Int32} {y0 : Nat} {w : ch_W} {res : Except Nat Unit × ch_W} {Q : Outcome → ch_W → Prop} (h : c_X11_put_88 g t0 x1 x2 x3 x5 y0 w = some res) (hk : (ch_xV Q) res) : ch_FT g true mX11_put 711 88 [some (va_rf (some t0)), some (va_rf x1), some (va_rf x2), some (.int x3), none, some (.int x5), none, none] [va_rf (some y0)] (w) Q := by
  unfold c_X11_put_88 at h
  exact ch_iconst _ 0 dX11_put_88 rfl (ch_FT.wk (ch_wS (ch_wS (ch_wS (ch_wS (ch_wN (ch_wS (ch_wN (ch_wN ch_w0)))))))) (s_X11_put_89  h hk))

def c_X11_put_28 (g : State) (t0 : Nat) (x1 : Option Nat) (x2 : Option Nat) (y0 : Int32) (w : ch_W) : Option (Except Nat Unit × ch_W) := if y0 < 0 then ((ch_gI w x2 11 fX10_kind).bind fun v1 => if v1 = 12 then ((ch_gR w x2 11 fX10_left).bind fun v9 => (ch_rc w (some t0) 12).bind fun _ => ch_tb (cr_CE g 700 0 t0 v9 none 0 w) (fun a w => (.error a, w)) fun v11 w12 => if v11 = (-3) then ((ch_gR w12 x2 11 fX10_right).bind fun v13 => (ch_rc w12 (some t0) 12).bind fun _ => ch_tb (cr_CE g 700 0 t0 v13 none 0 w12) (fun a w => (.error a, w)) fun v15 w16 => if v15 = (-1) then (c_X11_put_89 g t0 x1 x2 y0 (-1) 1 t0 w16) else (c_X11_put_88 g t0 x1 x2 y0 (-1) t0 w16)) else (c_X11_put_88 g t0 x1 x2 y0 (-1) t0 w12)) else ((ch_gI w x2 11 fX10_kind).bind fun v2 => if v2 = 4 then ((ch_gR w (some t0) 12 fX11_own).bind fun v7 => (ch_gI w v7 7 fX6_number).bind fun v8 => c_X11_put_124 g t0 x1 x2 y0 v8 w) else ((ch_gR w x2 11 fX10_left).bind fun v3 => (ch_rc w (some t0) 12).bind fun _ => ch_tb (cr_CE g 700 0 t0 v3 none 0 w) (fun a w => (.error a, w)) fun v5 w6 => c_X11_put_124 g t0 x1 x2 y0 v5 w6))) else ((ch_gR w (some t0) 12 fX11_types).bind fun v17 => (ch_rc w v17 9).bind fun b19 => (c_X8_get b19 y0 w).bind fun v20 => c_X11_put_196 g t0 x1 x2 y0 v20 (-1) w)
theorem s_X11_put_28 {g : State} {t0 : Nat} {x1 : Option Nat} {x2 : Option Nat} {y0 : Int32} {w : ch_W} {res : Except Nat Unit × ch_W} {Q : Outcome → ch_W → Prop} (h : c_X11_put_28 g t0 x1 x2 y0 w = some res) (hk : (ch_xV Q) res) : ch_FT g true mX11_put 711 28 [some (va_rf (some t0)), some (va_rf x1), some (va_rf x2), none, none, none, none, none] [.int y0] (w) Q := by
  unfold c_X11_put_28 at h
  refine ch_istore_n 3 _ (ls1 := [some (va_rf (some t0)), some (va_rf x1), some (va_rf x2), some (.int y0), none, none, none, none]) dX11_put_28 (Nat.le_of_ble_eq_true rfl) (ch_s1o rfl rfl) (ch_iconst _ (-1) dX11_put_29 rfl (ch_istore 5 _ (ls1 := [some (va_rf (some t0)), some (va_rf x1), some (va_rf x2), some (.int y0), none, some (.int (-1)), none, none]) dX11_put_30 (Nat.le_of_ble_eq_true rfl) rfl (ch_iload_n 3 _ dX11_put_32 rfl (cp_if_lt _ (tgt := 49) dX11_put_33 rfl h (fun h => ?_) (fun h => ?_)))))
  · refine ch_aload_n 2 x2 dX11_put_49 rfl (cp_gI (ci := 10) (k := 0) dX11_put_50 fl_X11_292 rfl h (fun v1 h => ?_))
    refine ch_bipush _ 12 dX11_put_53 rfl (cp_icmp_ne _ _ (tgt := 98) dX11_put_55 rfl h (fun h => ?_) (fun h => ?_))
    · refine ch_aload_n 2 x2 dX11_put_98 rfl (cp_gI (ci := 10) (k := 0) dX11_put_99 fl_X11_292 rfl h (fun v2 h => ?_))
      refine ch_iconst _ 4 dX11_put_102 rfl (cp_icmp_ne _ _ (tgt := 116) dX11_put_103 rfl h (fun h => ?_) (fun h => ?_))
      · refine ch_aload_n 0 (some t0) dX11_put_116 rfl (ch_aload_n 2 x2 dX11_put_117 rfl (cp_gR (ci := 10) (k := 1) dX11_put_118 fl_X11_298 rfl h (fun v3 h => ?_)))
        obtain ⟨_, hb4, h⟩ := ch_bd h
        refine ch_iv yX11_value prog_2_method_28_code 5 (some .int) (ci := 11) (q := (RX11, TX11, 14)) (b := t0) (d' := 710) (av := [va_rf v3]) (rest := []) rfl dX11_put_121 q1206 q1208 rfl qs48 q1209 can_X11_value (Nat.le_of_ble_eq_true rfl) (Nat.le_of_ble_eq_true rfl) (ch_rts hb4) (cp_tI h (fun p hp Q' hq => sr_X11_value hp hq) (fun v5 w6 h => ?_) (fun a w1 h => ?_))
        · exact ch_FT.wk (ch_wS (ch_wS (ch_wS (ch_wS (ch_wN (ch_wN (ch_wN (ch_wN ch_w0)))))))) (s_X11_put_124  h hk)
        · subst h
          exact ch_th rfl hk
      · refine ch_aload_n 0 (some t0) dX11_put_106 rfl (cp_gR (ci := 11) (k := 3) dX11_put_107 fl_X11_199 rfl h (fun v7 h => ?_))
        refine cp_gI (ci := 6) (k := 4) dX11_put_110 fl_X11_75 rfl h (fun v8 h => ?_)
        exact ch_goto 124 dX11_put_113 rfl (ch_FT.wk (ch_wS (ch_wS (ch_wS (ch_wS (ch_wN (ch_wN (ch_wN (ch_wN ch_w0)))))))) (s_X11_put_124  h hk))
    · refine ch_aload_n 0 (some t0) dX11_put_58 rfl (ch_aload_n 0 (some t0) dX11_put_59 rfl (ch_aload_n 2 x2 dX11_put_60 rfl (cp_gR (ci := 10) (k := 1) dX11_put_61 fl_X11_298 rfl h (fun v9 h => ?_))))
      obtain ⟨_, hb10, h⟩ := ch_bd h
      refine ch_iv yX11_value prog_2_method_28_code 5 (some .int) (ci := 11) (q := (RX11, TX11, 14)) (b := t0) (d' := 710) (av := [va_rf v9]) (rest := [va_rf (some t0)]) rfl dX11_put_64 q1206 q1208 rfl qs48 q1209 can_X11_value (Nat.le_of_ble_eq_true rfl) (ch_hw (Nat.le_of_ble_eq_true rfl)) (ch_rts hb10) (cp_tI h (fun p hp Q' hq => sr_X11_value hp hq) (fun v11 w12 h => ?_) (fun a w1 h => ?_))
      · refine ch_bipush _ (-3) dX11_put_67 rfl (cp_icmp_ne _ _ (tgt := 88) dX11_put_69 rfl h (fun h => ?_) (fun h => ?_))
        · exact ch_FT.wk (ch_wS (ch_wS (ch_wS (ch_wS (ch_wN (ch_wS (ch_wN (ch_wN ch_w0)))))))) (s_X11_put_88  h hk)
        · refine ch_aload_n 0 (some t0) dX11_put_72 rfl (ch_aload_n 2 x2 dX11_put_73 rfl (cp_gR (ci := 10) (k := 2) dX11_put_74 fl_X11_301 rfl h (fun v13 h => ?_)))
          obtain ⟨_, hb14, h⟩ := ch_bd h
          refine ch_iv yX11_value prog_2_method_28_code 5 (some .int) (ci := 11) (q := (RX11, TX11, 14)) (b := t0) (d' := 710) (av := [va_rf v13]) (rest := [va_rf (some t0)]) rfl dX11_put_77 q1206 q1208 rfl qs48 q1209 can_X11_value (Nat.le_of_ble_eq_true rfl) (ch_hw (Nat.le_of_ble_eq_true rfl)) (ch_rts hb14) (cp_tI h (fun p hp Q' hq => sr_X11_value hp hq) (fun v15 w16 h => ?_) (fun a w1 h => ?_))
          · refine ch_iconst _ (-1) dX11_put_80 rfl (cp_icmp_ne _ _ (tgt := 88) dX11_put_81 rfl h (fun h => ?_) (fun h => ?_))
            · exact ch_FT.wk (ch_wS (ch_wS (ch_wS (ch_wS (ch_wN (ch_wS (ch_wN (ch_wN ch_w0)))))))) (s_X11_put_88  h hk)
            · exact ch_iconst _ 1 dX11_put_84 rfl (ch_goto 89 dX11_put_85 rfl (ch_FT.wk (ch_wS (ch_wS (ch_wS (ch_wS (ch_wN (ch_wS (ch_wN (ch_wN ch_w0)))))))) (s_X11_put_89  h hk)))
          · subst h
            exact ch_th rfl hk
      · subst h
        exact ch_th rfl hk
  · refine ch_aload_n 0 (some t0) dX11_put_36 rfl (cp_gR (ci := 11) (k := 8) dX11_put_37 fl_X11_25 rfl h (fun v17 h => ?_))
    obtain ⟨b19, hb18, h⟩ := ch_bd h
    obtain ⟨v20, hp21, h⟩ := ch_bd h
    refine ch_iload_n 3 _ dX11_put_40 rfl (ch_iv yX8_get prog_9_method_3_code 2 (some .int) (ci := 8) (q := (RX8, TX8, 2)) (b := b19) (d' := 2) (av := [.int y0]) (rest := []) (by rw [ch_rs hb18]; rfl) dX11_put_41 q1151 q1152 rfl q1153 q1154 can_X8_get (Nat.le_of_ble_eq_true rfl) (Nat.le_of_ble_eq_true rfl) (ch_rtg hb18) (cp_kI (v := v20) (w1 := w) (fun Q' hq => s_X8_get hp21 hq) ?_))
    exact ch_istore 4 _ (ls1 := [some (va_rf (some t0)), some (va_rf x1), some (va_rf x2), some (.int y0), some (.int v20), some (.int (-1)), none, none]) dX11_put_44 (Nat.le_of_ble_eq_true rfl) rfl (ch_goto 196 dX11_put_46 rfl (ch_FT.wk (ch_wS (ch_wS (ch_wS (ch_wS (ch_wS (ch_wS (ch_wN (ch_wN ch_w0)))))))) (s_X11_put_196  h hk)))

def c_X11_put (g : State) (t0 : Nat) (x1 : Option Nat) (w : ch_W) : Option (Except Nat Unit × ch_W) := (ch_gR w x1 10 fX9_place0).bind fun v1 => (ch_gI w v1 11 fX10_kind).bind fun v2 => if v2 = 4 then ((ch_gR w (some t0) 12 fX11_names).bind fun v3 => (ch_gI w v1 11 fX10_what).bind fun v4 => (ch_rc w v3 9).bind fun b6 => (c_X8_find b6 v4 w).bind fun v7 => c_X11_put_28 g t0 x1 v1 v7 w) else (c_X11_put_28 g t0 x1 v1 (-1) w)
theorem s_X11_put {g : State} {t0 : Nat} {x1 : Option Nat} {w : ch_W} {res : Except Nat Unit × ch_W} {Q : Outcome → ch_W → Prop} (h : c_X11_put g t0 x1 w = some res) (hk : (ch_xV Q) res) : ch_CT g true yX11_put 711 [.ref t0, va_rf x1] (w) Q := by
  unfold c_X11_put at h
  refine ch_ctL mX11_put (ls := [some (va_rf (some t0)), some (va_rf x1), none, none, none, none, none, none]) q1266 rfl (ch_lyr (r := some t0) (ch_lyr (r := x1) ch_ly0)) (Nat.le_of_ble_eq_true rfl) rfl ?_
  refine ch_aload_n 1 x1 dX11_put_0 rfl (cp_gR (ci := 9) (k := 4) dX11_put_1 fl_X11_289 rfl h (fun v1 h => ?_))
  refine ch_astore_n 2 v1 (ls1 := [some (va_rf (some t0)), some (va_rf x1), some (va_rf v1), none, none, none, none, none]) dX11_put_4 (Nat.le_of_ble_eq_true rfl) (ch_s1o rfl rfl) (ch_aload_n 2 v1 dX11_put_5 rfl (cp_gI (ci := 10) (k := 0) dX11_put_6 fl_X11_292 rfl h (fun v2 h => ?_)))
  refine ch_iconst _ 4 dX11_put_9 rfl (cp_icmp_ne _ _ (tgt := 27) dX11_put_10 rfl h (fun h => ?_) (fun h => ?_))
  · exact ch_iconst _ (-1) dX11_put_27 rfl (ch_FT.wk (ch_wS (ch_wS (ch_wS (ch_wN (ch_wN (ch_wN (ch_wN (ch_wN ch_w0)))))))) (s_X11_put_28  h hk))
  · refine ch_aload_n 0 (some t0) dX11_put_13 rfl (cp_gR (ci := 11) (k := 7) dX11_put_14 fl_X11_21 rfl h (fun v3 h => ?_))
    refine ch_aload_n 2 v1 dX11_put_17 rfl (cp_gI (ci := 10) (k := 4) dX11_put_18 fl_X11_295 rfl h (fun v4 h => ?_))
    obtain ⟨b6, hb5, h⟩ := ch_bd h
    obtain ⟨v7, hp8, h⟩ := ch_bd h
    refine ch_iv yX8_find prog_9_method_4_code 3 (some .int) (ci := 8) (q := (RX8, TX8, 2)) (b := b6) (d' := 2) (av := [.int v4]) (rest := []) (by rw [ch_rs hb5]; rfl) dX11_put_21 q1155 q1156 rfl q1157 q1158 can_X8_find (Nat.le_of_ble_eq_true rfl) (Nat.le_of_ble_eq_true rfl) (ch_rtg hb5) (cp_kI (v := v7) (w1 := w) (fun Q' hq => s_X8_find hp8 hq) ?_)
    exact ch_goto 28 dX11_put_24 rfl (ch_FT.wk (ch_wS (ch_wS (ch_wS (ch_wN (ch_wN (ch_wN (ch_wN (ch_wN ch_w0)))))))) (s_X11_put_28  h hk))

