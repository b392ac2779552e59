/-! printed by tools/dec.py -/
set_option maxRecDepth 100000
theorem bX3_stepOnce_0 : ch_ck cX3_stepOnce 0 [42, 89, 180, 2, 150, 4, 96, 181, 2, 150, 42, 89, 180, 2, 72, 4] := ch_ckof (by decide +kernel)
theorem bX3_stepOnce_1 : ch_ck cX3_stepOnce 16 [100, 181, 2, 72, 42, 180, 0, 208, 42, 180, 2, 72, 46, 60, 42, 180] := ch_ckof (by decide +kernel)
theorem bX3_stepOnce_2 : ch_ck cX3_stepOnce 32 [0, 205, 42, 180, 2, 72, 46, 170, 0, 0, 0, 49, 0, 0, 0, 0] := ch_ckof (by decide +kernel)
theorem bX3_stepOnce_3 : ch_ck cX3_stepOnce 48 [0, 0, 0, 2, 0, 0, 0, 25, 0, 0, 0, 33, 0, 0, 0, 41] := ch_ckof (by decide +kernel)
theorem bX3_stepOnce_4 : ch_ck cX3_stepOnce 64 [42, 27, 182, 2, 153, 167, 0, 24, 42, 27, 182, 2, 156, 167, 0, 16] := ch_ckof (by decide +kernel)
theorem bX3_stepOnce_5 : ch_ck cX3_stepOnce 80 [42, 27, 182, 2, 159, 167, 0, 8, 42, 27, 182, 2, 162, 42, 180, 2] := ch_ckof (by decide +kernel)
theorem bX3_stepOnce_6 : ch_ck cX3_stepOnce 96 [75, 154, 0, 7, 42, 182, 2, 165, 177] := ch_ckof (by decide +kernel)
theorem dX3_stepOnce_0 : decode cX3_stepOnce 0 = .ok (.aload_n 0, 1) := dz_42 (bX3_stepOnce_0 0 _ rfl)
theorem dX3_stepOnce_1 : decode cX3_stepOnce 1 = .ok (.dup, 1) := dz_89 (bX3_stepOnce_0 1 _ rfl)
theorem dX3_stepOnce_2 : decode cX3_stepOnce 2 = .ok (.getfield 662, 3) := dz_180 (bX3_stepOnce_0 2 _ rfl) (bX3_stepOnce_0 3 _ rfl) (bX3_stepOnce_0 4 _ rfl)
theorem dX3_stepOnce_5 : decode cX3_stepOnce 5 = .ok (.iconst 1, 1) := dz_4 (bX3_stepOnce_0 5 _ rfl)
theorem dX3_stepOnce_6 : decode cX3_stepOnce 6 = .ok (.iadd, 1) := dz_96 (bX3_stepOnce_0 6 _ rfl)
theorem dX3_stepOnce_7 : decode cX3_stepOnce 7 = .ok (.putfield 662, 3) := dz_181 (bX3_stepOnce_0 7 _ rfl) (bX3_stepOnce_0 8 _ rfl) (bX3_stepOnce_0 9 _ rfl)
theorem dX3_stepOnce_10 : decode cX3_stepOnce 10 = .ok (.aload_n 0, 1) := dz_42 (bX3_stepOnce_0 10 _ rfl)
theorem dX3_stepOnce_11 : decode cX3_stepOnce 11 = .ok (.dup, 1) := dz_89 (bX3_stepOnce_0 11 _ rfl)
theorem dX3_stepOnce_12 : decode cX3_stepOnce 12 = .ok (.getfield 584, 3) := dz_180 (bX3_stepOnce_0 12 _ rfl) (bX3_stepOnce_0 13 _ rfl) (bX3_stepOnce_0 14 _ rfl)
theorem dX3_stepOnce_15 : decode cX3_stepOnce 15 = .ok (.iconst 1, 1) := dz_4 (bX3_stepOnce_0 15 _ rfl)
theorem dX3_stepOnce_16 : decode cX3_stepOnce 16 = .ok (.isub, 1) := dz_100 (bX3_stepOnce_1 0 _ rfl)
theorem dX3_stepOnce_17 : decode cX3_stepOnce 17 = .ok (.putfield 584, 3) := dz_181 (bX3_stepOnce_1 1 _ rfl) (bX3_stepOnce_1 2 _ rfl) (bX3_stepOnce_1 3 _ rfl)
theorem dX3_stepOnce_20 : decode cX3_stepOnce 20 = .ok (.aload_n 0, 1) := dz_42 (bX3_stepOnce_1 4 _ rfl)
theorem dX3_stepOnce_21 : decode cX3_stepOnce 21 = .ok (.getfield 208, 3) := dz_180 (bX3_stepOnce_1 5 _ rfl) (bX3_stepOnce_1 6 _ rfl) (bX3_stepOnce_1 7 _ rfl)
theorem dX3_stepOnce_24 : decode cX3_stepOnce 24 = .ok (.aload_n 0, 1) := dz_42 (bX3_stepOnce_1 8 _ rfl)
theorem dX3_stepOnce_25 : decode cX3_stepOnce 25 = .ok (.getfield 584, 3) := dz_180 (bX3_stepOnce_1 9 _ rfl) (bX3_stepOnce_1 10 _ rfl) (bX3_stepOnce_1 11 _ rfl)
theorem dX3_stepOnce_28 : decode cX3_stepOnce 28 = .ok (.iaload, 1) := dz_46 (bX3_stepOnce_1 12 _ rfl)
theorem dX3_stepOnce_29 : decode cX3_stepOnce 29 = .ok (.istore_n 1, 1) := dz_60 (bX3_stepOnce_1 13 _ rfl)
theorem dX3_stepOnce_30 : decode cX3_stepOnce 30 = .ok (.aload_n 0, 1) := dz_42 (bX3_stepOnce_1 14 _ rfl)
theorem dX3_stepOnce_31 : decode cX3_stepOnce 31 = .ok (.getfield 205, 3) := dz_180 (bX3_stepOnce_1 15 _ rfl) (bX3_stepOnce_2 0 _ rfl) (bX3_stepOnce_2 1 _ rfl)
theorem dX3_stepOnce_34 : decode cX3_stepOnce 34 = .ok (.aload_n 0, 1) := dz_42 (bX3_stepOnce_2 2 _ rfl)
theorem dX3_stepOnce_35 : decode cX3_stepOnce 35 = .ok (.getfield 584, 3) := dz_180 (bX3_stepOnce_2 3 _ rfl) (bX3_stepOnce_2 4 _ rfl) (bX3_stepOnce_2 5 _ rfl)
theorem dX3_stepOnce_38 : decode cX3_stepOnce 38 = .ok (.iaload, 1) := dz_46 (bX3_stepOnce_2 6 _ rfl)
theorem dX3_stepOnce_39 : decode cX3_stepOnce 39 = .ok (.tableswitch 49 0 2 #[25, 33, 41], 25) := by decide +kernel
theorem dX3_stepOnce_64 : decode cX3_stepOnce 64 = .ok (.aload_n 0, 1) := dz_42 (bX3_stepOnce_4 0 _ rfl)
theorem dX3_stepOnce_65 : decode cX3_stepOnce 65 = .ok (.iload_n 1, 1) := dz_27 (bX3_stepOnce_4 1 _ rfl)
theorem dX3_stepOnce_66 : decode cX3_stepOnce 66 = .ok (.invokevirtual 665, 3) := dz_182 (bX3_stepOnce_4 2 _ rfl) (bX3_stepOnce_4 3 _ rfl) (bX3_stepOnce_4 4 _ rfl)
theorem dX3_stepOnce_69 : decode cX3_stepOnce 69 = .ok (.goto 24, 3) := dz_167 (bX3_stepOnce_4 5 _ rfl) (bX3_stepOnce_4 6 _ rfl) (bX3_stepOnce_4 7 _ rfl)
theorem dX3_stepOnce_72 : decode cX3_stepOnce 72 = .ok (.aload_n 0, 1) := dz_42 (bX3_stepOnce_4 8 _ rfl)
theorem dX3_stepOnce_73 : decode cX3_stepOnce 73 = .ok (.iload_n 1, 1) := dz_27 (bX3_stepOnce_4 9 _ rfl)
theorem dX3_stepOnce_74 : decode cX3_stepOnce 74 = .ok (.invokevirtual 668, 3) := dz_182 (bX3_stepOnce_4 10 _ rfl) (bX3_stepOnce_4 11 _ rfl) (bX3_stepOnce_4 12 _ rfl)
theorem dX3_stepOnce_77 : decode cX3_stepOnce 77 = .ok (.goto 16, 3) := dz_167 (bX3_stepOnce_4 13 _ rfl) (bX3_stepOnce_4 14 _ rfl) (bX3_stepOnce_4 15 _ rfl)
theorem dX3_stepOnce_80 : decode cX3_stepOnce 80 = .ok (.aload_n 0, 1) := dz_42 (bX3_stepOnce_5 0 _ rfl)
theorem dX3_stepOnce_81 : decode cX3_stepOnce 81 = .ok (.iload_n 1, 1) := dz_27 (bX3_stepOnce_5 1 _ rfl)
theorem dX3_stepOnce_82 : decode cX3_stepOnce 82 = .ok (.invokevirtual 671, 3) := dz_182 (bX3_stepOnce_5 2 _ rfl) (bX3_stepOnce_5 3 _ rfl) (bX3_stepOnce_5 4 _ rfl)
theorem dX3_stepOnce_85 : decode cX3_stepOnce 85 = .ok (.goto 8, 3) := dz_167 (bX3_stepOnce_5 5 _ rfl) (bX3_stepOnce_5 6 _ rfl) (bX3_stepOnce_5 7 _ rfl)
theorem dX3_stepOnce_88 : decode cX3_stepOnce 88 = .ok (.aload_n 0, 1) := dz_42 (bX3_stepOnce_5 8 _ rfl)
theorem dX3_stepOnce_89 : decode cX3_stepOnce 89 = .ok (.iload_n 1, 1) := dz_27 (bX3_stepOnce_5 9 _ rfl)
theorem dX3_stepOnce_90 : decode cX3_stepOnce 90 = .ok (.invokevirtual 674, 3) := dz_182 (bX3_stepOnce_5 10 _ rfl) (bX3_stepOnce_5 11 _ rfl) (bX3_stepOnce_5 12 _ rfl)
theorem dX3_stepOnce_93 : decode cX3_stepOnce 93 = .ok (.aload_n 0, 1) := dz_42 (bX3_stepOnce_5 13 _ rfl)
theorem dX3_stepOnce_94 : decode cX3_stepOnce 94 = .ok (.getfield 587, 3) := dz_180 (bX3_stepOnce_5 14 _ rfl) (bX3_stepOnce_5 15 _ rfl) (bX3_stepOnce_6 0 _ rfl)
theorem dX3_stepOnce_97 : decode cX3_stepOnce 97 = .ok (.ifCond .ne 7, 3) := dz_154 (bX3_stepOnce_6 1 _ rfl) (bX3_stepOnce_6 2 _ rfl) (bX3_stepOnce_6 3 _ rfl)
theorem dX3_stepOnce_100 : decode cX3_stepOnce 100 = .ok (.aload_n 0, 1) := dz_42 (bX3_stepOnce_6 4 _ rfl)
theorem dX3_stepOnce_101 : decode cX3_stepOnce 101 = .ok (.invokevirtual 677, 3) := dz_182 (bX3_stepOnce_6 5 _ rfl) (bX3_stepOnce_6 6 _ rfl) (bX3_stepOnce_6 7 _ rfl)
theorem dX3_stepOnce_104 : decode cX3_stepOnce 104 = .ok (.return_, 1) := dz_177 (bX3_stepOnce_6 8 _ rfl)
def m_X3_stepOnce_93   (σ : ch_S) : Option (ch_S) := if (σ.1 fX3_over) = 0 then ((m_X3_settle σ).bind fun p1 => some (p1)) else (some (σ))
theorem s_X3_stepOnce_93 {g : State} {m : Nat} {w : ch_W} {σ : ch_S} {res : ch_S} {Q : Outcome → ch_W → Prop} (h : m_X3_stepOnce_93  σ = some res) (hk : (fun r => ch_eV Q (ch_put m w r)) res) : ch_FT g false mX3_stepOnce 8 93 [some (va_rf (some m)), none] [] (ch_put m w σ) Q := by
  unfold m_X3_stepOnce_93 at h
  refine ch_aload_n 0 (some m) dX3_stepOnce_93 rfl (mp_gI 70 dX3_stepOnce_94 fl_X3_587 rfl (cp_if_ne _ (tgt := 104) dX3_stepOnce_97 rfl h (fun h => ?_) (fun h => ?_)))
  · obtain rfl := Option.some.inj h
    exact ch_return dX3_stepOnce_104 rfl hk
  · obtain ⟨p1, hp2, h⟩ := ch_bd h
    refine ch_aload_n 0 (some m) dX3_stepOnce_100 rfl (ch_iv yX3_settle prog_14_method_88_code 2 none (ci := 3) (q := (RX3, TX3, 109)) (b := m) (d' := 4) (av := []) (rest := []) rfl dX3_stepOnce_101 q2210 q2212 rfl qs175 q2213 can_X3_settle (Nat.le_of_ble_eq_true rfl) (Nat.le_of_ble_eq_true rfl) ch_put_tag (cp_kV (w1 := ch_put m w p1) (fun Q' hq => s_X3_settle hp2 hq) ?_))
    obtain rfl := Option.some.inj h
    exact ch_return dX3_stepOnce_104 rfl hk

def m_X3_stepOnce  (σ : ch_S) : Option (ch_S) := (ch_mI σ fX3_steps ((σ.1 fX3_steps) + 1)).bind fun σ1 => (ch_mI σ1 fX3_todo ((σ1.1 fX3_todo) - 1)).bind fun σ2 => (ch_ma σ2 fX3_todoOf (σ2.1 fX3_todo)).bind fun v3 => (ch_ma σ2 fX3_todoIs (σ2.1 fX3_todo)).bind fun v4 => if v4 = 0 then ((m_X3_leaf v3 σ2).bind fun p7 => m_X3_stepOnce_93 p7) else (if v4 = 1 then ((m_X3_work v3 σ2).bind fun p9 => m_X3_stepOnce_93 p9) else (if v4 = 2 then ((m_X3_half v3 σ2).bind fun p11 => m_X3_stepOnce_93 p11) else ((m_X3_done v3 σ2).bind fun p5 => m_X3_stepOnce_93 p5)))
theorem s_X3_stepOnce {g : State} {m : Nat} {w : ch_W} {σ : ch_S} {res : ch_S} {Q : Outcome → ch_W → Prop} (h : m_X3_stepOnce  σ = some res) (hk : (fun r => ch_eV Q (ch_put m w r)) res) : ch_CT g false yX3_stepOnce 8 [.ref m] (ch_put m w σ) Q := by
  unfold m_X3_stepOnce at h
  refine ch_ctL mX3_stepOnce (ls := [some (va_rf (some m)), none]) q2238 rfl (ch_lyr (r := some m) ch_ly0) (Nat.le_of_ble_eq_true rfl) rfl ?_
  refine ch_aload_n 0 (some m) dX3_stepOnce_0 rfl (ch_dup dX3_stepOnce_1 (ch_cat _) (mp_gI 75 dX3_stepOnce_2 fl_X3_662 rfl (ch_iconst _ 1 dX3_stepOnce_5 rfl (ch_iadd _ _ dX3_stepOnce_6 (mp_pI (k := 75) dX3_stepOnce_7 fl_X3_662 rfl rfl rfl h (fun σ1 h => ?_))))))
  refine ch_aload_n 0 (some m) dX3_stepOnce_10 rfl (ch_dup dX3_stepOnce_11 (ch_cat _) (mp_gI 103 dX3_stepOnce_12 fl_X3_584 rfl (ch_iconst _ 1 dX3_stepOnce_15 rfl (ch_isub _ _ dX3_stepOnce_16 (mp_pI (k := 103) dX3_stepOnce_17 fl_X3_584 rfl rfl rfl h (fun σ2 h => ?_))))))
  refine ch_aload_n 0 (some m) dX3_stepOnce_20 rfl (mp_gA 105 dX3_stepOnce_21 fl_X3_208 rfl (ch_aload_n 0 (some m) dX3_stepOnce_24 rfl (mp_gI 103 dX3_stepOnce_25 fl_X3_584 rfl (mp_iald dX3_stepOnce_28 mk_105 h (fun v3 h => ?_)))))
  refine ch_istore_n 1 _ (ls1 := [some (va_rf (some m)), some (.int v3)]) dX3_stepOnce_29 (Nat.le_of_ble_eq_true rfl) rfl (ch_aload_n 0 (some m) dX3_stepOnce_30 rfl (mp_gA 104 dX3_stepOnce_31 fl_X3_205 rfl (ch_aload_n 0 (some m) dX3_stepOnce_34 rfl (mp_gI 103 dX3_stepOnce_35 fl_X3_584 rfl (mp_iald dX3_stepOnce_38 mk_104 h (fun v4 h => ?_))))))
  by_cases e0 : v4 = 0
  · have h := ch_ifT e0 h
    refine ch_tableIn _ (off := 25) (tgt := 64) dX3_stepOnce_39 (by rw [e0]; decide) (by rw [e0]; decide) (by rw [e0]; rfl) rfl ?_
    obtain ⟨p7, hp8, h⟩ := ch_bd h
    refine ch_aload_n 0 (some m) dX3_stepOnce_64 rfl (ch_iload_n 1 _ dX3_stepOnce_65 rfl (ch_iv yX3_leaf prog_14_method_93_code 4 none (ci := 3) (q := (RX3, TX3, 109)) (b := m) (d' := 5) (av := [.int v3]) (rest := []) rfl dX3_stepOnce_66 q2239 q2241 rfl qs181 q2242 can_X3_leaf (Nat.le_of_ble_eq_true rfl) (Nat.le_of_ble_eq_true rfl) ch_put_tag (cp_kV (w1 := ch_put m w p7) (fun Q' hq => s_X3_leaf hp8 hq) ?_)))
    exact ch_goto 93 dX3_stepOnce_69 rfl (ch_FT.wk (ch_wS (ch_wN ch_w0)) (s_X3_stepOnce_93  h hk))
  replace h := ch_ifF e0 h
  by_cases e1 : v4 = 1
  · have h := ch_ifT e1 h
    refine ch_tableIn _ (off := 33) (tgt := 72) dX3_stepOnce_39 (by rw [e1]; decide) (by rw [e1]; decide) (by rw [e1]; rfl) rfl ?_
    obtain ⟨p9, hp10, h⟩ := ch_bd h
    refine ch_aload_n 0 (some m) dX3_stepOnce_72 rfl (ch_iload_n 1 _ dX3_stepOnce_73 rfl (ch_iv yX3_work prog_14_method_95_code 5 none (ci := 3) (q := (RX3, TX3, 109)) (b := m) (d' := 6) (av := [.int v3]) (rest := []) rfl dX3_stepOnce_74 q2275 q2277 rfl qs190 q2278 can_X3_work (Nat.le_of_ble_eq_true rfl) (Nat.le_of_ble_eq_true rfl) ch_put_tag (cp_kV (w1 := ch_put m w p9) (fun Q' hq => s_X3_work hp10 hq) ?_)))
    exact ch_goto 93 dX3_stepOnce_77 rfl (ch_FT.wk (ch_wS (ch_wN ch_w0)) (s_X3_stepOnce_93  h hk))
  replace h := ch_ifF e1 h
  by_cases e2 : v4 = 2
  · have h := ch_ifT e2 h
    refine ch_tableIn _ (off := 41) (tgt := 80) dX3_stepOnce_39 (by rw [e2]; decide) (by rw [e2]; decide) (by rw [e2]; rfl) rfl ?_
    obtain ⟨p11, hp12, h⟩ := ch_bd h
    refine ch_aload_n 0 (some m) dX3_stepOnce_80 rfl (ch_iload_n 1 _ dX3_stepOnce_81 rfl (ch_iv yX3_half prog_14_method_100_code 3 none (ci := 3) (q := (RX3, TX3, 109)) (b := m) (d' := 3) (av := [.int v3]) (rest := []) rfl dX3_stepOnce_82 q2298 q2300 rfl qs195 q2301 can_X3_half (Nat.le_of_ble_eq_true rfl) (Nat.le_of_ble_eq_true rfl) ch_put_tag (cp_kV (w1 := ch_put m w p11) (fun Q' hq => s_X3_half hp12 hq) ?_)))
    exact ch_goto 93 dX3_stepOnce_85 rfl (ch_FT.wk (ch_wS (ch_wN ch_w0)) (s_X3_stepOnce_93  h hk))
  replace h := ch_ifF e2 h
  refine ch_tableOut _ (tgt := 88) dX3_stepOnce_39 (by have t0 := ch_ne (n := 0) e0 rfl; have t1 := ch_ne (n := 1) e1 rfl; have t2 := ch_ne (n := 2) e2 rfl; omega) rfl ?_
  obtain ⟨p5, hp6, h⟩ := ch_bd h
  refine ch_aload_n 0 (some m) dX3_stepOnce_88 rfl (ch_iload_n 1 _ dX3_stepOnce_89 rfl (ch_iv yX3_done prog_14_method_101_code 4 none (ci := 3) (q := (RX3, TX3, 109)) (b := m) (d' := 7) (av := [.int v3]) (rest := []) rfl dX3_stepOnce_90 q2302 q2304 rfl qs196 q2305 can_X3_done (Nat.le_of_ble_eq_true rfl) (Nat.le_of_ble_eq_true rfl) ch_put_tag (cp_kV (w1 := ch_put m w p5) (fun Q' hq => s_X3_done hp6 hq) ?_)))
  exact ch_FT.wk (ch_wS (ch_wN ch_w0)) (s_X3_stepOnce_93  h hk)

theorem bX3_step_0 : ch_ck cX3_step 0 [42, 180, 1, 186, 153, 0, 15, 27, 133, 9, 20, 2, 177, 184, 0, 228] := ch_ckof (by decide +kernel)
theorem bX3_step_1 : ch_ck cX3_step 16 [154, 0, 5, 2, 172, 3, 61, 28, 27, 162, 0, 20, 42, 180, 2, 75] := ch_ckof (by decide +kernel)
theorem bX3_step_2 : ch_ck cX3_step 32 [154, 0, 13, 42, 182, 2, 179, 132, 2, 1, 167, 255, 237, 42, 180, 2] := ch_ckof (by decide +kernel)
theorem bX3_step_3 : ch_ck cX3_step 48 [75, 172] := ch_ckof (by decide +kernel)
theorem dX3_step_0 : decode cX3_step 0 = .ok (.aload_n 0, 1) := dz_42 (bX3_step_0 0 _ rfl)
theorem dX3_step_1 : decode cX3_step 1 = .ok (.getfield 442, 3) := dz_180 (bX3_step_0 1 _ rfl) (bX3_step_0 2 _ rfl) (bX3_step_0 3 _ rfl)
theorem dX3_step_4 : decode cX3_step 4 = .ok (.ifCond .eq 15, 3) := dz_153 (bX3_step_0 4 _ rfl) (bX3_step_0 5 _ rfl) (bX3_step_0 6 _ rfl)
theorem dX3_step_7 : decode cX3_step 7 = .ok (.iload_n 1, 1) := dz_27 (bX3_step_0 7 _ rfl)
theorem dX3_step_8 : decode cX3_step 8 = .ok (.i2l, 1) := dz_133 (bX3_step_0 8 _ rfl)
theorem dX3_step_9 : decode cX3_step 9 = .ok (.lconst 0, 1) := dz_9 (bX3_step_0 9 _ rfl)
theorem dX3_step_10 : decode cX3_step 10 = .ok (.ldc2_w 689, 3) := dz_20 (bX3_step_0 10 _ rfl) (bX3_step_0 11 _ rfl) (bX3_step_0 12 _ rfl)
theorem dX3_step_13 : decode cX3_step 13 = .ok (.invokestatic 228, 3) := dz_184 (bX3_step_0 13 _ rfl) (bX3_step_0 14 _ rfl) (bX3_step_0 15 _ rfl)
theorem dX3_step_16 : decode cX3_step 16 = .ok (.ifCond .ne 5, 3) := dz_154 (bX3_step_1 0 _ rfl) (bX3_step_1 1 _ rfl) (bX3_step_1 2 _ rfl)
theorem dX3_step_19 : decode cX3_step 19 = .ok (.iconst (-1), 1) := dz_2 (bX3_step_1 3 _ rfl)
theorem dX3_step_20 : decode cX3_step 20 = .ok (.ireturn, 1) := dz_172 (bX3_step_1 4 _ rfl)
theorem dX3_step_21 : decode cX3_step 21 = .ok (.iconst 0, 1) := dz_3 (bX3_step_1 5 _ rfl)
theorem dX3_step_22 : decode cX3_step 22 = .ok (.istore_n 2, 1) := dz_61 (bX3_step_1 6 _ rfl)
theorem dX3_step_23 : decode cX3_step 23 = .ok (.iload_n 2, 1) := dz_28 (bX3_step_1 7 _ rfl)
theorem dX3_step_24 : decode cX3_step 24 = .ok (.iload_n 1, 1) := dz_27 (bX3_step_1 8 _ rfl)
theorem dX3_step_25 : decode cX3_step 25 = .ok (.if_icmp .ge 20, 3) := dz_162 (bX3_step_1 9 _ rfl) (bX3_step_1 10 _ rfl) (bX3_step_1 11 _ rfl)
theorem dX3_step_28 : decode cX3_step 28 = .ok (.aload_n 0, 1) := dz_42 (bX3_step_1 12 _ rfl)
theorem dX3_step_29 : decode cX3_step 29 = .ok (.getfield 587, 3) := dz_180 (bX3_step_1 13 _ rfl) (bX3_step_1 14 _ rfl) (bX3_step_1 15 _ rfl)
theorem dX3_step_32 : decode cX3_step 32 = .ok (.ifCond .ne 13, 3) := dz_154 (bX3_step_2 0 _ rfl) (bX3_step_2 1 _ rfl) (bX3_step_2 2 _ rfl)
theorem dX3_step_35 : decode cX3_step 35 = .ok (.aload_n 0, 1) := dz_42 (bX3_step_2 3 _ rfl)
theorem dX3_step_36 : decode cX3_step 36 = .ok (.invokevirtual 691, 3) := dz_182 (bX3_step_2 4 _ rfl) (bX3_step_2 5 _ rfl) (bX3_step_2 6 _ rfl)
theorem dX3_step_39 : decode cX3_step 39 = .ok (.iinc 2 1, 3) := dz_132 (bX3_step_2 7 _ rfl) (bX3_step_2 8 _ rfl) (bX3_step_2 9 _ rfl)
theorem dX3_step_42 : decode cX3_step 42 = .ok (.goto (-19), 3) := dz_167 (bX3_step_2 10 _ rfl) (bX3_step_2 11 _ rfl) (bX3_step_2 12 _ rfl)
theorem dX3_step_45 : decode cX3_step 45 = .ok (.aload_n 0, 1) := dz_42 (bX3_step_2 13 _ rfl)
theorem dX3_step_46 : decode cX3_step 46 = .ok (.getfield 587, 3) := dz_180 (bX3_step_2 14 _ rfl) (bX3_step_2 15 _ rfl) (bX3_step_3 0 _ rfl)
theorem dX3_step_49 : decode cX3_step 49 = .ok (.ireturn, 1) := dz_172 (bX3_step_3 1 _ rfl)
def m_X3_step_23 (x1 : Int32) (x2 : Int32)  (σ : ch_S) : Option ((Int32 × ch_S) ⊕ (Int32 × ch_S)) := if x2 < x1 then (if (σ.1 fX3_over) = 0 then ((m_X3_stepOnce σ).bind fun p1 => some (.inl (x2 + 1, p1))) else (some (.inr ((σ.1 fX3_over, σ))))) else (some (.inr ((σ.1 fX3_over, σ))))
theorem s_X3_step_23 {g : State} {m : Nat} {w : ch_W} {x1 : Int32} {x2 : Int32} {σ : ch_S} {res : (Int32 × ch_S) ⊕ (Int32 × ch_S)} {Q : Outcome → ch_W → Prop} (h : m_X3_step_23 x1 x2 σ = some res) (hk : (ch_sm (fun s => ch_FT g false mX3_step 9 23 [some (va_rf (some m)), some (.int x1), some (.int s.1)] [] (ch_put m w s.2) Q) (fun r => ch_eI Q (r.1, ch_put m w r.2))) res) : ch_FT g false mX3_step 9 23 [some (va_rf (some m)), some (.int x1), some (.int x2)] [] (ch_put m w σ) Q := by
  unfold m_X3_step_23 at h
  refine ch_iload_n 2 _ dX3_step_23 rfl (ch_iload_n 1 _ dX3_step_24 rfl (cp_icmp_ge _ _ (tgt := 45) dX3_step_25 rfl h (fun h => ?_) (fun h => ?_)))
  · obtain rfl := Option.some.inj h
    exact ch_aload_n 0 (some m) dX3_step_45 rfl (mp_gI 70 dX3_step_46 fl_X3_587 rfl (ch_ireturn _ dX3_step_49 rfl rfl hk))
  · refine ch_aload_n 0 (some m) dX3_step_28 rfl (mp_gI 70 dX3_step_29 fl_X3_587 rfl (cp_if_ne _ (tgt := 45) dX3_step_32 rfl h (fun h => ?_) (fun h => ?_)))
    · obtain rfl := Option.some.inj h
      exact ch_aload_n 0 (some m) dX3_step_45 rfl (mp_gI 70 dX3_step_46 fl_X3_587 rfl (ch_ireturn _ dX3_step_49 rfl rfl hk))
    · obtain ⟨p1, hp2, h⟩ := ch_bd h
      refine ch_aload_n 0 (some m) dX3_step_35 rfl (ch_iv yX3_stepOnce prog_14_method_104_code 2 none (ci := 3) (q := (RX3, TX3, 109)) (b := m) (d' := 8) (av := []) (rest := []) rfl dX3_step_36 q2235 q2237 rfl qs180 q2238 can_X3_stepOnce (Nat.le_of_ble_eq_true rfl) (Nat.le_of_ble_eq_true rfl) ch_put_tag (cp_kV (w1 := ch_put m w p1) (fun Q' hq => s_X3_stepOnce hp2 hq) ?_))
      refine ch_iinc 2 _ _ (x2 + 1) (ls1 := [some (va_rf (some m)), some (.int x1), some (.int (x2 + 1))]) dX3_step_39 rfl rfl (Nat.le_of_ble_eq_true rfl) rfl (ch_goto 23 dX3_step_42 rfl (ch_FT.wk (ch_wS (ch_wS (ch_wS ch_w0))) ?_))
      obtain rfl := Option.some.inj h
      exact hk
theorem sl_X3_step_23 {g : State} {m : Nat} {w : ch_W} {x1 : Int32} {a : Int32 × ch_S} {res : Int32 × ch_S} {Q : Outcome → ch_W → Prop} (h : ch_loop (fun (s : Int32 × ch_S) => m_X3_step_23 x1 s.1 s.2) a = some res) (hk : (fun r => ch_eI Q (r.1, ch_put m w r.2)) res) : ch_FT g false mX3_step 9 23 [some (va_rf (some m)), some (.int x1), some (.int a.1)] [] (ch_put m w a.2) Q := by
  refine ch_loop_ind (fun (a : Int32 × ch_S) (r : Int32 × ch_S) => (fun r => ch_eI Q (r.1, ch_put m w r.2)) r → ch_FT g false mX3_step 9 23 [some (va_rf (some m)), some (.int x1), some (.int a.1)] [] (ch_put m w a.2) Q) ?_ ?_ a res h hk
  · intro a a2 b h1 ih hk
    exact s_X3_step_23  h1 (ih hk)
  · intro a b h1 hk
    exact s_X3_step_23  h1 hk

def m_X3_step (x1 : Int32) (σ : ch_S) : Option (Int32 × ch_S) := if (σ.1 fX3_hasRun) = 0 then (some (((-1), σ))) else ((m_X3_isIn (Int32.toInt64 x1) 0 20000 σ).bind fun v1 => if v1 = 0 then (some (((-1), σ))) else (ch_loop (fun (s : Int32 × ch_S) => m_X3_step_23 x1 s.1 s.2) (0, σ)))
theorem s_X3_step {g : State} {m : Nat} {w : ch_W} {x1 : Int32} {σ : ch_S} {res : Int32 × ch_S} {Q : Outcome → ch_W → Prop} (h : m_X3_step x1 σ = some res) (hk : (fun r => ch_eI Q (r.1, ch_put m w r.2)) res) : ch_CT g false yX3_step 9 [.ref m, .int x1] (ch_put m w σ) Q := by
  unfold m_X3_step at h
  refine ch_ctL mX3_step (ls := [some (va_rf (some m)), some (.int x1), none]) q2233 rfl (ch_lyr (r := some m) (ch_lyi ch_ly0)) (Nat.le_of_ble_eq_true rfl) rfl ?_
  refine ch_aload_n 0 (some m) dX3_step_0 rfl (mp_gI 69 dX3_step_1 fl_X3_442 rfl (cp_if_eq _ (tgt := 19) dX3_step_4 rfl h (fun h => ?_) (fun h => ?_)))
  · obtain rfl := Option.some.inj h
    exact ch_iconst _ (-1) dX3_step_19 rfl (ch_ireturn _ dX3_step_20 rfl rfl hk)
  · obtain ⟨v1, hp2, h⟩ := ch_bd h
    refine ch_iload_n 1 _ dX3_step_7 rfl (ch_i2l _ dX3_step_8 (ch_lconst _ 0 dX3_step_9 rfl (ch_ldc2 689 20000 dX3_step_10 q2234 (ch_is yX3_isIn prog_14_method_4_code 6 (some .boolean) (d' := 2) (av := [.long (Int32.toInt64 x1), .long 0, .long 20000]) (rest := []) rfl dX3_step_13 q1897 q1898 q206 q1899 can_X3_isIn (Nat.le_of_ble_eq_true rfl) (Nat.le_of_ble_eq_true rfl) (cp_kI (v := v1) (w1 := ch_put m w σ) (fun Q' hq => s_X3_isIn hp2 hq) ?_)))))
    refine cp_if_ne _ (tgt := 21) dX3_step_16 rfl h (fun h => ?_) (fun h => ?_)
    · exact ch_iconst _ 0 dX3_step_21 rfl (ch_istore_n 2 _ (ls1 := [some (va_rf (some m)), some (.int x1), some (.int 0)]) dX3_step_22 (Nat.le_of_ble_eq_true rfl) rfl (ch_FT.wk (ch_wS (ch_wS (ch_wS ch_w0))) (sl_X3_step_23  h hk)))
    · obtain rfl := Option.some.inj h
      exact ch_iconst _ (-1) dX3_step_19 rfl (ch_ireturn _ dX3_step_20 rfl rfl hk)

theorem bX3_result_0 : ch_ck cX3_result 0 [42, 180, 1, 186, 153, 0, 26, 42, 180, 2, 75, 4, 159, 0, 11, 42] := ch_ckof (by decide +kernel)
theorem bX3_result_1 : ch_ck cX3_result 16 [180, 2, 75, 5, 160, 0, 10, 42, 180, 2, 90, 167, 0, 4, 3, 172] := ch_ckof (by decide +kernel)
theorem dX3_result_0 : decode cX3_result 0 = .ok (.aload_n 0, 1) := dz_42 (bX3_result_0 0 _ rfl)
theorem dX3_result_1 : decode cX3_result 1 = .ok (.getfield 442, 3) := dz_180 (bX3_result_0 1 _ rfl) (bX3_result_0 2 _ rfl) (bX3_result_0 3 _ rfl)
theorem dX3_result_4 : decode cX3_result 4 = .ok (.ifCond .eq 26, 3) := dz_153 (bX3_result_0 4 _ rfl) (bX3_result_0 5 _ rfl) (bX3_result_0 6 _ rfl)
theorem dX3_result_7 : decode cX3_result 7 = .ok (.aload_n 0, 1) := dz_42 (bX3_result_0 7 _ rfl)
theorem dX3_result_8 : decode cX3_result 8 = .ok (.getfield 587, 3) := dz_180 (bX3_result_0 8 _ rfl) (bX3_result_0 9 _ rfl) (bX3_result_0 10 _ rfl)
theorem dX3_result_11 : decode cX3_result 11 = .ok (.iconst 1, 1) := dz_4 (bX3_result_0 11 _ rfl)
theorem dX3_result_12 : decode cX3_result 12 = .ok (.if_icmp .eq 11, 3) := dz_159 (bX3_result_0 12 _ rfl) (bX3_result_0 13 _ rfl) (bX3_result_0 14 _ rfl)
theorem dX3_result_15 : decode cX3_result 15 = .ok (.aload_n 0, 1) := dz_42 (bX3_result_0 15 _ rfl)
theorem dX3_result_16 : decode cX3_result 16 = .ok (.getfield 587, 3) := dz_180 (bX3_result_1 0 _ rfl) (bX3_result_1 1 _ rfl) (bX3_result_1 2 _ rfl)
theorem dX3_result_19 : decode cX3_result 19 = .ok (.iconst 2, 1) := dz_5 (bX3_result_1 3 _ rfl)
theorem dX3_result_20 : decode cX3_result 20 = .ok (.if_icmp .ne 10, 3) := dz_160 (bX3_result_1 4 _ rfl) (bX3_result_1 5 _ rfl) (bX3_result_1 6 _ rfl)
theorem dX3_result_23 : decode cX3_result 23 = .ok (.aload_n 0, 1) := dz_42 (bX3_result_1 7 _ rfl)
theorem dX3_result_24 : decode cX3_result 24 = .ok (.getfield 602, 3) := dz_180 (bX3_result_1 8 _ rfl) (bX3_result_1 9 _ rfl) (bX3_result_1 10 _ rfl)
theorem dX3_result_27 : decode cX3_result 27 = .ok (.goto 4, 3) := dz_167 (bX3_result_1 11 _ rfl) (bX3_result_1 12 _ rfl) (bX3_result_1 13 _ rfl)
theorem dX3_result_30 : decode cX3_result 30 = .ok (.iconst 0, 1) := dz_3 (bX3_result_1 14 _ rfl)
theorem dX3_result_31 : decode cX3_result 31 = .ok (.ireturn, 1) := dz_172 (bX3_result_1 15 _ rfl)
def m_X3_result  (σ : ch_S) : Option (Int32) := if (σ.1 fX3_hasRun) = 0 then (some (0)) else (if (σ.1 fX3_over) = 1 then (some (σ.1 fX3_ended)) else (if (σ.1 fX3_over) = 2 then (some (σ.1 fX3_ended)) else (some (0))))
theorem s_X3_result {g : State} {m : Nat} {w : ch_W} {σ : ch_S} {res : Int32} {Q : Outcome → ch_W → Prop} (h : m_X3_result  σ = some res) (hk : (fun r => ch_eI Q (r, ch_put m w σ)) res) : ch_CT g false yX3_result 2 [.ref m] (ch_put m w σ) Q := by
  unfold m_X3_result at h
  refine ch_ctL mX3_result (ls := [some (va_rf (some m))]) q2317 rfl (ch_lyr (r := some m) ch_ly0) (Nat.le_of_ble_eq_true rfl) rfl ?_
  refine ch_aload_n 0 (some m) dX3_result_0 rfl (mp_gI 69 dX3_result_1 fl_X3_442 rfl (cp_if_eq _ (tgt := 30) dX3_result_4 rfl h (fun h => ?_) (fun h => ?_)))
  · obtain rfl := Option.some.inj h
    exact ch_iconst _ 0 dX3_result_30 rfl (ch_ireturn _ dX3_result_31 rfl rfl hk)
  · refine ch_aload_n 0 (some m) dX3_result_7 rfl (mp_gI 70 dX3_result_8 fl_X3_587 rfl (ch_iconst _ 1 dX3_result_11 rfl (cp_icmp_eq _ _ (tgt := 23) dX3_result_12 rfl h (fun h => ?_) (fun h => ?_))))
    · obtain rfl := Option.some.inj h
      exact ch_aload_n 0 (some m) dX3_result_23 rfl (mp_gI 77 dX3_result_24 fl_X3_602 rfl (ch_goto 31 dX3_result_27 rfl (ch_ireturn _ dX3_result_31 rfl rfl hk)))
    · refine ch_aload_n 0 (some m) dX3_result_15 rfl (mp_gI 70 dX3_result_16 fl_X3_587 rfl (ch_iconst _ 2 dX3_result_19 rfl (cp_icmp_ne _ _ (tgt := 30) dX3_result_20 rfl h (fun h => ?_) (fun h => ?_))))
      · obtain rfl := Option.some.inj h
        exact ch_iconst _ 0 dX3_result_30 rfl (ch_ireturn _ dX3_result_31 rfl rfl hk)
      · obtain rfl := Option.some.inj h
        exact ch_aload_n 0 (some m) dX3_result_23 rfl (mp_gI 77 dX3_result_24 fl_X3_602 rfl (ch_goto 31 dX3_result_27 rfl (ch_ireturn _ dX3_result_31 rfl rfl hk)))

theorem bX3_output_0 : ch_ck cX3_output 0 [42, 180, 1, 186, 153, 0, 34, 27, 133, 9, 42, 180, 2, 145, 17, 1] := ch_ckof (by decide +kernel)
theorem bX3_output_1 : ch_ck cX3_output 16 [244, 184, 2, 182, 4, 100, 133, 184, 0, 228, 153, 0, 12, 42, 180, 0] := ch_ckof (by decide +kernel)
theorem bX3_output_2 : ch_ck cX3_output 32 [148, 27, 46, 167, 0, 4, 3, 172] := ch_ckof (by decide +kernel)
theorem dX3_output_0 : decode cX3_output 0 = .ok (.aload_n 0, 1) := dz_42 (bX3_output_0 0 _ rfl)
theorem dX3_output_1 : decode cX3_output 1 = .ok (.getfield 442, 3) := dz_180 (bX3_output_0 1 _ rfl) (bX3_output_0 2 _ rfl) (bX3_output_0 3 _ rfl)
theorem dX3_output_4 : decode cX3_output 4 = .ok (.ifCond .eq 34, 3) := dz_153 (bX3_output_0 4 _ rfl) (bX3_output_0 5 _ rfl) (bX3_output_0 6 _ rfl)
theorem dX3_output_7 : decode cX3_output 7 = .ok (.iload_n 1, 1) := dz_27 (bX3_output_0 7 _ rfl)
theorem dX3_output_8 : decode cX3_output 8 = .ok (.i2l, 1) := dz_133 (bX3_output_0 8 _ rfl)
theorem dX3_output_9 : decode cX3_output 9 = .ok (.lconst 0, 1) := dz_9 (bX3_output_0 9 _ rfl)
theorem dX3_output_10 : decode cX3_output 10 = .ok (.aload_n 0, 1) := dz_42 (bX3_output_0 10 _ rfl)
theorem dX3_output_11 : decode cX3_output 11 = .ok (.getfield 657, 3) := dz_180 (bX3_output_0 11 _ rfl) (bX3_output_0 12 _ rfl) (bX3_output_0 13 _ rfl)
theorem dX3_output_14 : decode cX3_output 14 = .ok (.sipush 500, 3) := dz_17 (bX3_output_0 14 _ rfl) (bX3_output_0 15 _ rfl) (bX3_output_1 0 _ rfl)
theorem dX3_output_17 : decode cX3_output 17 = .ok (.invokestatic 694, 3) := dz_184 (bX3_output_1 1 _ rfl) (bX3_output_1 2 _ rfl) (bX3_output_1 3 _ rfl)
theorem dX3_output_20 : decode cX3_output 20 = .ok (.iconst 1, 1) := dz_4 (bX3_output_1 4 _ rfl)
theorem dX3_output_21 : decode cX3_output 21 = .ok (.isub, 1) := dz_100 (bX3_output_1 5 _ rfl)
theorem dX3_output_22 : decode cX3_output 22 = .ok (.i2l, 1) := dz_133 (bX3_output_1 6 _ rfl)
theorem dX3_output_23 : decode cX3_output 23 = .ok (.invokestatic 228, 3) := dz_184 (bX3_output_1 7 _ rfl) (bX3_output_1 8 _ rfl) (bX3_output_1 9 _ rfl)
theorem dX3_output_26 : decode cX3_output 26 = .ok (.ifCond .eq 12, 3) := dz_153 (bX3_output_1 10 _ rfl) (bX3_output_1 11 _ rfl) (bX3_output_1 12 _ rfl)
theorem dX3_output_29 : decode cX3_output 29 = .ok (.aload_n 0, 1) := dz_42 (bX3_output_1 13 _ rfl)
theorem dX3_output_30 : decode cX3_output 30 = .ok (.getfield 148, 3) := dz_180 (bX3_output_1 14 _ rfl) (bX3_output_1 15 _ rfl) (bX3_output_2 0 _ rfl)
theorem dX3_output_33 : decode cX3_output 33 = .ok (.iload_n 1, 1) := dz_27 (bX3_output_2 1 _ rfl)
theorem dX3_output_34 : decode cX3_output 34 = .ok (.iaload, 1) := dz_46 (bX3_output_2 2 _ rfl)
theorem dX3_output_35 : decode cX3_output 35 = .ok (.goto 4, 3) := dz_167 (bX3_output_2 3 _ rfl) (bX3_output_2 4 _ rfl) (bX3_output_2 5 _ rfl)
theorem dX3_output_38 : decode cX3_output 38 = .ok (.iconst 0, 1) := dz_3 (bX3_output_2 6 _ rfl)
theorem dX3_output_39 : decode cX3_output 39 = .ok (.ireturn, 1) := dz_172 (bX3_output_2 7 _ rfl)
def m_X3_output (x1 : Int32) (σ : ch_S) : Option (Int32) := if (σ.1 fX3_hasRun) = 0 then (some (0)) else ((c_J12_min (σ.1 fX3_printed) 500 ).bind fun v1 => (m_X3_isIn (Int32.toInt64 x1) 0 (Int32.toInt64 (v1 - 1)) σ).bind fun v3 => if v3 = 0 then (some (0)) else ((ch_ma σ fX3_output x1).bind fun v5 => some (v5)))
theorem s_X3_output {g : State} {m : Nat} {w : ch_W} {x1 : Int32} {σ : ch_S} {res : Int32} {Q : Outcome → ch_W → Prop} (h : m_X3_output x1 σ = some res) (hk : (fun r => ch_eI Q (r, ch_put m w σ)) res) : ch_CT g false yX3_output 3 [.ref m, .int x1] (ch_put m w σ) Q := by
  unfold m_X3_output at h
  refine ch_ctL mX3_output (ls := [some (va_rf (some m)), some (.int x1)]) q2321 rfl (ch_lyr (r := some m) (ch_lyi ch_ly0)) (Nat.le_of_ble_eq_true rfl) rfl ?_
  refine ch_aload_n 0 (some m) dX3_output_0 rfl (mp_gI 69 dX3_output_1 fl_X3_442 rfl (cp_if_eq _ (tgt := 38) dX3_output_4 rfl h (fun h => ?_) (fun h => ?_)))
  · obtain rfl := Option.some.inj h
    exact ch_iconst _ 0 dX3_output_38 rfl (ch_ireturn _ dX3_output_39 rfl rfl hk)
  · obtain ⟨v1, hp2, h⟩ := ch_bd h
    refine ch_iload_n 1 _ dX3_output_7 rfl (ch_i2l _ dX3_output_8 (ch_lconst _ 0 dX3_output_9 rfl (ch_aload_n 0 (some m) dX3_output_10 rfl (mp_gI 78 dX3_output_11 fl_X3_657 rfl (ch_sipush _ 500 dX3_output_14 rfl (ch_is yJ12_min prog_21_method_69_code 2 (some .int) (d' := 2) (av := [.int (σ.1 fX3_printed), .int 500]) (rest := [.long 0, .long (Int32.toInt64 x1)]) rfl dX3_output_17 q2322 q684 q220 q685 can_J12_min (Nat.le_of_ble_eq_true rfl) (ch_hw (Nat.le_of_ble_eq_true rfl)) (cp_kI (v := v1) (w1 := ch_put m w σ) (fun Q' hq => s_J12_min hp2 hq) ?_)))))))
    obtain ⟨v3, hp4, h⟩ := ch_bd h
    refine ch_iconst _ 1 dX3_output_20 rfl (ch_isub _ _ dX3_output_21 (ch_i2l _ dX3_output_22 (ch_is yX3_isIn prog_14_method_4_code 6 (some .boolean) (d' := 2) (av := [.long (Int32.toInt64 x1), .long 0, .long (Int32.toInt64 (v1 - 1))]) (rest := []) rfl dX3_output_23 q1897 q1898 q206 q1899 can_X3_isIn (Nat.le_of_ble_eq_true rfl) (Nat.le_of_ble_eq_true rfl) (cp_kI (v := v3) (w1 := ch_put m w σ) (fun Q' hq => s_X3_isIn hp4 hq) ?_))))
    refine cp_if_eq _ (tgt := 38) dX3_output_26 rfl h (fun h => ?_) (fun h => ?_)
    · obtain rfl := Option.some.inj h
      exact ch_iconst _ 0 dX3_output_38 rfl (ch_ireturn _ dX3_output_39 rfl rfl hk)
    · refine ch_aload_n 0 (some m) dX3_output_29 rfl (mp_gA 79 dX3_output_30 fl_X3_148 rfl (ch_iload_n 1 _ dX3_output_33 rfl (mp_iald dX3_output_34 mk_79 h (fun v5 h => ?_))))
      obtain rfl := Option.some.inj h
      exact ch_goto 39 dX3_output_35 rfl (ch_ireturn _ dX3_output_39 rfl rfl hk)

theorem bX3_count_0 : ch_ck cX3_count 0 [27, 16, 6, 160, 0, 8, 42, 180, 2, 123, 172, 27, 16, 7, 160, 0] := ch_ckof (by decide +kernel)
theorem bX3_count_1 : ch_ck cX3_count 16 [8, 42, 180, 1, 179, 172, 27, 133, 9, 20, 2, 185, 184, 0, 228, 154] := ch_ckof (by decide +kernel)
theorem bX3_count_2 : ch_ck cX3_count 32 [0, 5, 2, 172, 42, 180, 1, 186, 154, 0, 5, 3, 172, 27, 170, 0] := ch_ckof (by decide +kernel)
theorem bX3_count_3 : ch_ck cX3_count 48 [0, 0, 0, 70, 0, 0, 0, 0, 0, 0, 0, 4, 0, 0, 0, 34] := ch_ckof (by decide +kernel)
theorem bX3_count_4 : ch_ck cX3_count 64 [0, 0, 0, 39, 0, 0, 0, 44, 0, 0, 0, 60, 0, 0, 0, 65] := ch_ckof (by decide +kernel)
theorem bX3_count_5 : ch_ck cX3_count 80 [42, 180, 2, 150, 172, 42, 180, 2, 69, 172, 42, 180, 2, 75, 154, 0] := ch_ckof (by decide +kernel)
theorem bX3_count_6 : ch_ck cX3_count 96 [10, 42, 182, 2, 63, 167, 0, 4, 3, 172, 42, 180, 2, 42, 172, 42] := ch_ckof (by decide +kernel)
theorem bX3_count_7 : ch_ck cX3_count 112 [180, 2, 145, 172, 42, 180, 2, 78, 172] := ch_ckof (by decide +kernel)
theorem dX3_count_0 : decode cX3_count 0 = .ok (.iload_n 1, 1) := dz_27 (bX3_count_0 0 _ rfl)
theorem dX3_count_1 : decode cX3_count 1 = .ok (.bipush 6, 2) := dz_16 (bX3_count_0 1 _ rfl) (bX3_count_0 2 _ rfl)
theorem dX3_count_3 : decode cX3_count 3 = .ok (.if_icmp .ne 8, 3) := dz_160 (bX3_count_0 3 _ rfl) (bX3_count_0 4 _ rfl) (bX3_count_0 5 _ rfl)
theorem dX3_count_6 : decode cX3_count 6 = .ok (.aload_n 0, 1) := dz_42 (bX3_count_0 6 _ rfl)
theorem dX3_count_7 : decode cX3_count 7 = .ok (.getfield 635, 3) := dz_180 (bX3_count_0 7 _ rfl) (bX3_count_0 8 _ rfl) (bX3_count_0 9 _ rfl)
theorem dX3_count_10 : decode cX3_count 10 = .ok (.ireturn, 1) := dz_172 (bX3_count_0 10 _ rfl)
theorem dX3_count_11 : decode cX3_count 11 = .ok (.iload_n 1, 1) := dz_27 (bX3_count_0 11 _ rfl)
theorem dX3_count_12 : decode cX3_count 12 = .ok (.bipush 7, 2) := dz_16 (bX3_count_0 12 _ rfl) (bX3_count_0 13 _ rfl)
theorem dX3_count_14 : decode cX3_count 14 = .ok (.if_icmp .ne 8, 3) := dz_160 (bX3_count_0 14 _ rfl) (bX3_count_0 15 _ rfl) (bX3_count_1 0 _ rfl)
theorem dX3_count_17 : decode cX3_count 17 = .ok (.aload_n 0, 1) := dz_42 (bX3_count_1 1 _ rfl)
theorem dX3_count_18 : decode cX3_count 18 = .ok (.getfield 435, 3) := dz_180 (bX3_count_1 2 _ rfl) (bX3_count_1 3 _ rfl) (bX3_count_1 4 _ rfl)
theorem dX3_count_21 : decode cX3_count 21 = .ok (.ireturn, 1) := dz_172 (bX3_count_1 5 _ rfl)
theorem dX3_count_22 : decode cX3_count 22 = .ok (.iload_n 1, 1) := dz_27 (bX3_count_1 6 _ rfl)
theorem dX3_count_23 : decode cX3_count 23 = .ok (.i2l, 1) := dz_133 (bX3_count_1 7 _ rfl)
theorem dX3_count_24 : decode cX3_count 24 = .ok (.lconst 0, 1) := dz_9 (bX3_count_1 8 _ rfl)
theorem dX3_count_25 : decode cX3_count 25 = .ok (.ldc2_w 697, 3) := dz_20 (bX3_count_1 9 _ rfl) (bX3_count_1 10 _ rfl) (bX3_count_1 11 _ rfl)
theorem dX3_count_28 : decode cX3_count 28 = .ok (.invokestatic 228, 3) := dz_184 (bX3_count_1 12 _ rfl) (bX3_count_1 13 _ rfl) (bX3_count_1 14 _ rfl)
theorem dX3_count_31 : decode cX3_count 31 = .ok (.ifCond .ne 5, 3) := dz_154 (bX3_count_1 15 _ rfl) (bX3_count_2 0 _ rfl) (bX3_count_2 1 _ rfl)
theorem dX3_count_34 : decode cX3_count 34 = .ok (.iconst (-1), 1) := dz_2 (bX3_count_2 2 _ rfl)
theorem dX3_count_35 : decode cX3_count 35 = .ok (.ireturn, 1) := dz_172 (bX3_count_2 3 _ rfl)
theorem dX3_count_36 : decode cX3_count 36 = .ok (.aload_n 0, 1) := dz_42 (bX3_count_2 4 _ rfl)
theorem dX3_count_37 : decode cX3_count 37 = .ok (.getfield 442, 3) := dz_180 (bX3_count_2 5 _ rfl) (bX3_count_2 6 _ rfl) (bX3_count_2 7 _ rfl)
theorem dX3_count_40 : decode cX3_count 40 = .ok (.ifCond .ne 5, 3) := dz_154 (bX3_count_2 8 _ rfl) (bX3_count_2 9 _ rfl) (bX3_count_2 10 _ rfl)
theorem dX3_count_43 : decode cX3_count 43 = .ok (.iconst 0, 1) := dz_3 (bX3_count_2 11 _ rfl)
theorem dX3_count_44 : decode cX3_count 44 = .ok (.ireturn, 1) := dz_172 (bX3_count_2 12 _ rfl)
theorem dX3_count_45 : decode cX3_count 45 = .ok (.iload_n 1, 1) := dz_27 (bX3_count_2 13 _ rfl)
theorem dX3_count_46 : decode cX3_count 46 = .ok (.tableswitch 70 0 4 #[34, 39, 44, 60, 65], 34) := by decide +kernel
theorem dX3_count_80 : decode cX3_count 80 = .ok (.aload_n 0, 1) := dz_42 (bX3_count_5 0 _ rfl)
theorem dX3_count_81 : decode cX3_count 81 = .ok (.getfield 662, 3) := dz_180 (bX3_count_5 1 _ rfl) (bX3_count_5 2 _ rfl) (bX3_count_5 3 _ rfl)
theorem dX3_count_84 : decode cX3_count 84 = .ok (.ireturn, 1) := dz_172 (bX3_count_5 4 _ rfl)
theorem dX3_count_85 : decode cX3_count 85 = .ok (.aload_n 0, 1) := dz_42 (bX3_count_5 5 _ rfl)
theorem dX3_count_86 : decode cX3_count 86 = .ok (.getfield 581, 3) := dz_180 (bX3_count_5 6 _ rfl) (bX3_count_5 7 _ rfl) (bX3_count_5 8 _ rfl)
theorem dX3_count_89 : decode cX3_count 89 = .ok (.ireturn, 1) := dz_172 (bX3_count_5 9 _ rfl)
theorem dX3_count_90 : decode cX3_count 90 = .ok (.aload_n 0, 1) := dz_42 (bX3_count_5 10 _ rfl)
theorem dX3_count_91 : decode cX3_count 91 = .ok (.getfield 587, 3) := dz_180 (bX3_count_5 11 _ rfl) (bX3_count_5 12 _ rfl) (bX3_count_5 13 _ rfl)
theorem dX3_count_94 : decode cX3_count 94 = .ok (.ifCond .ne 10, 3) := dz_154 (bX3_count_5 14 _ rfl) (bX3_count_5 15 _ rfl) (bX3_count_6 0 _ rfl)
theorem dX3_count_97 : decode cX3_count 97 = .ok (.aload_n 0, 1) := dz_42 (bX3_count_6 1 _ rfl)
theorem dX3_count_98 : decode cX3_count 98 = .ok (.invokevirtual 575, 3) := dz_182 (bX3_count_6 2 _ rfl) (bX3_count_6 3 _ rfl) (bX3_count_6 4 _ rfl)
theorem dX3_count_101 : decode cX3_count 101 = .ok (.goto 4, 3) := dz_167 (bX3_count_6 5 _ rfl) (bX3_count_6 6 _ rfl) (bX3_count_6 7 _ rfl)
theorem dX3_count_104 : decode cX3_count 104 = .ok (.iconst 0, 1) := dz_3 (bX3_count_6 8 _ rfl)
theorem dX3_count_105 : decode cX3_count 105 = .ok (.ireturn, 1) := dz_172 (bX3_count_6 9 _ rfl)
theorem dX3_count_106 : decode cX3_count 106 = .ok (.aload_n 0, 1) := dz_42 (bX3_count_6 10 _ rfl)
theorem dX3_count_107 : decode cX3_count 107 = .ok (.getfield 554, 3) := dz_180 (bX3_count_6 11 _ rfl) (bX3_count_6 12 _ rfl) (bX3_count_6 13 _ rfl)
theorem dX3_count_110 : decode cX3_count 110 = .ok (.ireturn, 1) := dz_172 (bX3_count_6 14 _ rfl)
theorem dX3_count_111 : decode cX3_count 111 = .ok (.aload_n 0, 1) := dz_42 (bX3_count_6 15 _ rfl)
theorem dX3_count_112 : decode cX3_count 112 = .ok (.getfield 657, 3) := dz_180 (bX3_count_7 0 _ rfl) (bX3_count_7 1 _ rfl) (bX3_count_7 2 _ rfl)
theorem dX3_count_115 : decode cX3_count 115 = .ok (.ireturn, 1) := dz_172 (bX3_count_7 3 _ rfl)
theorem dX3_count_116 : decode cX3_count 116 = .ok (.aload_n 0, 1) := dz_42 (bX3_count_7 4 _ rfl)
theorem dX3_count_117 : decode cX3_count 117 = .ok (.getfield 590, 3) := dz_180 (bX3_count_7 5 _ rfl) (bX3_count_7 6 _ rfl) (bX3_count_7 7 _ rfl)
theorem dX3_count_120 : decode cX3_count 120 = .ok (.ireturn, 1) := dz_172 (bX3_count_7 8 _ rfl)
def m_X3_count (x1 : Int32) (σ : ch_S) : Option (Int32 × ch_S) := if x1 = 6 then (some ((σ.1 fX3_inputs, σ))) else (if x1 = 7 then (some ((σ.1 fX3_taped, σ))) else ((m_X3_isIn (Int32.toInt64 x1) 0 5 σ).bind fun v1 => if v1 = 0 then (some (((-1), σ))) else (if (σ.1 fX3_hasRun) = 0 then (some ((0, σ))) else (if x1 = 0 then (some ((σ.1 fX3_steps, σ))) else (if x1 = 1 then (some ((σ.1 fX3_made, σ))) else (if x1 = 2 then (if (σ.1 fX3_over) = 0 then ((m_X3_marked σ).bind fun p3 => some ((p3.1, p3.2))) else (some ((0, σ)))) else (if x1 = 3 then (some ((σ.1 fX3_open, σ))) else (if x1 = 4 then (some ((σ.1 fX3_printed, σ))) else (some ((σ.1 fX3_thrown, σ)))))))))))
theorem s_X3_count {g : State} {m : Nat} {w : ch_W} {x1 : Int32} {σ : ch_S} {res : Int32 × ch_S} {Q : Outcome → ch_W → Prop} (h : m_X3_count x1 σ = some res) (hk : (fun r => ch_eI Q (r.1, ch_put m w r.2)) res) : ch_CT g false yX3_count 4 [.ref m, .int x1] (ch_put m w σ) Q := by
  unfold m_X3_count at h
  refine ch_ctL mX3_count (ls := [some (va_rf (some m)), some (.int x1)]) q2326 rfl (ch_lyr (r := some m) (ch_lyi ch_ly0)) (Nat.le_of_ble_eq_true rfl) rfl ?_
  refine ch_iload_n 1 _ dX3_count_0 rfl (ch_bipush _ 6 dX3_count_1 rfl (cp_icmp_ne _ _ (tgt := 11) dX3_count_3 rfl h (fun h => ?_) (fun h => ?_)))
  · refine ch_iload_n 1 _ dX3_count_11 rfl (ch_bipush _ 7 dX3_count_12 rfl (cp_icmp_ne _ _ (tgt := 22) dX3_count_14 rfl h (fun h => ?_) (fun h => ?_)))
    · obtain ⟨v1, hp2, h⟩ := ch_bd h
      refine ch_iload_n 1 _ dX3_count_22 rfl (ch_i2l _ dX3_count_23 (ch_lconst _ 0 dX3_count_24 rfl (ch_ldc2 697 5 dX3_count_25 q2327 (ch_is yX3_isIn prog_14_method_4_code 6 (some .boolean) (d' := 2) (av := [.long (Int32.toInt64 x1), .long 0, .long 5]) (rest := []) rfl dX3_count_28 q1897 q1898 q206 q1899 can_X3_isIn (Nat.le_of_ble_eq_true rfl) (Nat.le_of_ble_eq_true rfl) (cp_kI (v := v1) (w1 := ch_put m w σ) (fun Q' hq => s_X3_isIn hp2 hq) ?_)))))
      refine cp_if_ne _ (tgt := 36) dX3_count_31 rfl h (fun h => ?_) (fun h => ?_)
      · refine ch_aload_n 0 (some m) dX3_count_36 rfl (mp_gI 69 dX3_count_37 fl_X3_442 rfl (cp_if_ne _ (tgt := 45) dX3_count_40 rfl h (fun h => ?_) (fun h => ?_)))
        · refine ch_iload_n 1 _ dX3_count_45 rfl (?_)
          by_cases e0 : x1 = 0
          · have h := ch_ifT e0 h
            refine ch_tableIn _ (off := 34) (tgt := 80) dX3_count_46 (by rw [e0]; decide) (by rw [e0]; decide) (by rw [e0]; rfl) rfl ?_
            obtain rfl := Option.some.inj h
            exact ch_aload_n 0 (some m) dX3_count_80 rfl (mp_gI 75 dX3_count_81 fl_X3_662 rfl (ch_ireturn _ dX3_count_84 rfl rfl hk))
          replace h := ch_ifF e0 h
          by_cases e1 : x1 = 1
          · have h := ch_ifT e1 h
            refine ch_tableIn _ (off := 39) (tgt := 85) dX3_count_46 (by rw [e1]; decide) (by rw [e1]; decide) (by rw [e1]; rfl) rfl ?_
            obtain rfl := Option.some.inj h
            exact ch_aload_n 0 (some m) dX3_count_85 rfl (mp_gI 74 dX3_count_86 fl_X3_581 rfl (ch_ireturn _ dX3_count_89 rfl rfl hk))
          replace h := ch_ifF e1 h
          by_cases e2 : x1 = 2
          · have h := ch_ifT e2 h
            refine ch_tableIn _ (off := 44) (tgt := 90) dX3_count_46 (by rw [e2]; decide) (by rw [e2]; decide) (by rw [e2]; rfl) rfl ?_
            refine ch_aload_n 0 (some m) dX3_count_90 rfl (mp_gI 70 dX3_count_91 fl_X3_587 rfl (cp_if_ne _ (tgt := 104) dX3_count_94 rfl h (fun h => ?_) (fun h => ?_)))
            · obtain rfl := Option.some.inj h
              exact ch_iconst _ 0 dX3_count_104 rfl (ch_ireturn _ dX3_count_105 rfl rfl hk)
            · obtain ⟨p3, hp4, h⟩ := ch_bd h
              refine ch_aload_n 0 (some m) dX3_count_97 rfl (ch_iv yX3_marked prog_14_method_77_code 4 (some .int) (ci := 3) (q := (RX3, TX3, 109)) (b := m) (d' := 3) (av := []) (rest := []) rfl dX3_count_98 q2255 q2257 rfl qs185 q2258 can_X3_marked (Nat.le_of_ble_eq_true rfl) (Nat.le_of_ble_eq_true rfl) ch_put_tag (cp_kI (v := p3.1) (w1 := ch_put m w p3.2) (fun Q' hq => s_X3_marked hp4 hq) ?_))
              obtain rfl := Option.some.inj h
              exact ch_goto 105 dX3_count_101 rfl (ch_ireturn _ dX3_count_105 rfl rfl hk)
          replace h := ch_ifF e2 h
          by_cases e3 : x1 = 3
          · have h := ch_ifT e3 h
            refine ch_tableIn _ (off := 60) (tgt := 106) dX3_count_46 (by rw [e3]; decide) (by rw [e3]; decide) (by rw [e3]; rfl) rfl ?_
            obtain rfl := Option.some.inj h
            exact ch_aload_n 0 (some m) dX3_count_106 rfl (mp_gI 93 dX3_count_107 fl_X3_554 rfl (ch_ireturn _ dX3_count_110 rfl rfl hk))
          replace h := ch_ifF e3 h
          by_cases e4 : x1 = 4
          · have h := ch_ifT e4 h
            refine ch_tableIn _ (off := 65) (tgt := 111) dX3_count_46 (by rw [e4]; decide) (by rw [e4]; decide) (by rw [e4]; rfl) rfl ?_
            obtain rfl := Option.some.inj h
            exact ch_aload_n 0 (some m) dX3_count_111 rfl (mp_gI 78 dX3_count_112 fl_X3_657 rfl (ch_ireturn _ dX3_count_115 rfl rfl hk))
          replace h := ch_ifF e4 h
          refine ch_tableOut _ (tgt := 116) dX3_count_46 (by have t0 := ch_ne (n := 0) e0 rfl; have t1 := ch_ne (n := 1) e1 rfl; have t2 := ch_ne (n := 2) e2 rfl; have t3 := ch_ne (n := 3) e3 rfl; have t4 := ch_ne (n := 4) e4 rfl; omega) rfl ?_
          obtain rfl := Option.some.inj h
          exact ch_aload_n 0 (some m) dX3_count_116 rfl (mp_gI 76 dX3_count_117 fl_X3_590 rfl (ch_ireturn _ dX3_count_120 rfl rfl hk))
        · obtain rfl := Option.some.inj h
          exact ch_iconst _ 0 dX3_count_43 rfl (ch_ireturn _ dX3_count_44 rfl rfl hk)
      · obtain rfl := Option.some.inj h
        exact ch_iconst _ (-1) dX3_count_34 rfl (ch_ireturn _ dX3_count_35 rfl rfl hk)
    · obtain rfl := Option.some.inj h
      exact ch_aload_n 0 (some m) dX3_count_17 rfl (mp_gI 1 dX3_count_18 fl_X3_435 rfl (ch_ireturn _ dX3_count_21 rfl rfl hk))
  · obtain rfl := Option.some.inj h
    exact ch_aload_n 0 (some m) dX3_count_6 rfl (mp_gI 80 dX3_count_7 fl_X3_635 rfl (ch_ireturn _ dX3_count_10 rfl rfl hk))

