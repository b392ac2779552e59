/-! printed by tools/dec.py -/
set_option maxRecDepth 100000
theorem bX3_opens_0 : ch_ck cX3_opens 0 [42, 180, 1, 27, 156, 0, 16, 27, 153, 0, 12, 42, 180, 1, 36, 16] := ch_ckof (by decide +kernel)
theorem bX3_opens_1 : ch_ck cX3_opens 16 [30, 160, 0, 14, 42, 42, 180, 0, 246, 182, 1, 30, 61, 3, 172, 42] := ch_ckof (by decide +kernel)
theorem bX3_opens_2 : ch_ck cX3_opens 32 [89, 180, 1, 36, 4, 96, 181, 1, 36, 42, 182, 1, 33, 4, 172] := ch_ckof (by decide +kernel)
theorem dX3_opens_0 : decode cX3_opens 0 = .ok (.aload_n 0, 1) := dz_42 (bX3_opens_0 0 _ rfl)
theorem dX3_opens_1 : decode cX3_opens 1 = .ok (.getfield 283, 3) := dz_180 (bX3_opens_0 1 _ rfl) (bX3_opens_0 2 _ rfl) (bX3_opens_0 3 _ rfl)
theorem dX3_opens_4 : decode cX3_opens 4 = .ok (.ifCond .ge 16, 3) := dz_156 (bX3_opens_0 4 _ rfl) (bX3_opens_0 5 _ rfl) (bX3_opens_0 6 _ rfl)
theorem dX3_opens_7 : decode cX3_opens 7 = .ok (.iload_n 1, 1) := dz_27 (bX3_opens_0 7 _ rfl)
theorem dX3_opens_8 : decode cX3_opens 8 = .ok (.ifCond .eq 12, 3) := dz_153 (bX3_opens_0 8 _ rfl) (bX3_opens_0 9 _ rfl) (bX3_opens_0 10 _ rfl)
theorem dX3_opens_11 : decode cX3_opens 11 = .ok (.aload_n 0, 1) := dz_42 (bX3_opens_0 11 _ rfl)
theorem dX3_opens_12 : decode cX3_opens 12 = .ok (.getfield 292, 3) := dz_180 (bX3_opens_0 12 _ rfl) (bX3_opens_0 13 _ rfl) (bX3_opens_0 14 _ rfl)
theorem dX3_opens_15 : decode cX3_opens 15 = .ok (.bipush 30, 2) := dz_16 (bX3_opens_0 15 _ rfl) (bX3_opens_1 0 _ rfl)
theorem dX3_opens_17 : decode cX3_opens 17 = .ok (.if_icmp .ne 14, 3) := dz_160 (bX3_opens_1 1 _ rfl) (bX3_opens_1 2 _ rfl) (bX3_opens_1 3 _ rfl)
theorem dX3_opens_20 : decode cX3_opens 20 = .ok (.aload_n 0, 1) := dz_42 (bX3_opens_1 4 _ rfl)
theorem dX3_opens_21 : decode cX3_opens 21 = .ok (.aload_n 0, 1) := dz_42 (bX3_opens_1 5 _ rfl)
theorem dX3_opens_22 : decode cX3_opens 22 = .ok (.getfield 246, 3) := dz_180 (bX3_opens_1 6 _ rfl) (bX3_opens_1 7 _ rfl) (bX3_opens_1 8 _ rfl)
theorem dX3_opens_25 : decode cX3_opens 25 = .ok (.invokevirtual 286, 3) := dz_182 (bX3_opens_1 9 _ rfl) (bX3_opens_1 10 _ rfl) (bX3_opens_1 11 _ rfl)
theorem dX3_opens_28 : decode cX3_opens 28 = .ok (.istore_n 2, 1) := dz_61 (bX3_opens_1 12 _ rfl)
theorem dX3_opens_29 : decode cX3_opens 29 = .ok (.iconst 0, 1) := dz_3 (bX3_opens_1 13 _ rfl)
theorem dX3_opens_30 : decode cX3_opens 30 = .ok (.ireturn, 1) := dz_172 (bX3_opens_1 14 _ rfl)
theorem dX3_opens_31 : decode cX3_opens 31 = .ok (.aload_n 0, 1) := dz_42 (bX3_opens_1 15 _ rfl)
theorem dX3_opens_32 : decode cX3_opens 32 = .ok (.dup, 1) := dz_89 (bX3_opens_2 0 _ rfl)
theorem dX3_opens_33 : decode cX3_opens 33 = .ok (.getfield 292, 3) := dz_180 (bX3_opens_2 1 _ rfl) (bX3_opens_2 2 _ rfl) (bX3_opens_2 3 _ rfl)
theorem dX3_opens_36 : decode cX3_opens 36 = .ok (.iconst 1, 1) := dz_4 (bX3_opens_2 4 _ rfl)
theorem dX3_opens_37 : decode cX3_opens 37 = .ok (.iadd, 1) := dz_96 (bX3_opens_2 5 _ rfl)
theorem dX3_opens_38 : decode cX3_opens 38 = .ok (.putfield 292, 3) := dz_181 (bX3_opens_2 6 _ rfl) (bX3_opens_2 7 _ rfl) (bX3_opens_2 8 _ rfl)
theorem dX3_opens_41 : decode cX3_opens 41 = .ok (.aload_n 0, 1) := dz_42 (bX3_opens_2 9 _ rfl)
theorem dX3_opens_42 : decode cX3_opens 42 = .ok (.invokevirtual 289, 3) := dz_182 (bX3_opens_2 10 _ rfl) (bX3_opens_2 11 _ rfl) (bX3_opens_2 12 _ rfl)
theorem dX3_opens_45 : decode cX3_opens 45 = .ok (.iconst 1, 1) := dz_4 (bX3_opens_2 13 _ rfl)
theorem dX3_opens_46 : decode cX3_opens 46 = .ok (.ireturn, 1) := dz_172 (bX3_opens_2 14 _ rfl)
def m_X3_opens_20   (σ : ch_S) : Option (Int32 × ch_S) := (m_X3_fails (σ.1 fX3_wordFrom) σ).bind fun p1 => some ((0, p1.2))
theorem s_X3_opens_20 {g : State} {m : Nat} {w : ch_W} {σ : ch_S} {res : Int32 × ch_S} {Q : Outcome → ch_W → Prop} (h : m_X3_opens_20  σ = some res) (hk : (fun r => ch_eI Q (r.1, ch_put m w r.2)) res) : ch_FT g false mX3_opens 5 20 [some (va_rf (some m)), none, none] [] (ch_put m w σ) Q := by
  unfold m_X3_opens_20 at h
  obtain ⟨p1, hp2, h⟩ := ch_bd h
  refine ch_aload_n 0 (some m) dX3_opens_20 rfl (ch_aload_n 0 (some m) dX3_opens_21 rfl (mp_gI 6 dX3_opens_22 fl_X3_246 rfl (ch_iv yX3_fails prog_14_method_13_code 2 (some .int) (ci := 3) (q := (RX3, TX3, 109)) (b := m) (d' := 2) (av := [.int (σ.1 fX3_wordFrom)]) (rest := []) rfl dX3_opens_25 q1930 q1932 rfl qs112 q1933 can_X3_fails (Nat.le_of_ble_eq_true rfl) (Nat.le_of_ble_eq_true rfl) ch_put_tag (cp_kI (v := p1.1) (w1 := ch_put m w p1.2) (fun Q' hq => s_X3_fails hp2 hq) ?_))))
  obtain rfl := Option.some.inj h
  exact ch_istore_n 2 _ (ls1 := [some (va_rf (some m)), none, some (.int p1.1)]) dX3_opens_28 (Nat.le_of_ble_eq_true rfl) rfl (ch_iconst _ 0 dX3_opens_29 rfl (ch_ireturn _ dX3_opens_30 rfl rfl hk))

def m_X3_opens (x1 : Int32) (σ : ch_S) : Option (Int32 × ch_S) := if (σ.1 fX3_wrong) < 0 then (if x1 = 0 then (m_X3_opens_20 σ) else (if (σ.1 fX3_deep) = 30 then (m_X3_opens_20 σ) else ((ch_mI σ fX3_deep ((σ.1 fX3_deep) + 1)).bind fun σ1 => (m_X3_next σ1).bind fun p2 => some ((1, p2))))) else (m_X3_opens_20 σ)
theorem s_X3_opens {g : State} {m : Nat} {w : ch_W} {x1 : Int32} {σ : ch_S} {res : Int32 × ch_S} {Q : Outcome → ch_W → Prop} (h : m_X3_opens x1 σ = some res) (hk : (fun r => ch_eI Q (r.1, ch_put m w r.2)) res) : ch_CT g false yX3_opens 5 [.ref m, .int x1] (ch_put m w σ) Q := by
  unfold m_X3_opens at h
  refine ch_ctL mX3_opens (ls := [some (va_rf (some m)), some (.int x1), none]) q1949 rfl (ch_lyr (r := some m) (ch_lyi ch_ly0)) (Nat.le_of_ble_eq_true rfl) rfl ?_
  refine ch_aload_n 0 (some m) dX3_opens_0 rfl (mp_gI 9 dX3_opens_1 fl_X3_283 rfl (cp_if_ge _ (tgt := 20) dX3_opens_4 rfl h (fun h => ?_) (fun h => ?_)))
  · exact ch_FT.wk (ch_wS (ch_wN (ch_wN ch_w0))) (s_X3_opens_20  h hk)
  · refine ch_iload_n 1 _ dX3_opens_7 rfl (cp_if_eq _ (tgt := 20) dX3_opens_8 rfl h (fun h => ?_) (fun h => ?_))
    · exact ch_FT.wk (ch_wS (ch_wN (ch_wN ch_w0))) (s_X3_opens_20  h hk)
    · refine ch_aload_n 0 (some m) dX3_opens_11 rfl (mp_gI 10 dX3_opens_12 fl_X3_292 rfl (ch_bipush _ 30 dX3_opens_15 rfl (cp_icmp_ne _ _ (tgt := 31) dX3_opens_17 rfl h (fun h => ?_) (fun h => ?_))))
      · refine ch_aload_n 0 (some m) dX3_opens_31 rfl (ch_dup dX3_opens_32 (ch_cat _) (mp_gI 10 dX3_opens_33 fl_X3_292 rfl (ch_iconst _ 1 dX3_opens_36 rfl (ch_iadd _ _ dX3_opens_37 (mp_pI (k := 10) dX3_opens_38 fl_X3_292 rfl rfl rfl h (fun σ1 h => ?_))))))
        obtain ⟨p2, hp3, h⟩ := ch_bd h
        refine ch_aload_n 0 (some m) dX3_opens_41 rfl (ch_iv yX3_next prog_14_method_12_code 4 none (ci := 3) (q := (RX3, TX3, 109)) (b := m) (d' := 4) (av := []) (rest := []) rfl dX3_opens_42 q1884 q1886 rfl qs105 q1887 can_X3_next (Nat.le_of_ble_eq_true rfl) (Nat.le_of_ble_eq_true rfl) ch_put_tag (cp_kV (w1 := ch_put m w p2) (fun Q' hq => s_X3_next hp3 hq) ?_))
        obtain rfl := Option.some.inj h
        exact ch_iconst _ 1 dX3_opens_45 rfl (ch_ireturn _ dX3_opens_46 rfl rfl hk)
      · exact ch_FT.wk (ch_wS (ch_wN (ch_wN ch_w0))) (s_X3_opens_20  h hk)

theorem bX3_isType_0 : ch_ck cX3_isType 0 [42, 5, 182, 1, 74, 154, 0, 19, 42, 6, 182, 1, 74, 154, 0, 11] := ch_ckof (by decide +kernel)
theorem bX3_isType_1 : ch_ck cX3_isType 16 [42, 7, 182, 1, 74, 153, 0, 7, 4, 167, 0, 4, 3, 172] := ch_ckof (by decide +kernel)
theorem dX3_isType_0 : decode cX3_isType 0 = .ok (.aload_n 0, 1) := dz_42 (bX3_isType_0 0 _ rfl)
theorem dX3_isType_1 : decode cX3_isType 1 = .ok (.iconst 2, 1) := dz_5 (bX3_isType_0 1 _ rfl)
theorem dX3_isType_2 : decode cX3_isType 2 = .ok (.invokevirtual 330, 3) := dz_182 (bX3_isType_0 2 _ rfl) (bX3_isType_0 3 _ rfl) (bX3_isType_0 4 _ rfl)
theorem dX3_isType_5 : decode cX3_isType 5 = .ok (.ifCond .ne 19, 3) := dz_154 (bX3_isType_0 5 _ rfl) (bX3_isType_0 6 _ rfl) (bX3_isType_0 7 _ rfl)
theorem dX3_isType_8 : decode cX3_isType 8 = .ok (.aload_n 0, 1) := dz_42 (bX3_isType_0 8 _ rfl)
theorem dX3_isType_9 : decode cX3_isType 9 = .ok (.iconst 3, 1) := dz_6 (bX3_isType_0 9 _ rfl)
theorem dX3_isType_10 : decode cX3_isType 10 = .ok (.invokevirtual 330, 3) := dz_182 (bX3_isType_0 10 _ rfl) (bX3_isType_0 11 _ rfl) (bX3_isType_0 12 _ rfl)
theorem dX3_isType_13 : decode cX3_isType 13 = .ok (.ifCond .ne 11, 3) := dz_154 (bX3_isType_0 13 _ rfl) (bX3_isType_0 14 _ rfl) (bX3_isType_0 15 _ rfl)
theorem dX3_isType_16 : decode cX3_isType 16 = .ok (.aload_n 0, 1) := dz_42 (bX3_isType_1 0 _ rfl)
theorem dX3_isType_17 : decode cX3_isType 17 = .ok (.iconst 4, 1) := dz_7 (bX3_isType_1 1 _ rfl)
theorem dX3_isType_18 : decode cX3_isType 18 = .ok (.invokevirtual 330, 3) := dz_182 (bX3_isType_1 2 _ rfl) (bX3_isType_1 3 _ rfl) (bX3_isType_1 4 _ rfl)
theorem dX3_isType_21 : decode cX3_isType 21 = .ok (.ifCond .eq 7, 3) := dz_153 (bX3_isType_1 5 _ rfl) (bX3_isType_1 6 _ rfl) (bX3_isType_1 7 _ rfl)
theorem dX3_isType_24 : decode cX3_isType 24 = .ok (.iconst 1, 1) := dz_4 (bX3_isType_1 8 _ rfl)
theorem dX3_isType_25 : decode cX3_isType 25 = .ok (.goto 4, 3) := dz_167 (bX3_isType_1 9 _ rfl) (bX3_isType_1 10 _ rfl) (bX3_isType_1 11 _ rfl)
theorem dX3_isType_28 : decode cX3_isType 28 = .ok (.iconst 0, 1) := dz_3 (bX3_isType_1 12 _ rfl)
theorem dX3_isType_29 : decode cX3_isType 29 = .ok (.ireturn, 1) := dz_172 (bX3_isType_1 13 _ rfl)
def m_X3_isType  (σ : ch_S) : Option (Int32) := (m_X3_isKey 2 σ).bind fun v1 => if v1 = 0 then ((m_X3_isKey 3 σ).bind fun v3 => if v3 = 0 then ((m_X3_isKey 4 σ).bind fun v5 => if v5 = 0 then (some (0)) else (some (1))) else (some (1))) else (some (1))
theorem s_X3_isType {g : State} {m : Nat} {w : ch_W} {σ : ch_S} {res : Int32} {Q : Outcome → ch_W → Prop} (h : m_X3_isType  σ = some res) (hk : (fun r => ch_eI Q (r, ch_put m w σ)) res) : ch_CT g false yX3_isType 3 [.ref m] (ch_put m w σ) Q := by
  unfold m_X3_isType at h
  refine ch_ctL mX3_isType (ls := [some (va_rf (some m))]) q1961 rfl (ch_lyr (r := some m) ch_ly0) (Nat.le_of_ble_eq_true rfl) rfl ?_
  obtain ⟨v1, hp2, h⟩ := ch_bd h
  refine ch_aload_n 0 (some m) dX3_isType_0 rfl (ch_iconst _ 2 dX3_isType_1 rfl (ch_iv yX3_isKey prog_14_method_15_code 2 (some .boolean) (ci := 3) (q := (RX3, TX3, 109)) (b := m) (d' := 2) (av := [.int 2]) (rest := []) rfl dX3_isType_2 q1922 q1924 rfl qs110 q1925 can_X3_isKey (Nat.le_of_ble_eq_true rfl) (Nat.le_of_ble_eq_true rfl) ch_put_tag (cp_kI (v := v1) (w1 := ch_put m w σ) (fun Q' hq => s_X3_isKey hp2 hq) ?_)))
  refine cp_if_ne _ (tgt := 24) dX3_isType_5 rfl h (fun h => ?_) (fun h => ?_)
  · obtain rfl := Option.some.inj h
    exact ch_iconst _ 1 dX3_isType_24 rfl (ch_goto 29 dX3_isType_25 rfl (ch_ireturn _ dX3_isType_29 rfl rfl hk))
  · obtain ⟨v3, hp4, h⟩ := ch_bd h
    refine ch_aload_n 0 (some m) dX3_isType_8 rfl (ch_iconst _ 3 dX3_isType_9 rfl (ch_iv yX3_isKey prog_14_method_15_code 2 (some .boolean) (ci := 3) (q := (RX3, TX3, 109)) (b := m) (d' := 2) (av := [.int 3]) (rest := []) rfl dX3_isType_10 q1922 q1924 rfl qs110 q1925 can_X3_isKey (Nat.le_of_ble_eq_true rfl) (Nat.le_of_ble_eq_true rfl) ch_put_tag (cp_kI (v := v3) (w1 := ch_put m w σ) (fun Q' hq => s_X3_isKey hp4 hq) ?_)))
    refine cp_if_ne _ (tgt := 24) dX3_isType_13 rfl h (fun h => ?_) (fun h => ?_)
    · obtain rfl := Option.some.inj h
      exact ch_iconst _ 1 dX3_isType_24 rfl (ch_goto 29 dX3_isType_25 rfl (ch_ireturn _ dX3_isType_29 rfl rfl hk))
    · obtain ⟨v5, hp6, h⟩ := ch_bd h
      refine ch_aload_n 0 (some m) dX3_isType_16 rfl (ch_iconst _ 4 dX3_isType_17 rfl (ch_iv yX3_isKey prog_14_method_15_code 2 (some .boolean) (ci := 3) (q := (RX3, TX3, 109)) (b := m) (d' := 2) (av := [.int 4]) (rest := []) rfl dX3_isType_18 q1922 q1924 rfl qs110 q1925 can_X3_isKey (Nat.le_of_ble_eq_true rfl) (Nat.le_of_ble_eq_true rfl) ch_put_tag (cp_kI (v := v5) (w1 := ch_put m w σ) (fun Q' hq => s_X3_isKey hp6 hq) ?_)))
      refine cp_if_eq _ (tgt := 28) dX3_isType_21 rfl h (fun h => ?_) (fun h => ?_)
      · obtain rfl := Option.some.inj h
        exact ch_iconst _ 0 dX3_isType_28 rfl (ch_ireturn _ dX3_isType_29 rfl rfl hk)
      · obtain rfl := Option.some.inj h
        exact ch_iconst _ 1 dX3_isType_24 rfl (ch_goto 29 dX3_isType_25 rfl (ch_ireturn _ dX3_isType_29 rfl rfl hk))

theorem bX3_type_0 : ch_ck cX3_type 0 [42, 5, 182, 1, 74, 153, 0, 7, 3, 167, 0, 34, 42, 6, 182, 1] := ch_ckof (by decide +kernel)
theorem bX3_type_1 : ch_ck cX3_type 16 [74, 153, 0, 7, 4, 167, 0, 22, 42, 7, 182, 1, 74, 153, 0, 7] := ch_ckof (by decide +kernel)
theorem bX3_type_2 : ch_ck cX3_type 32 [5, 167, 0, 10, 16, 10, 42, 180, 1, 0, 96, 60, 42, 42, 182, 1] := ch_ckof (by decide +kernel)
theorem bX3_type_3 : ch_ck cX3_type 48 [119, 154, 0, 11, 42, 180, 1, 7, 5, 160, 0, 7, 4, 167, 0, 4] := ch_ckof (by decide +kernel)
theorem bX3_type_4 : ch_ck cX3_type 64 [3, 182, 1, 42, 61, 27, 172] := ch_ckof (by decide +kernel)
theorem dX3_type_0 : decode cX3_type 0 = .ok (.aload_n 0, 1) := dz_42 (bX3_type_0 0 _ rfl)
theorem dX3_type_1 : decode cX3_type 1 = .ok (.iconst 2, 1) := dz_5 (bX3_type_0 1 _ rfl)
theorem dX3_type_2 : decode cX3_type 2 = .ok (.invokevirtual 330, 3) := dz_182 (bX3_type_0 2 _ rfl) (bX3_type_0 3 _ rfl) (bX3_type_0 4 _ rfl)
theorem dX3_type_5 : decode cX3_type 5 = .ok (.ifCond .eq 7, 3) := dz_153 (bX3_type_0 5 _ rfl) (bX3_type_0 6 _ rfl) (bX3_type_0 7 _ rfl)
theorem dX3_type_8 : decode cX3_type 8 = .ok (.iconst 0, 1) := dz_3 (bX3_type_0 8 _ rfl)
theorem dX3_type_9 : decode cX3_type 9 = .ok (.goto 34, 3) := dz_167 (bX3_type_0 9 _ rfl) (bX3_type_0 10 _ rfl) (bX3_type_0 11 _ rfl)
theorem dX3_type_12 : decode cX3_type 12 = .ok (.aload_n 0, 1) := dz_42 (bX3_type_0 12 _ rfl)
theorem dX3_type_13 : decode cX3_type 13 = .ok (.iconst 3, 1) := dz_6 (bX3_type_0 13 _ rfl)
theorem dX3_type_14 : decode cX3_type 14 = .ok (.invokevirtual 330, 3) := dz_182 (bX3_type_0 14 _ rfl) (bX3_type_0 15 _ rfl) (bX3_type_1 0 _ rfl)
theorem dX3_type_17 : decode cX3_type 17 = .ok (.ifCond .eq 7, 3) := dz_153 (bX3_type_1 1 _ rfl) (bX3_type_1 2 _ rfl) (bX3_type_1 3 _ rfl)
theorem dX3_type_20 : decode cX3_type 20 = .ok (.iconst 1, 1) := dz_4 (bX3_type_1 4 _ rfl)
theorem dX3_type_21 : decode cX3_type 21 = .ok (.goto 22, 3) := dz_167 (bX3_type_1 5 _ rfl) (bX3_type_1 6 _ rfl) (bX3_type_1 7 _ rfl)
theorem dX3_type_24 : decode cX3_type 24 = .ok (.aload_n 0, 1) := dz_42 (bX3_type_1 8 _ rfl)
theorem dX3_type_25 : decode cX3_type 25 = .ok (.iconst 4, 1) := dz_7 (bX3_type_1 9 _ rfl)
theorem dX3_type_26 : decode cX3_type 26 = .ok (.invokevirtual 330, 3) := dz_182 (bX3_type_1 10 _ rfl) (bX3_type_1 11 _ rfl) (bX3_type_1 12 _ rfl)
theorem dX3_type_29 : decode cX3_type 29 = .ok (.ifCond .eq 7, 3) := dz_153 (bX3_type_1 13 _ rfl) (bX3_type_1 14 _ rfl) (bX3_type_1 15 _ rfl)
theorem dX3_type_32 : decode cX3_type 32 = .ok (.iconst 2, 1) := dz_5 (bX3_type_2 0 _ rfl)
theorem dX3_type_33 : decode cX3_type 33 = .ok (.goto 10, 3) := dz_167 (bX3_type_2 1 _ rfl) (bX3_type_2 2 _ rfl) (bX3_type_2 3 _ rfl)
theorem dX3_type_36 : decode cX3_type 36 = .ok (.bipush 10, 2) := dz_16 (bX3_type_2 4 _ rfl) (bX3_type_2 5 _ rfl)
theorem dX3_type_38 : decode cX3_type 38 = .ok (.aload_n 0, 1) := dz_42 (bX3_type_2 6 _ rfl)
theorem dX3_type_39 : decode cX3_type 39 = .ok (.getfield 256, 3) := dz_180 (bX3_type_2 7 _ rfl) (bX3_type_2 8 _ rfl) (bX3_type_2 9 _ rfl)
theorem dX3_type_42 : decode cX3_type 42 = .ok (.iadd, 1) := dz_96 (bX3_type_2 10 _ rfl)
theorem dX3_type_43 : decode cX3_type 43 = .ok (.istore_n 1, 1) := dz_60 (bX3_type_2 11 _ rfl)
theorem dX3_type_44 : decode cX3_type 44 = .ok (.aload_n 0, 1) := dz_42 (bX3_type_2 12 _ rfl)
theorem dX3_type_45 : decode cX3_type 45 = .ok (.aload_n 0, 1) := dz_42 (bX3_type_2 13 _ rfl)
theorem dX3_type_46 : decode cX3_type 46 = .ok (.invokevirtual 375, 3) := dz_182 (bX3_type_2 14 _ rfl) (bX3_type_2 15 _ rfl) (bX3_type_3 0 _ rfl)
theorem dX3_type_49 : decode cX3_type 49 = .ok (.ifCond .ne 11, 3) := dz_154 (bX3_type_3 1 _ rfl) (bX3_type_3 2 _ rfl) (bX3_type_3 3 _ rfl)
theorem dX3_type_52 : decode cX3_type 52 = .ok (.aload_n 0, 1) := dz_42 (bX3_type_3 4 _ rfl)
theorem dX3_type_53 : decode cX3_type 53 = .ok (.getfield 263, 3) := dz_180 (bX3_type_3 5 _ rfl) (bX3_type_3 6 _ rfl) (bX3_type_3 7 _ rfl)
theorem dX3_type_56 : decode cX3_type 56 = .ok (.iconst 2, 1) := dz_5 (bX3_type_3 8 _ rfl)
theorem dX3_type_57 : decode cX3_type 57 = .ok (.if_icmp .ne 7, 3) := dz_160 (bX3_type_3 9 _ rfl) (bX3_type_3 10 _ rfl) (bX3_type_3 11 _ rfl)
theorem dX3_type_60 : decode cX3_type 60 = .ok (.iconst 1, 1) := dz_4 (bX3_type_3 12 _ rfl)
theorem dX3_type_61 : decode cX3_type 61 = .ok (.goto 4, 3) := dz_167 (bX3_type_3 13 _ rfl) (bX3_type_3 14 _ rfl) (bX3_type_3 15 _ rfl)
theorem dX3_type_64 : decode cX3_type 64 = .ok (.iconst 0, 1) := dz_3 (bX3_type_4 0 _ rfl)
theorem dX3_type_65 : decode cX3_type 65 = .ok (.invokevirtual 298, 3) := dz_182 (bX3_type_4 1 _ rfl) (bX3_type_4 2 _ rfl) (bX3_type_4 3 _ rfl)
theorem dX3_type_68 : decode cX3_type 68 = .ok (.istore_n 2, 1) := dz_61 (bX3_type_4 4 _ rfl)
theorem dX3_type_69 : decode cX3_type 69 = .ok (.iload_n 1, 1) := dz_27 (bX3_type_4 5 _ rfl)
theorem dX3_type_70 : decode cX3_type 70 = .ok (.ireturn, 1) := dz_172 (bX3_type_4 6 _ rfl)
def m_X3_type_65 (x1 : Int32) (y0 : Int32) (σ : ch_S) : Option (Int32 × ch_S) := (m_X3_passes y0 σ).bind fun p1 => some ((x1, p1.2))
theorem s_X3_type_65 {g : State} {m : Nat} {w : ch_W} {x1 : Int32} {y0 : Int32} {σ : ch_S} {res : Int32 × ch_S} {Q : Outcome → ch_W → Prop} (h : m_X3_type_65 x1 y0 σ = some res) (hk : (fun r => ch_eI Q (r.1, ch_put m w r.2)) res) : ch_FT g false mX3_type 6 65 [none, some (.int x1), none] [.int y0, va_rf (some m)] (ch_put m w σ) Q := by
  unfold m_X3_type_65 at h
  obtain ⟨p1, hp2, h⟩ := ch_bd h
  refine ch_iv yX3_passes prog_14_method_16_code 3 (some .boolean) (ci := 3) (q := (RX3, TX3, 109)) (b := m) (d' := 5) (av := [.int y0]) (rest := []) rfl dX3_type_65 q1926 q1928 rfl qs111 q1929 can_X3_passes (Nat.le_of_ble_eq_true rfl) (Nat.le_of_ble_eq_true rfl) ch_put_tag (cp_kI (v := p1.1) (w1 := ch_put m w p1.2) (fun Q' hq => s_X3_passes hp2 hq) ?_)
  obtain rfl := Option.some.inj h
  exact ch_istore_n 2 _ (ls1 := [none, some (.int x1), some (.int p1.1)]) dX3_type_68 (Nat.le_of_ble_eq_true rfl) rfl (ch_iload_n 1 _ dX3_type_69 rfl (ch_ireturn _ dX3_type_70 rfl rfl hk))

def m_X3_type_60 (x1 : Int32)  (σ : ch_S) : Option (Int32 × ch_S) := m_X3_type_65 x1 1 σ
theorem s_X3_type_60 {g : State} {m : Nat} {w : ch_W} {x1 : Int32} {σ : ch_S} {res : Int32 × ch_S} {Q : Outcome → ch_W → Prop} (h : m_X3_type_60 x1 σ = some res) (hk : (fun r => ch_eI Q (r.1, ch_put m w r.2)) res) : ch_FT g false mX3_type 6 60 [none, some (.int x1), none] [va_rf (some m)] (ch_put m w σ) Q := by
  unfold m_X3_type_60 at h
  exact ch_iconst _ 1 dX3_type_60 rfl (ch_goto 65 dX3_type_61 rfl (ch_FT.wk (ch_wN (ch_wS (ch_wN ch_w0))) (s_X3_type_65  h hk)))

def m_X3_type_43  (y0 : Int32) (σ : ch_S) : Option (Int32 × ch_S) := (m_X3_isType σ).bind fun v1 => if v1 = 0 then (if (σ.1 fX3_word) = 2 then (m_X3_type_60 y0 σ) else (m_X3_type_65 y0 0 σ)) else (m_X3_type_60 y0 σ)
theorem s_X3_type_43 {g : State} {m : Nat} {w : ch_W} {y0 : Int32} {σ : ch_S} {res : Int32 × ch_S} {Q : Outcome → ch_W → Prop} (h : m_X3_type_43 y0 σ = some res) (hk : (fun r => ch_eI Q (r.1, ch_put m w r.2)) res) : ch_FT g false mX3_type 6 43 [some (va_rf (some m)), none, none] [.int y0] (ch_put m w σ) Q := by
  unfold m_X3_type_43 at h
  obtain ⟨v1, hp2, h⟩ := ch_bd h
  refine ch_istore_n 1 _ (ls1 := [some (va_rf (some m)), some (.int y0), none]) dX3_type_43 (Nat.le_of_ble_eq_true rfl) rfl (ch_aload_n 0 (some m) dX3_type_44 rfl (ch_aload_n 0 (some m) dX3_type_45 rfl (ch_iv yX3_isType prog_14_method_34_code 1 (some .boolean) (ci := 3) (q := (RX3, TX3, 109)) (b := m) (d' := 3) (av := []) (rest := [va_rf (some m)]) rfl dX3_type_46 q1958 q1960 rfl qs119 q1961 can_X3_isType (Nat.le_of_ble_eq_true rfl) (ch_hw (Nat.le_of_ble_eq_true rfl)) ch_put_tag (cp_kI (v := v1) (w1 := ch_put m w σ) (fun Q' hq => s_X3_isType hp2 hq) ?_))))
  refine cp_if_ne _ (tgt := 60) dX3_type_49 rfl h (fun h => ?_) (fun h => ?_)
  · exact ch_FT.wk (ch_wN (ch_wS (ch_wN ch_w0))) (s_X3_type_60  h hk)
  · refine ch_aload_n 0 (some m) dX3_type_52 rfl (mp_gI 5 dX3_type_53 fl_X3_263 rfl (ch_iconst _ 2 dX3_type_56 rfl (cp_icmp_ne _ _ (tgt := 64) dX3_type_57 rfl h (fun h => ?_) (fun h => ?_))))
    · exact ch_iconst _ 0 dX3_type_64 rfl (ch_FT.wk (ch_wN (ch_wS (ch_wN ch_w0))) (s_X3_type_65  h hk))
    · exact ch_FT.wk (ch_wN (ch_wS (ch_wN ch_w0))) (s_X3_type_60  h hk)

def m_X3_type  (σ : ch_S) : Option (Int32 × ch_S) := (m_X3_isKey 2 σ).bind fun v1 => if v1 = 0 then ((m_X3_isKey 3 σ).bind fun v3 => if v3 = 0 then ((m_X3_isKey 4 σ).bind fun v5 => if v5 = 0 then (m_X3_type_43 (10 + (σ.1 fX3_wordValue)) σ) else (m_X3_type_43 2 σ)) else (m_X3_type_43 1 σ)) else (m_X3_type_43 0 σ)
theorem s_X3_type {g : State} {m : Nat} {w : ch_W} {σ : ch_S} {res : Int32 × ch_S} {Q : Outcome → ch_W → Prop} (h : m_X3_type  σ = some res) (hk : (fun r => ch_eI Q (r.1, ch_put m w r.2)) res) : ch_CT g false yX3_type 6 [.ref m] (ch_put m w σ) Q := by
  unfold m_X3_type at h
  refine ch_ctL mX3_type (ls := [some (va_rf (some m)), none, none]) q1957 rfl (ch_lyr (r := some m) ch_ly0) (Nat.le_of_ble_eq_true rfl) rfl ?_
  obtain ⟨v1, hp2, h⟩ := ch_bd h
  refine ch_aload_n 0 (some m) dX3_type_0 rfl (ch_iconst _ 2 dX3_type_1 rfl (ch_iv yX3_isKey prog_14_method_15_code 2 (some .boolean) (ci := 3) (q := (RX3, TX3, 109)) (b := m) (d' := 2) (av := [.int 2]) (rest := []) rfl dX3_type_2 q1922 q1924 rfl qs110 q1925 can_X3_isKey (Nat.le_of_ble_eq_true rfl) (Nat.le_of_ble_eq_true rfl) ch_put_tag (cp_kI (v := v1) (w1 := ch_put m w σ) (fun Q' hq => s_X3_isKey hp2 hq) ?_)))
  refine cp_if_eq _ (tgt := 12) dX3_type_5 rfl h (fun h => ?_) (fun h => ?_)
  · obtain ⟨v3, hp4, h⟩ := ch_bd h
    refine ch_aload_n 0 (some m) dX3_type_12 rfl (ch_iconst _ 3 dX3_type_13 rfl (ch_iv yX3_isKey prog_14_method_15_code 2 (some .boolean) (ci := 3) (q := (RX3, TX3, 109)) (b := m) (d' := 2) (av := [.int 3]) (rest := []) rfl dX3_type_14 q1922 q1924 rfl qs110 q1925 can_X3_isKey (Nat.le_of_ble_eq_true rfl) (Nat.le_of_ble_eq_true rfl) ch_put_tag (cp_kI (v := v3) (w1 := ch_put m w σ) (fun Q' hq => s_X3_isKey hp4 hq) ?_)))
    refine cp_if_eq _ (tgt := 24) dX3_type_17 rfl h (fun h => ?_) (fun h => ?_)
    · obtain ⟨v5, hp6, h⟩ := ch_bd h
      refine ch_aload_n 0 (some m) dX3_type_24 rfl (ch_iconst _ 4 dX3_type_25 rfl (ch_iv yX3_isKey prog_14_method_15_code 2 (some .boolean) (ci := 3) (q := (RX3, TX3, 109)) (b := m) (d' := 2) (av := [.int 4]) (rest := []) rfl dX3_type_26 q1922 q1924 rfl qs110 q1925 can_X3_isKey (Nat.le_of_ble_eq_true rfl) (Nat.le_of_ble_eq_true rfl) ch_put_tag (cp_kI (v := v5) (w1 := ch_put m w σ) (fun Q' hq => s_X3_isKey hp6 hq) ?_)))
      refine cp_if_eq _ (tgt := 36) dX3_type_29 rfl h (fun h => ?_) (fun h => ?_)
      · exact ch_bipush _ 10 dX3_type_36 rfl (ch_aload_n 0 (some m) dX3_type_38 rfl (mp_gI 8 dX3_type_39 fl_X3_256 rfl (ch_iadd _ _ dX3_type_42 (ch_FT.wk (ch_wS (ch_wN (ch_wN ch_w0))) (s_X3_type_43  h hk)))))
      · exact ch_iconst _ 2 dX3_type_32 rfl (ch_goto 43 dX3_type_33 rfl (ch_FT.wk (ch_wS (ch_wN (ch_wN ch_w0))) (s_X3_type_43  h hk)))
    · exact ch_iconst _ 1 dX3_type_20 rfl (ch_goto 43 dX3_type_21 rfl (ch_FT.wk (ch_wS (ch_wN (ch_wN ch_w0))) (s_X3_type_43  h hk)))
  · exact ch_iconst _ 0 dX3_type_8 rfl (ch_goto 43 dX3_type_9 rfl (ch_FT.wk (ch_wS (ch_wN (ch_wN ch_w0))) (s_X3_type_43  h hk)))

theorem bX3_closes_0 : ch_ck cX3_closes 0 [42, 42, 27, 182, 1, 39, 182, 1, 42, 153, 0, 13, 42, 89, 180, 1] := ch_ckof (by decide +kernel)
theorem bX3_closes_1 : ch_ck cX3_closes 16 [36, 4, 100, 181, 1, 36, 177] := ch_ckof (by decide +kernel)
theorem dX3_closes_0 : decode cX3_closes 0 = .ok (.aload_n 0, 1) := dz_42 (bX3_closes_0 0 _ rfl)
theorem dX3_closes_1 : decode cX3_closes 1 = .ok (.aload_n 0, 1) := dz_42 (bX3_closes_0 1 _ rfl)
theorem dX3_closes_2 : decode cX3_closes 2 = .ok (.iload_n 1, 1) := dz_27 (bX3_closes_0 2 _ rfl)
theorem dX3_closes_3 : decode cX3_closes 3 = .ok (.invokevirtual 295, 3) := dz_182 (bX3_closes_0 3 _ rfl) (bX3_closes_0 4 _ rfl) (bX3_closes_0 5 _ rfl)
theorem dX3_closes_6 : decode cX3_closes 6 = .ok (.invokevirtual 298, 3) := dz_182 (bX3_closes_0 6 _ rfl) (bX3_closes_0 7 _ rfl) (bX3_closes_0 8 _ rfl)
theorem dX3_closes_9 : decode cX3_closes 9 = .ok (.ifCond .eq 13, 3) := dz_153 (bX3_closes_0 9 _ rfl) (bX3_closes_0 10 _ rfl) (bX3_closes_0 11 _ rfl)
theorem dX3_closes_12 : decode cX3_closes 12 = .ok (.aload_n 0, 1) := dz_42 (bX3_closes_0 12 _ rfl)
theorem dX3_closes_13 : decode cX3_closes 13 = .ok (.dup, 1) := dz_89 (bX3_closes_0 13 _ rfl)
theorem dX3_closes_14 : decode cX3_closes 14 = .ok (.getfield 292, 3) := dz_180 (bX3_closes_0 14 _ rfl) (bX3_closes_0 15 _ rfl) (bX3_closes_1 0 _ rfl)
theorem dX3_closes_17 : decode cX3_closes 17 = .ok (.iconst 1, 1) := dz_4 (bX3_closes_1 1 _ rfl)
theorem dX3_closes_18 : decode cX3_closes 18 = .ok (.isub, 1) := dz_100 (bX3_closes_1 2 _ rfl)
theorem dX3_closes_19 : decode cX3_closes 19 = .ok (.putfield 292, 3) := dz_181 (bX3_closes_1 3 _ rfl) (bX3_closes_1 4 _ rfl) (bX3_closes_1 5 _ rfl)
theorem dX3_closes_22 : decode cX3_closes 22 = .ok (.return_, 1) := dz_177 (bX3_closes_1 6 _ rfl)
def m_X3_closes (x1 : Int32) (σ : ch_S) : Option (ch_S) := (m_X3_isSign x1 σ).bind fun v1 => (m_X3_passes v1 σ).bind fun p3 => if p3.1 = 0 then (some (p3.2)) else ((ch_mI p3.2 fX3_deep ((p3.2.1 fX3_deep) - 1)).bind fun σ5 => some (σ5))
theorem s_X3_closes {g : State} {m : Nat} {w : ch_W} {x1 : Int32} {σ : ch_S} {res : ch_S} {Q : Outcome → ch_W → Prop} (h : m_X3_closes x1 σ = some res) (hk : (fun r => ch_eV Q (ch_put m w r)) res) : ch_CT g false yX3_closes 6 [.ref m, .int x1] (ch_put m w σ) Q := by
  unfold m_X3_closes at h
  refine ch_ctL mX3_closes (ls := [some (va_rf (some m)), some (.int x1)]) q1965 rfl (ch_lyr (r := some m) (ch_lyi ch_ly0)) (Nat.le_of_ble_eq_true rfl) rfl ?_
  obtain ⟨v1, hp2, h⟩ := ch_bd h
  refine ch_aload_n 0 (some m) dX3_closes_0 rfl (ch_aload_n 0 (some m) dX3_closes_1 rfl (ch_iload_n 1 _ dX3_closes_2 rfl (ch_iv yX3_isSign prog_14_method_14_code 2 (some .boolean) (ci := 3) (q := (RX3, TX3, 109)) (b := m) (d' := 2) (av := [.int x1]) (rest := [va_rf (some m)]) rfl dX3_closes_3 q1942 q1944 rfl qs115 q1945 can_X3_isSign (Nat.le_of_ble_eq_true rfl) (ch_hw (Nat.le_of_ble_eq_true rfl)) ch_put_tag (cp_kI (v := v1) (w1 := ch_put m w σ) (fun Q' hq => s_X3_isSign hp2 hq) ?_))))
  obtain ⟨p3, hp4, h⟩ := ch_bd h
  refine ch_iv yX3_passes prog_14_method_16_code 3 (some .boolean) (ci := 3) (q := (RX3, TX3, 109)) (b := m) (d' := 5) (av := [.int v1]) (rest := []) rfl dX3_closes_6 q1926 q1928 rfl qs111 q1929 can_X3_passes (Nat.le_of_ble_eq_true rfl) (Nat.le_of_ble_eq_true rfl) ch_put_tag (cp_kI (v := p3.1) (w1 := ch_put m w p3.2) (fun Q' hq => s_X3_passes hp4 hq) ?_)
  refine cp_if_eq _ (tgt := 22) dX3_closes_9 rfl h (fun h => ?_) (fun h => ?_)
  · obtain rfl := Option.some.inj h
    exact ch_return dX3_closes_22 rfl hk
  · refine ch_aload_n 0 (some m) dX3_closes_12 rfl (ch_dup dX3_closes_13 (ch_cat _) (mp_gI 10 dX3_closes_14 fl_X3_292 rfl (ch_iconst _ 1 dX3_closes_17 rfl (ch_isub _ _ dX3_closes_18 (mp_pI (k := 10) dX3_closes_19 fl_X3_292 rfl rfl rfl h (fun σ5 h => ?_))))))
    obtain rfl := Option.some.inj h
    exact ch_return dX3_closes_22 rfl hk

theorem bX3_isNameAhead_0 : ch_ck cX3_isNameAhead 0 [42, 180, 0, 253, 60, 42, 180, 1, 7, 61, 42, 180, 0, 246, 62, 42] := ch_ckof (by decide +kernel)
theorem bX3_isNameAhead_1 : ch_ck cX3_isNameAhead 16 [180, 0, 243, 54, 4, 42, 180, 1, 0, 54, 5, 42, 180, 0, 221, 54] := ch_ckof (by decide +kernel)
theorem bX3_isNameAhead_2 : ch_ck cX3_isNameAhead 32 [6, 42, 182, 1, 33, 42, 180, 1, 7, 5, 160, 0, 7, 4, 167, 0] := ch_ckof (by decide +kernel)
theorem bX3_isNameAhead_3 : ch_ck cX3_isNameAhead 48 [4, 3, 54, 7, 42, 27, 181, 0, 253, 42, 28, 181, 1, 7, 42, 29] := ch_ckof (by decide +kernel)
theorem bX3_isNameAhead_4 : ch_ck cX3_isNameAhead 64 [181, 0, 246, 42, 21, 4, 181, 0, 243, 42, 21, 5, 181, 1, 0, 42] := ch_ckof (by decide +kernel)
theorem bX3_isNameAhead_5 : ch_ck cX3_isNameAhead 80 [21, 6, 181, 0, 221, 21, 7, 172] := ch_ckof (by decide +kernel)
theorem dX3_isNameAhead_0 : decode cX3_isNameAhead 0 = .ok (.aload_n 0, 1) := dz_42 (bX3_isNameAhead_0 0 _ rfl)
theorem dX3_isNameAhead_1 : decode cX3_isNameAhead 1 = .ok (.getfield 253, 3) := dz_180 (bX3_isNameAhead_0 1 _ rfl) (bX3_isNameAhead_0 2 _ rfl) (bX3_isNameAhead_0 3 _ rfl)
theorem dX3_isNameAhead_4 : decode cX3_isNameAhead 4 = .ok (.istore_n 1, 1) := dz_60 (bX3_isNameAhead_0 4 _ rfl)
theorem dX3_isNameAhead_5 : decode cX3_isNameAhead 5 = .ok (.aload_n 0, 1) := dz_42 (bX3_isNameAhead_0 5 _ rfl)
theorem dX3_isNameAhead_6 : decode cX3_isNameAhead 6 = .ok (.getfield 263, 3) := dz_180 (bX3_isNameAhead_0 6 _ rfl) (bX3_isNameAhead_0 7 _ rfl) (bX3_isNameAhead_0 8 _ rfl)
theorem dX3_isNameAhead_9 : decode cX3_isNameAhead 9 = .ok (.istore_n 2, 1) := dz_61 (bX3_isNameAhead_0 9 _ rfl)
theorem dX3_isNameAhead_10 : decode cX3_isNameAhead 10 = .ok (.aload_n 0, 1) := dz_42 (bX3_isNameAhead_0 10 _ rfl)
theorem dX3_isNameAhead_11 : decode cX3_isNameAhead 11 = .ok (.getfield 246, 3) := dz_180 (bX3_isNameAhead_0 11 _ rfl) (bX3_isNameAhead_0 12 _ rfl) (bX3_isNameAhead_0 13 _ rfl)
theorem dX3_isNameAhead_14 : decode cX3_isNameAhead 14 = .ok (.istore_n 3, 1) := dz_62 (bX3_isNameAhead_0 14 _ rfl)
theorem dX3_isNameAhead_15 : decode cX3_isNameAhead 15 = .ok (.aload_n 0, 1) := dz_42 (bX3_isNameAhead_0 15 _ rfl)
theorem dX3_isNameAhead_16 : decode cX3_isNameAhead 16 = .ok (.getfield 243, 3) := dz_180 (bX3_isNameAhead_1 0 _ rfl) (bX3_isNameAhead_1 1 _ rfl) (bX3_isNameAhead_1 2 _ rfl)
theorem dX3_isNameAhead_19 : decode cX3_isNameAhead 19 = .ok (.istore 4, 2) := dz_54 (bX3_isNameAhead_1 3 _ rfl) (bX3_isNameAhead_1 4 _ rfl)
theorem dX3_isNameAhead_21 : decode cX3_isNameAhead 21 = .ok (.aload_n 0, 1) := dz_42 (bX3_isNameAhead_1 5 _ rfl)
theorem dX3_isNameAhead_22 : decode cX3_isNameAhead 22 = .ok (.getfield 256, 3) := dz_180 (bX3_isNameAhead_1 6 _ rfl) (bX3_isNameAhead_1 7 _ rfl) (bX3_isNameAhead_1 8 _ rfl)
theorem dX3_isNameAhead_25 : decode cX3_isNameAhead 25 = .ok (.istore 5, 2) := dz_54 (bX3_isNameAhead_1 9 _ rfl) (bX3_isNameAhead_1 10 _ rfl)
theorem dX3_isNameAhead_27 : decode cX3_isNameAhead 27 = .ok (.aload_n 0, 1) := dz_42 (bX3_isNameAhead_1 11 _ rfl)
theorem dX3_isNameAhead_28 : decode cX3_isNameAhead 28 = .ok (.getfield 221, 3) := dz_180 (bX3_isNameAhead_1 12 _ rfl) (bX3_isNameAhead_1 13 _ rfl) (bX3_isNameAhead_1 14 _ rfl)
theorem dX3_isNameAhead_31 : decode cX3_isNameAhead 31 = .ok (.istore 6, 2) := dz_54 (bX3_isNameAhead_1 15 _ rfl) (bX3_isNameAhead_2 0 _ rfl)
theorem dX3_isNameAhead_33 : decode cX3_isNameAhead 33 = .ok (.aload_n 0, 1) := dz_42 (bX3_isNameAhead_2 1 _ rfl)
theorem dX3_isNameAhead_34 : decode cX3_isNameAhead 34 = .ok (.invokevirtual 289, 3) := dz_182 (bX3_isNameAhead_2 2 _ rfl) (bX3_isNameAhead_2 3 _ rfl) (bX3_isNameAhead_2 4 _ rfl)
theorem dX3_isNameAhead_37 : decode cX3_isNameAhead 37 = .ok (.aload_n 0, 1) := dz_42 (bX3_isNameAhead_2 5 _ rfl)
theorem dX3_isNameAhead_38 : decode cX3_isNameAhead 38 = .ok (.getfield 263, 3) := dz_180 (bX3_isNameAhead_2 6 _ rfl) (bX3_isNameAhead_2 7 _ rfl) (bX3_isNameAhead_2 8 _ rfl)
theorem dX3_isNameAhead_41 : decode cX3_isNameAhead 41 = .ok (.iconst 2, 1) := dz_5 (bX3_isNameAhead_2 9 _ rfl)
theorem dX3_isNameAhead_42 : decode cX3_isNameAhead 42 = .ok (.if_icmp .ne 7, 3) := dz_160 (bX3_isNameAhead_2 10 _ rfl) (bX3_isNameAhead_2 11 _ rfl) (bX3_isNameAhead_2 12 _ rfl)
theorem dX3_isNameAhead_45 : decode cX3_isNameAhead 45 = .ok (.iconst 1, 1) := dz_4 (bX3_isNameAhead_2 13 _ rfl)
theorem dX3_isNameAhead_46 : decode cX3_isNameAhead 46 = .ok (.goto 4, 3) := dz_167 (bX3_isNameAhead_2 14 _ rfl) (bX3_isNameAhead_2 15 _ rfl) (bX3_isNameAhead_3 0 _ rfl)
theorem dX3_isNameAhead_49 : decode cX3_isNameAhead 49 = .ok (.iconst 0, 1) := dz_3 (bX3_isNameAhead_3 1 _ rfl)
theorem dX3_isNameAhead_50 : decode cX3_isNameAhead 50 = .ok (.istore 7, 2) := dz_54 (bX3_isNameAhead_3 2 _ rfl) (bX3_isNameAhead_3 3 _ rfl)
theorem dX3_isNameAhead_52 : decode cX3_isNameAhead 52 = .ok (.aload_n 0, 1) := dz_42 (bX3_isNameAhead_3 4 _ rfl)
theorem dX3_isNameAhead_53 : decode cX3_isNameAhead 53 = .ok (.iload_n 1, 1) := dz_27 (bX3_isNameAhead_3 5 _ rfl)
theorem dX3_isNameAhead_54 : decode cX3_isNameAhead 54 = .ok (.putfield 253, 3) := dz_181 (bX3_isNameAhead_3 6 _ rfl) (bX3_isNameAhead_3 7 _ rfl) (bX3_isNameAhead_3 8 _ rfl)
theorem dX3_isNameAhead_57 : decode cX3_isNameAhead 57 = .ok (.aload_n 0, 1) := dz_42 (bX3_isNameAhead_3 9 _ rfl)
theorem dX3_isNameAhead_58 : decode cX3_isNameAhead 58 = .ok (.iload_n 2, 1) := dz_28 (bX3_isNameAhead_3 10 _ rfl)
theorem dX3_isNameAhead_59 : decode cX3_isNameAhead 59 = .ok (.putfield 263, 3) := dz_181 (bX3_isNameAhead_3 11 _ rfl) (bX3_isNameAhead_3 12 _ rfl) (bX3_isNameAhead_3 13 _ rfl)
theorem dX3_isNameAhead_62 : decode cX3_isNameAhead 62 = .ok (.aload_n 0, 1) := dz_42 (bX3_isNameAhead_3 14 _ rfl)
theorem dX3_isNameAhead_63 : decode cX3_isNameAhead 63 = .ok (.iload_n 3, 1) := dz_29 (bX3_isNameAhead_3 15 _ rfl)
theorem dX3_isNameAhead_64 : decode cX3_isNameAhead 64 = .ok (.putfield 246, 3) := dz_181 (bX3_isNameAhead_4 0 _ rfl) (bX3_isNameAhead_4 1 _ rfl) (bX3_isNameAhead_4 2 _ rfl)
theorem dX3_isNameAhead_67 : decode cX3_isNameAhead 67 = .ok (.aload_n 0, 1) := dz_42 (bX3_isNameAhead_4 3 _ rfl)
theorem dX3_isNameAhead_68 : decode cX3_isNameAhead 68 = .ok (.iload 4, 2) := dz_21 (bX3_isNameAhead_4 4 _ rfl) (bX3_isNameAhead_4 5 _ rfl)
theorem dX3_isNameAhead_70 : decode cX3_isNameAhead 70 = .ok (.putfield 243, 3) := dz_181 (bX3_isNameAhead_4 6 _ rfl) (bX3_isNameAhead_4 7 _ rfl) (bX3_isNameAhead_4 8 _ rfl)
theorem dX3_isNameAhead_73 : decode cX3_isNameAhead 73 = .ok (.aload_n 0, 1) := dz_42 (bX3_isNameAhead_4 9 _ rfl)
theorem dX3_isNameAhead_74 : decode cX3_isNameAhead 74 = .ok (.iload 5, 2) := dz_21 (bX3_isNameAhead_4 10 _ rfl) (bX3_isNameAhead_4 11 _ rfl)
theorem dX3_isNameAhead_76 : decode cX3_isNameAhead 76 = .ok (.putfield 256, 3) := dz_181 (bX3_isNameAhead_4 12 _ rfl) (bX3_isNameAhead_4 13 _ rfl) (bX3_isNameAhead_4 14 _ rfl)
theorem dX3_isNameAhead_79 : decode cX3_isNameAhead 79 = .ok (.aload_n 0, 1) := dz_42 (bX3_isNameAhead_4 15 _ rfl)
theorem dX3_isNameAhead_80 : decode cX3_isNameAhead 80 = .ok (.iload 6, 2) := dz_21 (bX3_isNameAhead_5 0 _ rfl) (bX3_isNameAhead_5 1 _ rfl)
theorem dX3_isNameAhead_82 : decode cX3_isNameAhead 82 = .ok (.putfield 221, 3) := dz_181 (bX3_isNameAhead_5 2 _ rfl) (bX3_isNameAhead_5 3 _ rfl) (bX3_isNameAhead_5 4 _ rfl)
theorem dX3_isNameAhead_85 : decode cX3_isNameAhead 85 = .ok (.iload 7, 2) := dz_21 (bX3_isNameAhead_5 5 _ rfl) (bX3_isNameAhead_5 6 _ rfl)
theorem dX3_isNameAhead_87 : decode cX3_isNameAhead 87 = .ok (.ireturn, 1) := dz_172 (bX3_isNameAhead_5 7 _ rfl)
def m_X3_isNameAhead_50 (x1 : Int32) (x2 : Int32) (x3 : Int32) (x4 : Int32) (x5 : Int32) (x6 : Int32) (y0 : Int32) (σ : ch_S) : Option (Int32 × ch_S) := (ch_mI σ fX3_at x1).bind fun σ1 => (ch_mI σ1 fX3_word x2).bind fun σ2 => (ch_mI σ2 fX3_wordFrom x3).bind fun σ3 => (ch_mI σ3 fX3_wordLong x4).bind fun σ4 => (ch_mI σ4 fX3_wordValue x5).bind fun σ5 => (ch_mI σ5 fX3_names x6).bind fun σ6 => (ch_bit y0).bind fun v => some ((v, σ6))
theorem s_X3_isNameAhead_50 {g : State} {m : Nat} {w : ch_W} {x1 : Int32} {x2 : Int32} {x3 : Int32} {x4 : Int32} {x5 : Int32} {x6 : Int32} {y0 : Int32} {σ : ch_S} {res : Int32 × ch_S} {Q : Outcome → ch_W → Prop} (h : m_X3_isNameAhead_50 x1 x2 x3 x4 x5 x6 y0 σ = some res) (hk : (fun r => ch_eI Q (r.1, ch_put m w r.2)) res) : ch_FT g false mX3_isNameAhead 5 50 [some (va_rf (some m)), some (.int x1), some (.int x2), some (.int x3), some (.int x4), some (.int x5), some (.int x6), none] [.int y0] (ch_put m w σ) Q := by
  unfold m_X3_isNameAhead_50 at h
  refine ch_istore 7 _ (ls1 := [some (va_rf (some m)), some (.int x1), some (.int x2), some (.int x3), some (.int x4), some (.int x5), some (.int x6), some (.int y0)]) dX3_isNameAhead_50 (Nat.le_of_ble_eq_true rfl) rfl (ch_aload_n 0 (some m) dX3_isNameAhead_52 rfl (ch_iload_n 1 _ dX3_isNameAhead_53 rfl (mp_pI (k := 4) dX3_isNameAhead_54 fl_X3_253 rfl rfl rfl h (fun σ1 h => ?_))))
  refine ch_aload_n 0 (some m) dX3_isNameAhead_57 rfl (ch_iload_n 2 _ dX3_isNameAhead_58 rfl (mp_pI (k := 5) dX3_isNameAhead_59 fl_X3_263 rfl rfl rfl h (fun σ2 h => ?_)))
  refine ch_aload_n 0 (some m) dX3_isNameAhead_62 rfl (ch_iload_n 3 _ dX3_isNameAhead_63 rfl (mp_pI (k := 6) dX3_isNameAhead_64 fl_X3_246 rfl rfl rfl h (fun σ3 h => ?_)))
  refine ch_aload_n 0 (some m) dX3_isNameAhead_67 rfl (ch_iload 4 _ dX3_isNameAhead_68 rfl (mp_pI (k := 7) dX3_isNameAhead_70 fl_X3_243 rfl rfl rfl h (fun σ4 h => ?_)))
  refine ch_aload_n 0 (some m) dX3_isNameAhead_73 rfl (ch_iload 5 _ dX3_isNameAhead_74 rfl (mp_pI (k := 8) dX3_isNameAhead_76 fl_X3_256 rfl rfl rfl h (fun σ5 h => ?_)))
  refine ch_aload_n 0 (some m) dX3_isNameAhead_79 rfl (ch_iload 6 _ dX3_isNameAhead_80 rfl (mp_pI (k := 11) dX3_isNameAhead_82 fl_X3_221 rfl rfl rfl h (fun σ6 h => ?_)))
  refine ch_iload 7 _ dX3_isNameAhead_85 rfl (cp_zret _ dX3_isNameAhead_87 rfl h (fun h => ?_))
  obtain rfl := Option.some.inj h
  exact hk

def m_X3_isNameAhead  (σ : ch_S) : Option (Int32 × ch_S) := (m_X3_next σ).bind fun p1 => if (p1.1 fX3_word) = 2 then (m_X3_isNameAhead_50 (σ.1 fX3_at) (σ.1 fX3_word) (σ.1 fX3_wordFrom) (σ.1 fX3_wordLong) (σ.1 fX3_wordValue) (σ.1 fX3_names) 1 p1) else (m_X3_isNameAhead_50 (σ.1 fX3_at) (σ.1 fX3_word) (σ.1 fX3_wordFrom) (σ.1 fX3_wordLong) (σ.1 fX3_wordValue) (σ.1 fX3_names) 0 p1)
theorem s_X3_isNameAhead {g : State} {m : Nat} {w : ch_W} {σ : ch_S} {res : Int32 × ch_S} {Q : Outcome → ch_W → Prop} (h : m_X3_isNameAhead  σ = some res) (hk : (fun r => ch_eI Q (r.1, ch_put m w r.2)) res) : ch_CT g false yX3_isNameAhead 5 [.ref m] (ch_put m w σ) Q := by
  unfold m_X3_isNameAhead at h
  refine ch_ctL mX3_isNameAhead (ls := [some (va_rf (some m)), none, none, none, none, none, none, none]) q1977 rfl (ch_lyr (r := some m) ch_ly0) (Nat.le_of_ble_eq_true rfl) rfl ?_
  refine ch_aload_n 0 (some m) dX3_isNameAhead_0 rfl (mp_gI 4 dX3_isNameAhead_1 fl_X3_253 rfl (ch_istore_n 1 _ (ls1 := [some (va_rf (some m)), some (.int (σ.1 fX3_at)), none, none, none, none, none, none]) dX3_isNameAhead_4 (Nat.le_of_ble_eq_true rfl) rfl (ch_aload_n 0 (some m) dX3_isNameAhead_5 rfl (mp_gI 5 dX3_isNameAhead_6 fl_X3_263 rfl (ch_istore_n 2 _ (ls1 := [some (va_rf (some m)), some (.int (σ.1 fX3_at)), some (.int (σ.1 fX3_word)), none, none, none, none, none]) dX3_isNameAhead_9 (Nat.le_of_ble_eq_true rfl) rfl (ch_aload_n 0 (some m) dX3_isNameAhead_10 rfl (mp_gI 6 dX3_isNameAhead_11 fl_X3_246 rfl (?_))))))))
  refine ch_istore_n 3 _ (ls1 := [some (va_rf (some m)), some (.int (σ.1 fX3_at)), some (.int (σ.1 fX3_word)), some (.int (σ.1 fX3_wordFrom)), none, none, none, none]) dX3_isNameAhead_14 (Nat.le_of_ble_eq_true rfl) rfl (ch_aload_n 0 (some m) dX3_isNameAhead_15 rfl (mp_gI 7 dX3_isNameAhead_16 fl_X3_243 rfl (ch_istore 4 _ (ls1 := [some (va_rf (some m)), some (.int (σ.1 fX3_at)), some (.int (σ.1 fX3_word)), some (.int (σ.1 fX3_wordFrom)), some (.int (σ.1 fX3_wordLong)), none, none, none]) dX3_isNameAhead_19 (Nat.le_of_ble_eq_true rfl) rfl (ch_aload_n 0 (some m) dX3_isNameAhead_21 rfl (mp_gI 8 dX3_isNameAhead_22 fl_X3_256 rfl (ch_istore 5 _ (ls1 := [some (va_rf (some m)), some (.int (σ.1 fX3_at)), some (.int (σ.1 fX3_word)), some (.int (σ.1 fX3_wordFrom)), some (.int (σ.1 fX3_wordLong)), some (.int (σ.1 fX3_wordValue)), none, none]) dX3_isNameAhead_25 (Nat.le_of_ble_eq_true rfl) rfl (ch_aload_n 0 (some m) dX3_isNameAhead_27 rfl (?_))))))))
  obtain ⟨p1, hp2, h⟩ := ch_bd h
  refine mp_gI 11 dX3_isNameAhead_28 fl_X3_221 rfl (ch_istore 6 _ (ls1 := [some (va_rf (some m)), some (.int (σ.1 fX3_at)), some (.int (σ.1 fX3_word)), some (.int (σ.1 fX3_wordFrom)), some (.int (σ.1 fX3_wordLong)), some (.int (σ.1 fX3_wordValue)), some (.int (σ.1 fX3_names)), none]) dX3_isNameAhead_31 (Nat.le_of_ble_eq_true rfl) rfl (ch_aload_n 0 (some m) dX3_isNameAhead_33 rfl (ch_iv yX3_next prog_14_method_12_code 4 none (ci := 3) (q := (RX3, TX3, 109)) (b := m) (d' := 4) (av := []) (rest := []) rfl dX3_isNameAhead_34 q1884 q1886 rfl qs105 q1887 can_X3_next (Nat.le_of_ble_eq_true rfl) (Nat.le_of_ble_eq_true rfl) ch_put_tag (cp_kV (w1 := ch_put m w p1) (fun Q' hq => s_X3_next hp2 hq) ?_))))
  refine ch_aload_n 0 (some m) dX3_isNameAhead_37 rfl (mp_gI 5 dX3_isNameAhead_38 fl_X3_263 rfl (ch_iconst _ 2 dX3_isNameAhead_41 rfl (cp_icmp_ne _ _ (tgt := 49) dX3_isNameAhead_42 rfl h (fun h => ?_) (fun h => ?_))))
  · exact ch_iconst _ 0 dX3_isNameAhead_49 rfl (ch_FT.wk (ch_wS (ch_wS (ch_wS (ch_wS (ch_wS (ch_wS (ch_wS (ch_wN ch_w0)))))))) (s_X3_isNameAhead_50  h hk))
  · exact ch_iconst _ 1 dX3_isNameAhead_45 rfl (ch_goto 50 dX3_isNameAhead_46 rfl (ch_FT.wk (ch_wS (ch_wS (ch_wS (ch_wS (ch_wS (ch_wS (ch_wS (ch_wN ch_w0)))))))) (s_X3_isNameAhead_50  h hk)))

theorem bX3_begun_0 : ch_ck cX3_begun 0 [42, 180, 1, 110, 61, 42, 180, 0, 46, 28, 27, 79, 42, 180, 0, 49] := ch_ckof (by decide +kernel)
theorem bX3_begun_1 : ch_ck cX3_begun 16 [28, 42, 180, 0, 246, 79, 42, 180, 0, 52, 28, 42, 180, 1, 46, 79] := ch_ckof (by decide +kernel)
theorem bX3_begun_2 : ch_ck cX3_begun 32 [42, 180, 0, 55, 28, 2, 79, 42, 180, 0, 58, 28, 2, 79, 42, 180] := ch_ckof (by decide +kernel)
theorem bX3_begun_3 : ch_ck cX3_begun 48 [0, 64, 28, 2, 79, 42, 180, 0, 70, 28, 2, 79, 42, 180, 0, 73] := ch_ckof (by decide +kernel)
theorem bX3_begun_4 : ch_ck cX3_begun 64 [28, 2, 79, 42, 180, 0, 76, 28, 2, 79, 42, 89, 180, 1, 110, 4] := ch_ckof (by decide +kernel)
theorem bX3_begun_5 : ch_ck cX3_begun 80 [96, 181, 1, 110, 28, 172] := ch_ckof (by decide +kernel)
theorem dX3_begun_0 : decode cX3_begun 0 = .ok (.aload_n 0, 1) := dz_42 (bX3_begun_0 0 _ rfl)
theorem dX3_begun_1 : decode cX3_begun 1 = .ok (.getfield 366, 3) := dz_180 (bX3_begun_0 1 _ rfl) (bX3_begun_0 2 _ rfl) (bX3_begun_0 3 _ rfl)
theorem dX3_begun_4 : decode cX3_begun 4 = .ok (.istore_n 2, 1) := dz_61 (bX3_begun_0 4 _ rfl)
theorem dX3_begun_5 : decode cX3_begun 5 = .ok (.aload_n 0, 1) := dz_42 (bX3_begun_0 5 _ rfl)
theorem dX3_begun_6 : decode cX3_begun 6 = .ok (.getfield 46, 3) := dz_180 (bX3_begun_0 6 _ rfl) (bX3_begun_0 7 _ rfl) (bX3_begun_0 8 _ rfl)
theorem dX3_begun_9 : decode cX3_begun 9 = .ok (.iload_n 2, 1) := dz_28 (bX3_begun_0 9 _ rfl)
theorem dX3_begun_10 : decode cX3_begun 10 = .ok (.iload_n 1, 1) := dz_27 (bX3_begun_0 10 _ rfl)
theorem dX3_begun_11 : decode cX3_begun 11 = .ok (.iastore, 1) := dz_79 (bX3_begun_0 11 _ rfl)
theorem dX3_begun_12 : decode cX3_begun 12 = .ok (.aload_n 0, 1) := dz_42 (bX3_begun_0 12 _ rfl)
theorem dX3_begun_13 : decode cX3_begun 13 = .ok (.getfield 49, 3) := dz_180 (bX3_begun_0 13 _ rfl) (bX3_begun_0 14 _ rfl) (bX3_begun_0 15 _ rfl)
theorem dX3_begun_16 : decode cX3_begun 16 = .ok (.iload_n 2, 1) := dz_28 (bX3_begun_1 0 _ rfl)
theorem dX3_begun_17 : decode cX3_begun 17 = .ok (.aload_n 0, 1) := dz_42 (bX3_begun_1 1 _ rfl)
theorem dX3_begun_18 : decode cX3_begun 18 = .ok (.getfield 246, 3) := dz_180 (bX3_begun_1 2 _ rfl) (bX3_begun_1 3 _ rfl) (bX3_begun_1 4 _ rfl)
theorem dX3_begun_21 : decode cX3_begun 21 = .ok (.iastore, 1) := dz_79 (bX3_begun_1 5 _ rfl)
theorem dX3_begun_22 : decode cX3_begun 22 = .ok (.aload_n 0, 1) := dz_42 (bX3_begun_1 6 _ rfl)
theorem dX3_begun_23 : decode cX3_begun 23 = .ok (.getfield 52, 3) := dz_180 (bX3_begun_1 7 _ rfl) (bX3_begun_1 8 _ rfl) (bX3_begun_1 9 _ rfl)
theorem dX3_begun_26 : decode cX3_begun 26 = .ok (.iload_n 2, 1) := dz_28 (bX3_begun_1 10 _ rfl)
theorem dX3_begun_27 : decode cX3_begun 27 = .ok (.aload_n 0, 1) := dz_42 (bX3_begun_1 11 _ rfl)
theorem dX3_begun_28 : decode cX3_begun 28 = .ok (.getfield 302, 3) := dz_180 (bX3_begun_1 12 _ rfl) (bX3_begun_1 13 _ rfl) (bX3_begun_1 14 _ rfl)
theorem dX3_begun_31 : decode cX3_begun 31 = .ok (.iastore, 1) := dz_79 (bX3_begun_1 15 _ rfl)
theorem dX3_begun_32 : decode cX3_begun 32 = .ok (.aload_n 0, 1) := dz_42 (bX3_begun_2 0 _ rfl)
theorem dX3_begun_33 : decode cX3_begun 33 = .ok (.getfield 55, 3) := dz_180 (bX3_begun_2 1 _ rfl) (bX3_begun_2 2 _ rfl) (bX3_begun_2 3 _ rfl)
theorem dX3_begun_36 : decode cX3_begun 36 = .ok (.iload_n 2, 1) := dz_28 (bX3_begun_2 4 _ rfl)
theorem dX3_begun_37 : decode cX3_begun 37 = .ok (.iconst (-1), 1) := dz_2 (bX3_begun_2 5 _ rfl)
theorem dX3_begun_38 : decode cX3_begun 38 = .ok (.iastore, 1) := dz_79 (bX3_begun_2 6 _ rfl)
theorem dX3_begun_39 : decode cX3_begun 39 = .ok (.aload_n 0, 1) := dz_42 (bX3_begun_2 7 _ rfl)
theorem dX3_begun_40 : decode cX3_begun 40 = .ok (.getfield 58, 3) := dz_180 (bX3_begun_2 8 _ rfl) (bX3_begun_2 9 _ rfl) (bX3_begun_2 10 _ rfl)
theorem dX3_begun_43 : decode cX3_begun 43 = .ok (.iload_n 2, 1) := dz_28 (bX3_begun_2 11 _ rfl)
theorem dX3_begun_44 : decode cX3_begun 44 = .ok (.iconst (-1), 1) := dz_2 (bX3_begun_2 12 _ rfl)
theorem dX3_begun_45 : decode cX3_begun 45 = .ok (.iastore, 1) := dz_79 (bX3_begun_2 13 _ rfl)
theorem dX3_begun_46 : decode cX3_begun 46 = .ok (.aload_n 0, 1) := dz_42 (bX3_begun_2 14 _ rfl)
theorem dX3_begun_47 : decode cX3_begun 47 = .ok (.getfield 64, 3) := dz_180 (bX3_begun_2 15 _ rfl) (bX3_begun_3 0 _ rfl) (bX3_begun_3 1 _ rfl)
theorem dX3_begun_50 : decode cX3_begun 50 = .ok (.iload_n 2, 1) := dz_28 (bX3_begun_3 2 _ rfl)
theorem dX3_begun_51 : decode cX3_begun 51 = .ok (.iconst (-1), 1) := dz_2 (bX3_begun_3 3 _ rfl)
theorem dX3_begun_52 : decode cX3_begun 52 = .ok (.iastore, 1) := dz_79 (bX3_begun_3 4 _ rfl)
theorem dX3_begun_53 : decode cX3_begun 53 = .ok (.aload_n 0, 1) := dz_42 (bX3_begun_3 5 _ rfl)
theorem dX3_begun_54 : decode cX3_begun 54 = .ok (.getfield 70, 3) := dz_180 (bX3_begun_3 6 _ rfl) (bX3_begun_3 7 _ rfl) (bX3_begun_3 8 _ rfl)
theorem dX3_begun_57 : decode cX3_begun 57 = .ok (.iload_n 2, 1) := dz_28 (bX3_begun_3 9 _ rfl)
theorem dX3_begun_58 : decode cX3_begun 58 = .ok (.iconst (-1), 1) := dz_2 (bX3_begun_3 10 _ rfl)
theorem dX3_begun_59 : decode cX3_begun 59 = .ok (.iastore, 1) := dz_79 (bX3_begun_3 11 _ rfl)
theorem dX3_begun_60 : decode cX3_begun 60 = .ok (.aload_n 0, 1) := dz_42 (bX3_begun_3 12 _ rfl)
theorem dX3_begun_61 : decode cX3_begun 61 = .ok (.getfield 73, 3) := dz_180 (bX3_begun_3 13 _ rfl) (bX3_begun_3 14 _ rfl) (bX3_begun_3 15 _ rfl)
theorem dX3_begun_64 : decode cX3_begun 64 = .ok (.iload_n 2, 1) := dz_28 (bX3_begun_4 0 _ rfl)
theorem dX3_begun_65 : decode cX3_begun 65 = .ok (.iconst (-1), 1) := dz_2 (bX3_begun_4 1 _ rfl)
theorem dX3_begun_66 : decode cX3_begun 66 = .ok (.iastore, 1) := dz_79 (bX3_begun_4 2 _ rfl)
theorem dX3_begun_67 : decode cX3_begun 67 = .ok (.aload_n 0, 1) := dz_42 (bX3_begun_4 3 _ rfl)
theorem dX3_begun_68 : decode cX3_begun 68 = .ok (.getfield 76, 3) := dz_180 (bX3_begun_4 4 _ rfl) (bX3_begun_4 5 _ rfl) (bX3_begun_4 6 _ rfl)
theorem dX3_begun_71 : decode cX3_begun 71 = .ok (.iload_n 2, 1) := dz_28 (bX3_begun_4 7 _ rfl)
theorem dX3_begun_72 : decode cX3_begun 72 = .ok (.iconst (-1), 1) := dz_2 (bX3_begun_4 8 _ rfl)
theorem dX3_begun_73 : decode cX3_begun 73 = .ok (.iastore, 1) := dz_79 (bX3_begun_4 9 _ rfl)
theorem dX3_begun_74 : decode cX3_begun 74 = .ok (.aload_n 0, 1) := dz_42 (bX3_begun_4 10 _ rfl)
theorem dX3_begun_75 : decode cX3_begun 75 = .ok (.dup, 1) := dz_89 (bX3_begun_4 11 _ rfl)
theorem dX3_begun_76 : decode cX3_begun 76 = .ok (.getfield 366, 3) := dz_180 (bX3_begun_4 12 _ rfl) (bX3_begun_4 13 _ rfl) (bX3_begun_4 14 _ rfl)
theorem dX3_begun_79 : decode cX3_begun 79 = .ok (.iconst 1, 1) := dz_4 (bX3_begun_4 15 _ rfl)
theorem dX3_begun_80 : decode cX3_begun 80 = .ok (.iadd, 1) := dz_96 (bX3_begun_5 0 _ rfl)
theorem dX3_begun_81 : decode cX3_begun 81 = .ok (.putfield 366, 3) := dz_181 (bX3_begun_5 1 _ rfl) (bX3_begun_5 2 _ rfl) (bX3_begun_5 3 _ rfl)
theorem dX3_begun_84 : decode cX3_begun 84 = .ok (.iload_n 2, 1) := dz_28 (bX3_begun_5 4 _ rfl)
theorem dX3_begun_85 : decode cX3_begun 85 = .ok (.ireturn, 1) := dz_172 (bX3_begun_5 5 _ rfl)
def m_X3_begun (x1 : Int32) (σ : ch_S) : Option (Int32 × ch_S) := (ch_mw σ fX3_statementIs (σ.1 fX3_statements) x1).bind fun σ1 => (ch_mw σ1 fX3_place (σ.1 fX3_statements) (σ1.1 fX3_wordFrom)).bind fun σ2 => (ch_mw σ2 fX3_nodesFrom (σ.1 fX3_statements) (σ2.1 fX3_nodes)).bind fun σ3 => (ch_mw σ3 fX3_value (σ.1 fX3_statements) (-1)).bind fun σ4 => (ch_mw σ4 fX3_target (σ.1 fX3_statements) (-1)).bind fun σ5 => (ch_mw σ5 fX3_toldName (σ.1 fX3_statements) (-1)).bind fun σ6 => (ch_mw σ6 fX3_inner (σ.1 fX3_statements) (-1)).bind fun σ7 => (ch_mw σ7 fX3_other (σ.1 fX3_statements) (-1)).bind fun σ8 => (ch_mw σ8 fX3_nextOf (σ.1 fX3_statements) (-1)).bind fun σ9 => (ch_mI σ9 fX3_statements ((σ9.1 fX3_statements) + 1)).bind fun σ10 => some ((σ.1 fX3_statements, σ10))
theorem s_X3_begun {g : State} {m : Nat} {w : ch_W} {x1 : Int32} {σ : ch_S} {res : Int32 × ch_S} {Q : Outcome → ch_W → Prop} (h : m_X3_begun x1 σ = some res) (hk : (fun r => ch_eI Q (r.1, ch_put m w r.2)) res) : ch_CT g false yX3_begun 2 [.ref m, .int x1] (ch_put m w σ) Q := by
  unfold m_X3_begun at h
  refine ch_ctL mX3_begun (ls := [some (va_rf (some m)), some (.int x1), none]) q1981 rfl (ch_lyr (r := some m) (ch_lyi ch_ly0)) (Nat.le_of_ble_eq_true rfl) rfl ?_
  refine ch_aload_n 0 (some m) dX3_begun_0 rfl (mp_gI 25 dX3_begun_1 fl_X3_366 rfl (ch_istore_n 2 _ (ls1 := [some (va_rf (some m)), some (.int x1), some (.int (σ.1 fX3_statements))]) dX3_begun_4 (Nat.le_of_ble_eq_true rfl) rfl (ch_aload_n 0 (some m) dX3_begun_5 rfl (mp_gA 26 dX3_begun_6 fl_X3_46 rfl (ch_iload_n 2 _ dX3_begun_9 rfl (ch_iload_n 1 _ dX3_begun_10 rfl (mp_iast dX3_begun_11 mk_26 rfl h (fun σ1 h => ?_))))))))
  refine ch_aload_n 0 (some m) dX3_begun_12 rfl (mp_gA 27 dX3_begun_13 fl_X3_49 rfl (ch_iload_n 2 _ dX3_begun_16 rfl (ch_aload_n 0 (some m) dX3_begun_17 rfl (mp_gI 6 dX3_begun_18 fl_X3_246 rfl (mp_iast dX3_begun_21 mk_27 rfl h (fun σ2 h => ?_))))))
  refine ch_aload_n 0 (some m) dX3_begun_22 rfl (mp_gA 28 dX3_begun_23 fl_X3_52 rfl (ch_iload_n 2 _ dX3_begun_26 rfl (ch_aload_n 0 (some m) dX3_begun_27 rfl (mp_gI 15 dX3_begun_28 fl_X3_302 rfl (mp_iast dX3_begun_31 mk_28 rfl h (fun σ3 h => ?_))))))
  refine ch_aload_n 0 (some m) dX3_begun_32 rfl (mp_gA 29 dX3_begun_33 fl_X3_55 rfl (ch_iload_n 2 _ dX3_begun_36 rfl (ch_iconst _ (-1) dX3_begun_37 rfl (mp_iast dX3_begun_38 mk_29 rfl h (fun σ4 h => ?_)))))
  refine ch_aload_n 0 (some m) dX3_begun_39 rfl (mp_gA 30 dX3_begun_40 fl_X3_58 rfl (ch_iload_n 2 _ dX3_begun_43 rfl (ch_iconst _ (-1) dX3_begun_44 rfl (mp_iast dX3_begun_45 mk_30 rfl h (fun σ5 h => ?_)))))
  refine ch_aload_n 0 (some m) dX3_begun_46 rfl (mp_gA 32 dX3_begun_47 fl_X3_64 rfl (ch_iload_n 2 _ dX3_begun_50 rfl (ch_iconst _ (-1) dX3_begun_51 rfl (mp_iast dX3_begun_52 mk_32 rfl h (fun σ6 h => ?_)))))
  refine ch_aload_n 0 (some m) dX3_begun_53 rfl (mp_gA 34 dX3_begun_54 fl_X3_70 rfl (ch_iload_n 2 _ dX3_begun_57 rfl (ch_iconst _ (-1) dX3_begun_58 rfl (mp_iast dX3_begun_59 mk_34 rfl h (fun σ7 h => ?_)))))
  refine ch_aload_n 0 (some m) dX3_begun_60 rfl (mp_gA 35 dX3_begun_61 fl_X3_73 rfl (ch_iload_n 2 _ dX3_begun_64 rfl (ch_iconst _ (-1) dX3_begun_65 rfl (mp_iast dX3_begun_66 mk_35 rfl h (fun σ8 h => ?_)))))
  refine ch_aload_n 0 (some m) dX3_begun_67 rfl (mp_gA 36 dX3_begun_68 fl_X3_76 rfl (ch_iload_n 2 _ dX3_begun_71 rfl (ch_iconst _ (-1) dX3_begun_72 rfl (mp_iast dX3_begun_73 mk_36 rfl h (fun σ9 h => ?_)))))
  refine ch_aload_n 0 (some m) dX3_begun_74 rfl (ch_dup dX3_begun_75 (ch_cat _) (mp_gI 25 dX3_begun_76 fl_X3_366 rfl (ch_iconst _ 1 dX3_begun_79 rfl (ch_iadd _ _ dX3_begun_80 (mp_pI (k := 25) dX3_begun_81 fl_X3_366 rfl rfl rfl h (fun σ10 h => ?_))))))
  obtain rfl := Option.some.inj h
  exact ch_iload_n 2 _ dX3_begun_84 rfl (ch_ireturn _ dX3_begun_85 rfl rfl hk)

theorem bX3_node_0 : ch_ck cX3_node 0 [42, 180, 0, 25, 42, 180, 1, 46, 27, 79, 42, 180, 0, 28, 42, 180] := ch_ckof (by decide +kernel)
theorem bX3_node_1 : ch_ck cX3_node 16 [1, 46, 28, 79, 42, 180, 0, 31, 42, 180, 1, 46, 29, 79, 42, 180] := ch_ckof (by decide +kernel)
theorem bX3_node_2 : ch_ck cX3_node 32 [0, 34, 42, 180, 1, 46, 21, 4, 79, 42, 89, 180, 1, 46, 4, 96] := ch_ckof (by decide +kernel)
theorem bX3_node_3 : ch_ck cX3_node 48 [181, 1, 46, 42, 180, 1, 46, 4, 100, 172] := ch_ckof (by decide +kernel)
theorem dX3_node_0 : decode cX3_node 0 = .ok (.aload_n 0, 1) := dz_42 (bX3_node_0 0 _ rfl)
theorem dX3_node_1 : decode cX3_node 1 = .ok (.getfield 25, 3) := dz_180 (bX3_node_0 1 _ rfl) (bX3_node_0 2 _ rfl) (bX3_node_0 3 _ rfl)
theorem dX3_node_4 : decode cX3_node 4 = .ok (.aload_n 0, 1) := dz_42 (bX3_node_0 4 _ rfl)
theorem dX3_node_5 : decode cX3_node 5 = .ok (.getfield 302, 3) := dz_180 (bX3_node_0 5 _ rfl) (bX3_node_0 6 _ rfl) (bX3_node_0 7 _ rfl)
theorem dX3_node_8 : decode cX3_node 8 = .ok (.iload_n 1, 1) := dz_27 (bX3_node_0 8 _ rfl)
theorem dX3_node_9 : decode cX3_node 9 = .ok (.iastore, 1) := dz_79 (bX3_node_0 9 _ rfl)
theorem dX3_node_10 : decode cX3_node 10 = .ok (.aload_n 0, 1) := dz_42 (bX3_node_0 10 _ rfl)
theorem dX3_node_11 : decode cX3_node 11 = .ok (.getfield 28, 3) := dz_180 (bX3_node_0 11 _ rfl) (bX3_node_0 12 _ rfl) (bX3_node_0 13 _ rfl)
theorem dX3_node_14 : decode cX3_node 14 = .ok (.aload_n 0, 1) := dz_42 (bX3_node_0 14 _ rfl)
theorem dX3_node_15 : decode cX3_node 15 = .ok (.getfield 302, 3) := dz_180 (bX3_node_0 15 _ rfl) (bX3_node_1 0 _ rfl) (bX3_node_1 1 _ rfl)
theorem dX3_node_18 : decode cX3_node 18 = .ok (.iload_n 2, 1) := dz_28 (bX3_node_1 2 _ rfl)
theorem dX3_node_19 : decode cX3_node 19 = .ok (.iastore, 1) := dz_79 (bX3_node_1 3 _ rfl)
theorem dX3_node_20 : decode cX3_node 20 = .ok (.aload_n 0, 1) := dz_42 (bX3_node_1 4 _ rfl)
theorem dX3_node_21 : decode cX3_node 21 = .ok (.getfield 31, 3) := dz_180 (bX3_node_1 5 _ rfl) (bX3_node_1 6 _ rfl) (bX3_node_1 7 _ rfl)
theorem dX3_node_24 : decode cX3_node 24 = .ok (.aload_n 0, 1) := dz_42 (bX3_node_1 8 _ rfl)
theorem dX3_node_25 : decode cX3_node 25 = .ok (.getfield 302, 3) := dz_180 (bX3_node_1 9 _ rfl) (bX3_node_1 10 _ rfl) (bX3_node_1 11 _ rfl)
theorem dX3_node_28 : decode cX3_node 28 = .ok (.iload_n 3, 1) := dz_29 (bX3_node_1 12 _ rfl)
theorem dX3_node_29 : decode cX3_node 29 = .ok (.iastore, 1) := dz_79 (bX3_node_1 13 _ rfl)
theorem dX3_node_30 : decode cX3_node 30 = .ok (.aload_n 0, 1) := dz_42 (bX3_node_1 14 _ rfl)
theorem dX3_node_31 : decode cX3_node 31 = .ok (.getfield 34, 3) := dz_180 (bX3_node_1 15 _ rfl) (bX3_node_2 0 _ rfl) (bX3_node_2 1 _ rfl)
theorem dX3_node_34 : decode cX3_node 34 = .ok (.aload_n 0, 1) := dz_42 (bX3_node_2 2 _ rfl)
theorem dX3_node_35 : decode cX3_node 35 = .ok (.getfield 302, 3) := dz_180 (bX3_node_2 3 _ rfl) (bX3_node_2 4 _ rfl) (bX3_node_2 5 _ rfl)
theorem dX3_node_38 : decode cX3_node 38 = .ok (.iload 4, 2) := dz_21 (bX3_node_2 6 _ rfl) (bX3_node_2 7 _ rfl)
theorem dX3_node_40 : decode cX3_node 40 = .ok (.iastore, 1) := dz_79 (bX3_node_2 8 _ rfl)
theorem dX3_node_41 : decode cX3_node 41 = .ok (.aload_n 0, 1) := dz_42 (bX3_node_2 9 _ rfl)
theorem dX3_node_42 : decode cX3_node 42 = .ok (.dup, 1) := dz_89 (bX3_node_2 10 _ rfl)
theorem dX3_node_43 : decode cX3_node 43 = .ok (.getfield 302, 3) := dz_180 (bX3_node_2 11 _ rfl) (bX3_node_2 12 _ rfl) (bX3_node_2 13 _ rfl)
theorem dX3_node_46 : decode cX3_node 46 = .ok (.iconst 1, 1) := dz_4 (bX3_node_2 14 _ rfl)
theorem dX3_node_47 : decode cX3_node 47 = .ok (.iadd, 1) := dz_96 (bX3_node_2 15 _ rfl)
theorem dX3_node_48 : decode cX3_node 48 = .ok (.putfield 302, 3) := dz_181 (bX3_node_3 0 _ rfl) (bX3_node_3 1 _ rfl) (bX3_node_3 2 _ rfl)
theorem dX3_node_51 : decode cX3_node 51 = .ok (.aload_n 0, 1) := dz_42 (bX3_node_3 3 _ rfl)
theorem dX3_node_52 : decode cX3_node 52 = .ok (.getfield 302, 3) := dz_180 (bX3_node_3 4 _ rfl) (bX3_node_3 5 _ rfl) (bX3_node_3 6 _ rfl)
theorem dX3_node_55 : decode cX3_node 55 = .ok (.iconst 1, 1) := dz_4 (bX3_node_3 7 _ rfl)
theorem dX3_node_56 : decode cX3_node 56 = .ok (.isub, 1) := dz_100 (bX3_node_3 8 _ rfl)
theorem dX3_node_57 : decode cX3_node 57 = .ok (.ireturn, 1) := dz_172 (bX3_node_3 9 _ rfl)
def m_X3_node (x1 : Int32) (x2 : Int32) (x3 : Int32) (x4 : Int32) (σ : ch_S) : Option (Int32 × ch_S) := (ch_mw σ fX3_is (σ.1 fX3_nodes) x1).bind fun σ1 => (ch_mw σ1 fX3_one (σ1.1 fX3_nodes) x2).bind fun σ2 => (ch_mw σ2 fX3_two (σ2.1 fX3_nodes) x3).bind fun σ3 => (ch_mw σ3 fX3_of (σ3.1 fX3_nodes) x4).bind fun σ4 => (ch_mI σ4 fX3_nodes ((σ4.1 fX3_nodes) + 1)).bind fun σ5 => some (((σ5.1 fX3_nodes) - 1, σ5))
theorem s_X3_node {g : State} {m : Nat} {w : ch_W} {x1 : Int32} {x2 : Int32} {x3 : Int32} {x4 : Int32} {σ : ch_S} {res : Int32 × ch_S} {Q : Outcome → ch_W → Prop} (h : m_X3_node x1 x2 x3 x4 σ = some res) (hk : (fun r => ch_eI Q (r.1, ch_put m w r.2)) res) : ch_CT g false yX3_node 2 [.ref m, .int x1, .int x2, .int x3, .int x4] (ch_put m w σ) Q := by
  unfold m_X3_node at h
  refine ch_ctL mX3_node (ls := [some (va_rf (some m)), some (.int x1), some (.int x2), some (.int x3), some (.int x4)]) q2021 rfl (ch_lyr (r := some m) (ch_lyi (ch_lyi (ch_lyi (ch_lyi ch_ly0))))) (Nat.le_of_ble_eq_true rfl) rfl ?_
  refine ch_aload_n 0 (some m) dX3_node_0 rfl (mp_gA 16 dX3_node_1 fl_X3_25 rfl (ch_aload_n 0 (some m) dX3_node_4 rfl (mp_gI 15 dX3_node_5 fl_X3_302 rfl (ch_iload_n 1 _ dX3_node_8 rfl (mp_iast dX3_node_9 mk_16 rfl h (fun σ1 h => ?_))))))
  refine ch_aload_n 0 (some m) dX3_node_10 rfl (mp_gA 17 dX3_node_11 fl_X3_28 rfl (ch_aload_n 0 (some m) dX3_node_14 rfl (mp_gI 15 dX3_node_15 fl_X3_302 rfl (ch_iload_n 2 _ dX3_node_18 rfl (mp_iast dX3_node_19 mk_17 rfl h (fun σ2 h => ?_))))))
  refine ch_aload_n 0 (some m) dX3_node_20 rfl (mp_gA 18 dX3_node_21 fl_X3_31 rfl (ch_aload_n 0 (some m) dX3_node_24 rfl (mp_gI 15 dX3_node_25 fl_X3_302 rfl (ch_iload_n 3 _ dX3_node_28 rfl (mp_iast dX3_node_29 mk_18 rfl h (fun σ3 h => ?_))))))
  refine ch_aload_n 0 (some m) dX3_node_30 rfl (mp_gA 19 dX3_node_31 fl_X3_34 rfl (ch_aload_n 0 (some m) dX3_node_34 rfl (mp_gI 15 dX3_node_35 fl_X3_302 rfl (ch_iload 4 _ dX3_node_38 rfl (mp_iast dX3_node_40 mk_19 rfl h (fun σ4 h => ?_))))))
  refine ch_aload_n 0 (some m) dX3_node_41 rfl (ch_dup dX3_node_42 (ch_cat _) (mp_gI 15 dX3_node_43 fl_X3_302 rfl (ch_iconst _ 1 dX3_node_46 rfl (ch_iadd _ _ dX3_node_47 (mp_pI (k := 15) dX3_node_48 fl_X3_302 rfl rfl rfl h (fun σ5 h => ?_))))))
  obtain rfl := Option.some.inj h
  exact ch_aload_n 0 (some m) dX3_node_51 rfl (mp_gI 15 dX3_node_52 fl_X3_302 rfl (ch_iconst _ 1 dX3_node_55 rfl (ch_isub _ _ dX3_node_56 (ch_ireturn _ dX3_node_57 rfl rfl hk))))

theorem bX3_expression_0 : ch_ck cX3_expression 0 [42, 182, 1, 49, 60, 42, 17, 1, 124, 182, 1, 39, 153, 0, 25, 42] := ch_ckof (by decide +kernel)
theorem bX3_expression_1 : ch_ck cX3_expression 16 [182, 1, 33, 42, 182, 1, 49, 61, 42, 16, 17, 27, 28, 3, 182, 1] := ch_ckof (by decide +kernel)
theorem bX3_expression_2 : ch_ck cX3_expression 32 [52, 60, 167, 255, 227, 27, 172] := ch_ckof (by decide +kernel)
theorem dX3_expression_0 : decode cX3_expression 0 = .ok (.aload_n 0, 1) := dz_42 (bX3_expression_0 0 _ rfl)
theorem dX3_expression_1 : decode cX3_expression 1 = .ok (.invokevirtual 305, 3) := dz_182 (bX3_expression_0 1 _ rfl) (bX3_expression_0 2 _ rfl) (bX3_expression_0 3 _ rfl)
theorem dX3_expression_4 : decode cX3_expression 4 = .ok (.istore_n 1, 1) := dz_60 (bX3_expression_0 4 _ rfl)
theorem dX3_expression_5 : decode cX3_expression 5 = .ok (.aload_n 0, 1) := dz_42 (bX3_expression_0 5 _ rfl)
theorem dX3_expression_6 : decode cX3_expression 6 = .ok (.sipush 380, 3) := dz_17 (bX3_expression_0 6 _ rfl) (bX3_expression_0 7 _ rfl) (bX3_expression_0 8 _ rfl)
theorem dX3_expression_9 : decode cX3_expression 9 = .ok (.invokevirtual 295, 3) := dz_182 (bX3_expression_0 9 _ rfl) (bX3_expression_0 10 _ rfl) (bX3_expression_0 11 _ rfl)
theorem dX3_expression_12 : decode cX3_expression 12 = .ok (.ifCond .eq 25, 3) := dz_153 (bX3_expression_0 12 _ rfl) (bX3_expression_0 13 _ rfl) (bX3_expression_0 14 _ rfl)
theorem dX3_expression_15 : decode cX3_expression 15 = .ok (.aload_n 0, 1) := dz_42 (bX3_expression_0 15 _ rfl)
theorem dX3_expression_16 : decode cX3_expression 16 = .ok (.invokevirtual 289, 3) := dz_182 (bX3_expression_1 0 _ rfl) (bX3_expression_1 1 _ rfl) (bX3_expression_1 2 _ rfl)
theorem dX3_expression_19 : decode cX3_expression 19 = .ok (.aload_n 0, 1) := dz_42 (bX3_expression_1 3 _ rfl)
theorem dX3_expression_20 : decode cX3_expression 20 = .ok (.invokevirtual 305, 3) := dz_182 (bX3_expression_1 4 _ rfl) (bX3_expression_1 5 _ rfl) (bX3_expression_1 6 _ rfl)
theorem dX3_expression_23 : decode cX3_expression 23 = .ok (.istore_n 2, 1) := dz_61 (bX3_expression_1 7 _ rfl)
theorem dX3_expression_24 : decode cX3_expression 24 = .ok (.aload_n 0, 1) := dz_42 (bX3_expression_1 8 _ rfl)
theorem dX3_expression_25 : decode cX3_expression 25 = .ok (.bipush 17, 2) := dz_16 (bX3_expression_1 9 _ rfl) (bX3_expression_1 10 _ rfl)
theorem dX3_expression_27 : decode cX3_expression 27 = .ok (.iload_n 1, 1) := dz_27 (bX3_expression_1 11 _ rfl)
theorem dX3_expression_28 : decode cX3_expression 28 = .ok (.iload_n 2, 1) := dz_28 (bX3_expression_1 12 _ rfl)
theorem dX3_expression_29 : decode cX3_expression 29 = .ok (.iconst 0, 1) := dz_3 (bX3_expression_1 13 _ rfl)
theorem dX3_expression_30 : decode cX3_expression 30 = .ok (.invokevirtual 308, 3) := dz_182 (bX3_expression_1 14 _ rfl) (bX3_expression_1 15 _ rfl) (bX3_expression_2 0 _ rfl)
theorem dX3_expression_33 : decode cX3_expression 33 = .ok (.istore_n 1, 1) := dz_60 (bX3_expression_2 1 _ rfl)
theorem dX3_expression_34 : decode cX3_expression 34 = .ok (.goto (-29), 3) := dz_167 (bX3_expression_2 2 _ rfl) (bX3_expression_2 3 _ rfl) (bX3_expression_2 4 _ rfl)
theorem dX3_expression_37 : decode cX3_expression 37 = .ok (.iload_n 1, 1) := dz_27 (bX3_expression_2 5 _ rfl)
theorem dX3_expression_38 : decode cX3_expression 38 = .ok (.ireturn, 1) := dz_172 (bX3_expression_2 6 _ rfl)
def m_X3_expression_5 (rc : Nat → Int32 → Int32 → Int32 → ch_S → Option (Int32 × ch_S)) (x1 : Int32)  (σ : ch_S) : Option ((Int32 × ch_S) ⊕ (Int32 × ch_S)) := (m_X3_isSign 380 σ).bind fun v1 => if v1 = 0 then (some (.inr ((x1, σ)))) else ((m_X3_next σ).bind fun p3 => (rc 1 0 0 0 p3).bind fun p5 => (m_X3_node 17 x1 p5.1 0 p5.2).bind fun p7 => some (.inl (p7.1, p7.2)))
theorem s_X3_expression_5 {g : State} {d : Nat} {rc : Nat → Int32 → Int32 → Int32 → ch_S → Option (Int32 × ch_S)} {m : Nat} {w : ch_W} (hr1 : ∀ {σ : ch_S} {p : Int32 × ch_S} {Q : Outcome → ch_W → Prop}, rc 1 0 0 0 σ = some p → ch_eI Q (p.1, ch_put m w p.2) → ch_CT g false yX3_both (d + 7) [.ref m] (ch_put m w σ) Q)  {x1 : Int32} {σ : ch_S} {res : (Int32 × ch_S) ⊕ (Int32 × ch_S)} {Q : Outcome → ch_W → Prop} (h : m_X3_expression_5 rc x1 σ = some res) (hk : (ch_sm (fun s => ch_FT g false mX3_expression (d + 8) 5 [some (va_rf (some m)), some (.int s.1), none] [] (ch_put m w s.2) Q) (fun r => ch_eI Q (r.1, ch_put m w r.2))) res) : ch_FT g false mX3_expression (d + 8) 5 [some (va_rf (some m)), some (.int x1), none] [] (ch_put m w σ) Q := by
  unfold m_X3_expression_5 at h
  obtain ⟨v1, hp2, h⟩ := ch_bd h
  refine ch_aload_n 0 (some m) dX3_expression_5 rfl (ch_sipush _ 380 dX3_expression_6 rfl (ch_iv yX3_isSign prog_14_method_14_code 2 (some .boolean) (ci := 3) (q := (RX3, TX3, 109)) (b := m) (d' := 2) (av := [.int 380]) (rest := []) rfl dX3_expression_9 q1942 q1944 rfl qs115 q1945 can_X3_isSign (Nat.le_trans (Nat.le_of_ble_eq_true rfl) (Nat.le_add_left 8 d)) (Nat.le_of_ble_eq_true rfl) ch_put_tag (cp_kI (v := v1) (w1 := ch_put m w σ) (fun Q' hq => s_X3_isSign hp2 hq) ?_)))
  refine cp_if_eq _ (tgt := 37) dX3_expression_12 rfl h (fun h => ?_) (fun h => ?_)
  · obtain rfl := Option.some.inj h
    exact ch_iload_n 1 _ dX3_expression_37 rfl (ch_ireturn _ dX3_expression_38 rfl rfl hk)
  · obtain ⟨p3, hp4, h⟩ := ch_bd h
    refine ch_aload_n 0 (some m) dX3_expression_15 rfl (ch_iv yX3_next prog_14_method_12_code 4 none (ci := 3) (q := (RX3, TX3, 109)) (b := m) (d' := 4) (av := []) (rest := []) rfl dX3_expression_16 q1884 q1886 rfl qs105 q1887 can_X3_next (Nat.le_trans (Nat.le_of_ble_eq_true rfl) (Nat.le_add_left 8 d)) (Nat.le_of_ble_eq_true rfl) ch_put_tag (cp_kV (w1 := ch_put m w p3) (fun Q' hq => s_X3_next hp4 hq) ?_))
    obtain ⟨p5, hp6, h⟩ := ch_bd h
    refine ch_aload_n 0 (some m) dX3_expression_19 rfl (ch_iv yX3_both prog_14_method_22_code 3 (some .int) (ci := 3) (q := (RX3, TX3, 109)) (b := m) (d' := (d + 7)) (av := []) (rest := []) rfl dX3_expression_20 q1986 q1988 rfl qs126 q1989 can_X3_both (Nat.le_refl _) (Nat.le_of_ble_eq_true rfl) ch_put_tag (cp_kI (v := p5.1) (w1 := ch_put m w p5.2) (fun Q' hq => hr1 hp6 hq) ?_))
    obtain ⟨p7, hp8, h⟩ := ch_bd h
    refine ch_istore_n 2 _ (ls1 := [some (va_rf (some m)), some (.int x1), some (.int p5.1)]) dX3_expression_23 (Nat.le_of_ble_eq_true rfl) rfl (ch_aload_n 0 (some m) dX3_expression_24 rfl (ch_bipush _ 17 dX3_expression_25 rfl (ch_iload_n 1 _ dX3_expression_27 rfl (ch_iload_n 2 _ dX3_expression_28 rfl (ch_iconst _ 0 dX3_expression_29 rfl (ch_iv yX3_node prog_14_method_20_code 5 (some .int) (ci := 3) (q := (RX3, TX3, 109)) (b := m) (d' := 2) (av := [.int 17, .int x1, .int p5.1, .int 0]) (rest := []) rfl dX3_expression_30 q2018 q2020 rfl qs134 q2021 can_X3_node (Nat.le_trans (Nat.le_of_ble_eq_true rfl) (Nat.le_add_left 8 d)) (Nat.le_of_ble_eq_true rfl) ch_put_tag (cp_kI (v := p7.1) (w1 := ch_put m w p7.2) (fun Q' hq => s_X3_node hp8 hq) ?_)))))))
    refine ch_istore_n 1 _ (ls1 := [some (va_rf (some m)), some (.int p7.1), some (.int p5.1)]) dX3_expression_33 (Nat.le_of_ble_eq_true rfl) rfl (ch_goto 5 dX3_expression_34 rfl (ch_FT.wk (ch_wS (ch_wS (ch_wN ch_w0))) ?_))
    obtain rfl := Option.some.inj h
    exact hk
theorem sl_X3_expression_5 {g : State} {d : Nat} {rc : Nat → Int32 → Int32 → Int32 → ch_S → Option (Int32 × ch_S)} {m : Nat} {w : ch_W} (hr1 : ∀ {σ : ch_S} {p : Int32 × ch_S} {Q : Outcome → ch_W → Prop}, rc 1 0 0 0 σ = some p → ch_eI Q (p.1, ch_put m w p.2) → ch_CT g false yX3_both (d + 7) [.ref m] (ch_put m w σ) Q)  {a : Int32 × ch_S} {res : Int32 × ch_S} {Q : Outcome → ch_W → Prop} (h : ch_loop (fun (s : Int32 × ch_S) => m_X3_expression_5 rc s.1 s.2) a = some res) (hk : (fun r => ch_eI Q (r.1, ch_put m w r.2)) res) : ch_FT g false mX3_expression (d + 8) 5 [some (va_rf (some m)), some (.int a.1), none] [] (ch_put m w a.2) Q := by
  refine ch_loop_ind (fun (a : Int32 × ch_S) (r : Int32 × ch_S) => (fun r => ch_eI Q (r.1, ch_put m w r.2)) r → ch_FT g false mX3_expression (d + 8) 5 [some (va_rf (some m)), some (.int a.1), none] [] (ch_put m w a.2) Q) ?_ ?_ a res h hk
  · intro a a2 b h1 ih hk
    exact s_X3_expression_5 hr1 h1 (ih hk)
  · intro a b h1 hk
    exact s_X3_expression_5 hr1 h1 hk

def m_X3_expression (rc : Nat → Int32 → Int32 → Int32 → ch_S → Option (Int32 × ch_S))  (σ : ch_S) : Option (Int32 × ch_S) := (rc 1 0 0 0 σ).bind fun p1 => ch_loop (fun (s : Int32 × ch_S) => m_X3_expression_5 rc s.1 s.2) (p1.1, p1.2)
theorem s_X3_expression {g : State} {d : Nat} {rc : Nat → Int32 → Int32 → Int32 → ch_S → Option (Int32 × ch_S)} {m : Nat} {w : ch_W} (hr1 : ∀ {σ : ch_S} {p : Int32 × ch_S} {Q : Outcome → ch_W → Prop}, rc 1 0 0 0 σ = some p → ch_eI Q (p.1, ch_put m w p.2) → ch_CT g false yX3_both (d + 7) [.ref m] (ch_put m w σ) Q)  {σ : ch_S} {res : Int32 × ch_S} {Q : Outcome → ch_W → Prop} (h : m_X3_expression rc σ = some res) (hk : (fun r => ch_eI Q (r.1, ch_put m w r.2)) res) : ch_CT g false yX3_expression (d + 8) [.ref m] (ch_put m w σ) Q := by
  unfold m_X3_expression at h
  refine ch_ctL mX3_expression (ls := [some (va_rf (some m)), none, none]) q1985 rfl (ch_lyr (r := some m) ch_ly0) (Nat.le_of_ble_eq_true rfl) rfl ?_
  obtain ⟨p1, hp2, h⟩ := ch_bd h
  refine ch_aload_n 0 (some m) dX3_expression_0 rfl (ch_iv yX3_both prog_14_method_22_code 3 (some .int) (ci := 3) (q := (RX3, TX3, 109)) (b := m) (d' := (d + 7)) (av := []) (rest := []) rfl dX3_expression_1 q1986 q1988 rfl qs126 q1989 can_X3_both (Nat.le_refl _) (Nat.le_of_ble_eq_true rfl) ch_put_tag (cp_kI (v := p1.1) (w1 := ch_put m w p1.2) (fun Q' hq => hr1 hp2 hq) ?_))
  exact ch_istore_n 1 _ (ls1 := [some (va_rf (some m)), some (.int p1.1), none]) dX3_expression_4 (Nat.le_of_ble_eq_true rfl) rfl (ch_FT.wk (ch_wS (ch_wS (ch_wN ch_w0))) (sl_X3_expression_5 hr1 h hk))

theorem bX3_both_0 : ch_ck cX3_both 0 [42, 182, 1, 56, 60, 42, 17, 1, 38, 182, 1, 39, 153, 0, 25, 42] := ch_ckof (by decide +kernel)
theorem bX3_both_1 : ch_ck cX3_both 16 [182, 1, 33, 42, 182, 1, 56, 61, 42, 16, 16, 27, 28, 3, 182, 1] := ch_ckof (by decide +kernel)
theorem bX3_both_2 : ch_ck cX3_both 32 [52, 60, 167, 255, 227, 27, 172] := ch_ckof (by decide +kernel)
theorem dX3_both_0 : decode cX3_both 0 = .ok (.aload_n 0, 1) := dz_42 (bX3_both_0 0 _ rfl)
theorem dX3_both_1 : decode cX3_both 1 = .ok (.invokevirtual 312, 3) := dz_182 (bX3_both_0 1 _ rfl) (bX3_both_0 2 _ rfl) (bX3_both_0 3 _ rfl)
theorem dX3_both_4 : decode cX3_both 4 = .ok (.istore_n 1, 1) := dz_60 (bX3_both_0 4 _ rfl)
theorem dX3_both_5 : decode cX3_both 5 = .ok (.aload_n 0, 1) := dz_42 (bX3_both_0 5 _ rfl)
theorem dX3_both_6 : decode cX3_both 6 = .ok (.sipush 294, 3) := dz_17 (bX3_both_0 6 _ rfl) (bX3_both_0 7 _ rfl) (bX3_both_0 8 _ rfl)
theorem dX3_both_9 : decode cX3_both 9 = .ok (.invokevirtual 295, 3) := dz_182 (bX3_both_0 9 _ rfl) (bX3_both_0 10 _ rfl) (bX3_both_0 11 _ rfl)
theorem dX3_both_12 : decode cX3_both 12 = .ok (.ifCond .eq 25, 3) := dz_153 (bX3_both_0 12 _ rfl) (bX3_both_0 13 _ rfl) (bX3_both_0 14 _ rfl)
theorem dX3_both_15 : decode cX3_both 15 = .ok (.aload_n 0, 1) := dz_42 (bX3_both_0 15 _ rfl)
theorem dX3_both_16 : decode cX3_both 16 = .ok (.invokevirtual 289, 3) := dz_182 (bX3_both_1 0 _ rfl) (bX3_both_1 1 _ rfl) (bX3_both_1 2 _ rfl)
theorem dX3_both_19 : decode cX3_both 19 = .ok (.aload_n 0, 1) := dz_42 (bX3_both_1 3 _ rfl)
theorem dX3_both_20 : decode cX3_both 20 = .ok (.invokevirtual 312, 3) := dz_182 (bX3_both_1 4 _ rfl) (bX3_both_1 5 _ rfl) (bX3_both_1 6 _ rfl)
theorem dX3_both_23 : decode cX3_both 23 = .ok (.istore_n 2, 1) := dz_61 (bX3_both_1 7 _ rfl)
theorem dX3_both_24 : decode cX3_both 24 = .ok (.aload_n 0, 1) := dz_42 (bX3_both_1 8 _ rfl)
theorem dX3_both_25 : decode cX3_both 25 = .ok (.bipush 16, 2) := dz_16 (bX3_both_1 9 _ rfl) (bX3_both_1 10 _ rfl)
theorem dX3_both_27 : decode cX3_both 27 = .ok (.iload_n 1, 1) := dz_27 (bX3_both_1 11 _ rfl)
theorem dX3_both_28 : decode cX3_both 28 = .ok (.iload_n 2, 1) := dz_28 (bX3_both_1 12 _ rfl)
theorem dX3_both_29 : decode cX3_both 29 = .ok (.iconst 0, 1) := dz_3 (bX3_both_1 13 _ rfl)
theorem dX3_both_30 : decode cX3_both 30 = .ok (.invokevirtual 308, 3) := dz_182 (bX3_both_1 14 _ rfl) (bX3_both_1 15 _ rfl) (bX3_both_2 0 _ rfl)
theorem dX3_both_33 : decode cX3_both 33 = .ok (.istore_n 1, 1) := dz_60 (bX3_both_2 1 _ rfl)
theorem dX3_both_34 : decode cX3_both 34 = .ok (.goto (-29), 3) := dz_167 (bX3_both_2 2 _ rfl) (bX3_both_2 3 _ rfl) (bX3_both_2 4 _ rfl)
theorem dX3_both_37 : decode cX3_both 37 = .ok (.iload_n 1, 1) := dz_27 (bX3_both_2 5 _ rfl)
theorem dX3_both_38 : decode cX3_both 38 = .ok (.ireturn, 1) := dz_172 (bX3_both_2 6 _ rfl)
def m_X3_both_5 (rc : Nat → Int32 → Int32 → Int32 → ch_S → Option (Int32 × ch_S)) (x1 : Int32)  (σ : ch_S) : Option ((Int32 × ch_S) ⊕ (Int32 × ch_S)) := (m_X3_isSign 294 σ).bind fun v1 => if v1 = 0 then (some (.inr ((x1, σ)))) else ((m_X3_next σ).bind fun p3 => (rc 2 0 0 0 p3).bind fun p5 => (m_X3_node 16 x1 p5.1 0 p5.2).bind fun p7 => some (.inl (p7.1, p7.2)))
theorem s_X3_both_5 {g : State} {d : Nat} {rc : Nat → Int32 → Int32 → Int32 → ch_S → Option (Int32 × ch_S)} {m : Nat} {w : ch_W} (hr2 : ∀ {σ : ch_S} {p : Int32 × ch_S} {Q : Outcome → ch_W → Prop}, rc 2 0 0 0 σ = some p → ch_eI Q (p.1, ch_put m w p.2) → ch_CT g false yX3_equal (d + 7) [.ref m] (ch_put m w σ) Q)  {x1 : Int32} {σ : ch_S} {res : (Int32 × ch_S) ⊕ (Int32 × ch_S)} {Q : Outcome → ch_W → Prop} (h : m_X3_both_5 rc x1 σ = some res) (hk : (ch_sm (fun s => ch_FT g false mX3_both (d + 8) 5 [some (va_rf (some m)), some (.int s.1), none] [] (ch_put m w s.2) Q) (fun r => ch_eI Q (r.1, ch_put m w r.2))) res) : ch_FT g false mX3_both (d + 8) 5 [some (va_rf (some m)), some (.int x1), none] [] (ch_put m w σ) Q := by
  unfold m_X3_both_5 at h
  obtain ⟨v1, hp2, h⟩ := ch_bd h
  refine ch_aload_n 0 (some m) dX3_both_5 rfl (ch_sipush _ 294 dX3_both_6 rfl (ch_iv yX3_isSign prog_14_method_14_code 2 (some .boolean) (ci := 3) (q := (RX3, TX3, 109)) (b := m) (d' := 2) (av := [.int 294]) (rest := []) rfl dX3_both_9 q1942 q1944 rfl qs115 q1945 can_X3_isSign (Nat.le_trans (Nat.le_of_ble_eq_true rfl) (Nat.le_add_left 8 d)) (Nat.le_of_ble_eq_true rfl) ch_put_tag (cp_kI (v := v1) (w1 := ch_put m w σ) (fun Q' hq => s_X3_isSign hp2 hq) ?_)))
  refine cp_if_eq _ (tgt := 37) dX3_both_12 rfl h (fun h => ?_) (fun h => ?_)
  · obtain rfl := Option.some.inj h
    exact ch_iload_n 1 _ dX3_both_37 rfl (ch_ireturn _ dX3_both_38 rfl rfl hk)
  · obtain ⟨p3, hp4, h⟩ := ch_bd h
    refine ch_aload_n 0 (some m) dX3_both_15 rfl (ch_iv yX3_next prog_14_method_12_code 4 none (ci := 3) (q := (RX3, TX3, 109)) (b := m) (d' := 4) (av := []) (rest := []) rfl dX3_both_16 q1884 q1886 rfl qs105 q1887 can_X3_next (Nat.le_trans (Nat.le_of_ble_eq_true rfl) (Nat.le_add_left 8 d)) (Nat.le_of_ble_eq_true rfl) ch_put_tag (cp_kV (w1 := ch_put m w p3) (fun Q' hq => s_X3_next hp4 hq) ?_))
    obtain ⟨p5, hp6, h⟩ := ch_bd h
    refine ch_aload_n 0 (some m) dX3_both_19 rfl (ch_iv yX3_equal prog_14_method_24_code 2 (some .int) (ci := 3) (q := (RX3, TX3, 109)) (b := m) (d' := (d + 7)) (av := []) (rest := []) rfl dX3_both_20 q1990 q1992 rfl qs127 q1993 can_X3_equal (Nat.le_refl _) (Nat.le_of_ble_eq_true rfl) ch_put_tag (cp_kI (v := p5.1) (w1 := ch_put m w p5.2) (fun Q' hq => hr2 hp6 hq) ?_))
    obtain ⟨p7, hp8, h⟩ := ch_bd h
    refine ch_istore_n 2 _ (ls1 := [some (va_rf (some m)), some (.int x1), some (.int p5.1)]) dX3_both_23 (Nat.le_of_ble_eq_true rfl) rfl (ch_aload_n 0 (some m) dX3_both_24 rfl (ch_bipush _ 16 dX3_both_25 rfl (ch_iload_n 1 _ dX3_both_27 rfl (ch_iload_n 2 _ dX3_both_28 rfl (ch_iconst _ 0 dX3_both_29 rfl (ch_iv yX3_node prog_14_method_20_code 5 (some .int) (ci := 3) (q := (RX3, TX3, 109)) (b := m) (d' := 2) (av := [.int 16, .int x1, .int p5.1, .int 0]) (rest := []) rfl dX3_both_30 q2018 q2020 rfl qs134 q2021 can_X3_node (Nat.le_trans (Nat.le_of_ble_eq_true rfl) (Nat.le_add_left 8 d)) (Nat.le_of_ble_eq_true rfl) ch_put_tag (cp_kI (v := p7.1) (w1 := ch_put m w p7.2) (fun Q' hq => s_X3_node hp8 hq) ?_)))))))
    refine ch_istore_n 1 _ (ls1 := [some (va_rf (some m)), some (.int p7.1), some (.int p5.1)]) dX3_both_33 (Nat.le_of_ble_eq_true rfl) rfl (ch_goto 5 dX3_both_34 rfl (ch_FT.wk (ch_wS (ch_wS (ch_wN ch_w0))) ?_))
    obtain rfl := Option.some.inj h
    exact hk
theorem sl_X3_both_5 {g : State} {d : Nat} {rc : Nat → Int32 → Int32 → Int32 → ch_S → Option (Int32 × ch_S)} {m : Nat} {w : ch_W} (hr2 : ∀ {σ : ch_S} {p : Int32 × ch_S} {Q : Outcome → ch_W → Prop}, rc 2 0 0 0 σ = some p → ch_eI Q (p.1, ch_put m w p.2) → ch_CT g false yX3_equal (d + 7) [.ref m] (ch_put m w σ) Q)  {a : Int32 × ch_S} {res : Int32 × ch_S} {Q : Outcome → ch_W → Prop} (h : ch_loop (fun (s : Int32 × ch_S) => m_X3_both_5 rc s.1 s.2) a = some res) (hk : (fun r => ch_eI Q (r.1, ch_put m w r.2)) res) : ch_FT g false mX3_both (d + 8) 5 [some (va_rf (some m)), some (.int a.1), none] [] (ch_put m w a.2) Q := by
  refine ch_loop_ind (fun (a : Int32 × ch_S) (r : Int32 × ch_S) => (fun r => ch_eI Q (r.1, ch_put m w r.2)) r → ch_FT g false mX3_both (d + 8) 5 [some (va_rf (some m)), some (.int a.1), none] [] (ch_put m w a.2) Q) ?_ ?_ a res h hk
  · intro a a2 b h1 ih hk
    exact s_X3_both_5 hr2 h1 (ih hk)
  · intro a b h1 hk
    exact s_X3_both_5 hr2 h1 hk

def m_X3_both (rc : Nat → Int32 → Int32 → Int32 → ch_S → Option (Int32 × ch_S))  (σ : ch_S) : Option (Int32 × ch_S) := (rc 2 0 0 0 σ).bind fun p1 => ch_loop (fun (s : Int32 × ch_S) => m_X3_both_5 rc s.1 s.2) (p1.1, p1.2)
theorem s_X3_both {g : State} {d : Nat} {rc : Nat → Int32 → Int32 → Int32 → ch_S → Option (Int32 × ch_S)} {m : Nat} {w : ch_W} (hr2 : ∀ {σ : ch_S} {p : Int32 × ch_S} {Q : Outcome → ch_W → Prop}, rc 2 0 0 0 σ = some p → ch_eI Q (p.1, ch_put m w p.2) → ch_CT g false yX3_equal (d + 7) [.ref m] (ch_put m w σ) Q)  {σ : ch_S} {res : Int32 × ch_S} {Q : Outcome → ch_W → Prop} (h : m_X3_both rc σ = some res) (hk : (fun r => ch_eI Q (r.1, ch_put m w r.2)) res) : ch_CT g false yX3_both (d + 8) [.ref m] (ch_put m w σ) Q := by
  unfold m_X3_both at h
  refine ch_ctL mX3_both (ls := [some (va_rf (some m)), none, none]) q1989 rfl (ch_lyr (r := some m) ch_ly0) (Nat.le_of_ble_eq_true rfl) rfl ?_
  obtain ⟨p1, hp2, h⟩ := ch_bd h
  refine ch_aload_n 0 (some m) dX3_both_0 rfl (ch_iv yX3_equal prog_14_method_24_code 2 (some .int) (ci := 3) (q := (RX3, TX3, 109)) (b := m) (d' := (d + 7)) (av := []) (rest := []) rfl dX3_both_1 q1990 q1992 rfl qs127 q1993 can_X3_equal (Nat.le_refl _) (Nat.le_of_ble_eq_true rfl) ch_put_tag (cp_kI (v := p1.1) (w1 := ch_put m w p1.2) (fun Q' hq => hr2 hp2 hq) ?_))
  exact ch_istore_n 1 _ (ls1 := [some (va_rf (some m)), some (.int p1.1), none]) dX3_both_4 (Nat.le_of_ble_eq_true rfl) rfl (ch_FT.wk (ch_wS (ch_wS (ch_wN ch_w0))) (sl_X3_both_5 hr2 h hk))

theorem bX3_equal_0 : ch_ck cX3_equal 0 [42, 182, 1, 59, 60, 42, 17, 1, 61, 182, 1, 39, 154, 0, 13, 42] := ch_ckof (by decide +kernel)
theorem bX3_equal_1 : ch_ck cX3_equal 16 [17, 1, 33, 182, 1, 39, 153, 0, 11, 42, 27, 182, 1, 71, 167, 0] := ch_ckof (by decide +kernel)
theorem bX3_equal_2 : ch_ck cX3_equal 32 [4, 27, 172] := ch_ckof (by decide +kernel)
theorem dX3_equal_0 : decode cX3_equal 0 = .ok (.aload_n 0, 1) := dz_42 (bX3_equal_0 0 _ rfl)
theorem dX3_equal_1 : decode cX3_equal 1 = .ok (.invokevirtual 315, 3) := dz_182 (bX3_equal_0 1 _ rfl) (bX3_equal_0 2 _ rfl) (bX3_equal_0 3 _ rfl)
theorem dX3_equal_4 : decode cX3_equal 4 = .ok (.istore_n 1, 1) := dz_60 (bX3_equal_0 4 _ rfl)
theorem dX3_equal_5 : decode cX3_equal 5 = .ok (.aload_n 0, 1) := dz_42 (bX3_equal_0 5 _ rfl)
theorem dX3_equal_6 : decode cX3_equal 6 = .ok (.sipush 317, 3) := dz_17 (bX3_equal_0 6 _ rfl) (bX3_equal_0 7 _ rfl) (bX3_equal_0 8 _ rfl)
theorem dX3_equal_9 : decode cX3_equal 9 = .ok (.invokevirtual 295, 3) := dz_182 (bX3_equal_0 9 _ rfl) (bX3_equal_0 10 _ rfl) (bX3_equal_0 11 _ rfl)
theorem dX3_equal_12 : decode cX3_equal 12 = .ok (.ifCond .ne 13, 3) := dz_154 (bX3_equal_0 12 _ rfl) (bX3_equal_0 13 _ rfl) (bX3_equal_0 14 _ rfl)
theorem dX3_equal_15 : decode cX3_equal 15 = .ok (.aload_n 0, 1) := dz_42 (bX3_equal_0 15 _ rfl)
theorem dX3_equal_16 : decode cX3_equal 16 = .ok (.sipush 289, 3) := dz_17 (bX3_equal_1 0 _ rfl) (bX3_equal_1 1 _ rfl) (bX3_equal_1 2 _ rfl)
theorem dX3_equal_19 : decode cX3_equal 19 = .ok (.invokevirtual 295, 3) := dz_182 (bX3_equal_1 3 _ rfl) (bX3_equal_1 4 _ rfl) (bX3_equal_1 5 _ rfl)
theorem dX3_equal_22 : decode cX3_equal 22 = .ok (.ifCond .eq 11, 3) := dz_153 (bX3_equal_1 6 _ rfl) (bX3_equal_1 7 _ rfl) (bX3_equal_1 8 _ rfl)
theorem dX3_equal_25 : decode cX3_equal 25 = .ok (.aload_n 0, 1) := dz_42 (bX3_equal_1 9 _ rfl)
theorem dX3_equal_26 : decode cX3_equal 26 = .ok (.iload_n 1, 1) := dz_27 (bX3_equal_1 10 _ rfl)
theorem dX3_equal_27 : decode cX3_equal 27 = .ok (.invokevirtual 327, 3) := dz_182 (bX3_equal_1 11 _ rfl) (bX3_equal_1 12 _ rfl) (bX3_equal_1 13 _ rfl)
theorem dX3_equal_30 : decode cX3_equal 30 = .ok (.goto 4, 3) := dz_167 (bX3_equal_1 14 _ rfl) (bX3_equal_1 15 _ rfl) (bX3_equal_2 0 _ rfl)
theorem dX3_equal_33 : decode cX3_equal 33 = .ok (.iload_n 1, 1) := dz_27 (bX3_equal_2 1 _ rfl)
theorem dX3_equal_34 : decode cX3_equal 34 = .ok (.ireturn, 1) := dz_172 (bX3_equal_2 2 _ rfl)
def m_X3_equal_25 (rc : Nat → Int32 → Int32 → Int32 → ch_S → Option (Int32 × ch_S)) (x1 : Int32)  (σ : ch_S) : Option (Int32 × ch_S) := (rc 3 x1 0 0 σ).bind fun p1 => some ((p1.1, p1.2))
theorem s_X3_equal_25 {g : State} {d : Nat} {rc : Nat → Int32 → Int32 → Int32 → ch_S → Option (Int32 × ch_S)} {m : Nat} {w : ch_W} (hr3 : ∀ {z0 : Int32} {σ : ch_S} {p : Int32 × ch_S} {Q : Outcome → ch_W → Prop}, rc 3 z0 0 0 σ = some p → ch_eI Q (p.1, ch_put m w p.2) → ch_CT g false yX3_signed (d + 7) [.ref m, .int z0] (ch_put m w σ) Q) (hr4 : ∀ {σ : ch_S} {p : Int32 × ch_S} {Q : Outcome → ch_W → Prop}, rc 4 0 0 0 σ = some p → ch_eI Q (p.1, ch_put m w p.2) → ch_CT g false yX3_related (d + 7) [.ref m] (ch_put m w σ) Q)  {x1 : Int32} {σ : ch_S} {res : Int32 × ch_S} {Q : Outcome → ch_W → Prop} (h : m_X3_equal_25 rc x1 σ = some res) (hk : (fun r => ch_eI Q (r.1, ch_put m w r.2)) res) : ch_FT g false mX3_equal (d + 8) 25 [some (va_rf (some m)), some (.int x1)] [] (ch_put m w σ) Q := by
  unfold m_X3_equal_25 at h
  obtain ⟨p1, hp2, h⟩ := ch_bd h
  refine ch_aload_n 0 (some m) dX3_equal_25 rfl (ch_iload_n 1 _ dX3_equal_26 rfl (ch_iv yX3_signed prog_14_method_23_code 4 (some .int) (ci := 3) (q := (RX3, TX3, 109)) (b := m) (d' := (d + 7)) (av := [.int x1]) (rest := []) rfl dX3_equal_27 q2028 q2030 rfl qs136 q2031 can_X3_signed (Nat.le_refl _) (Nat.le_of_ble_eq_true rfl) ch_put_tag (cp_kI (v := p1.1) (w1 := ch_put m w p1.2) (fun Q' hq => hr3 hp2 hq) ?_)))
  obtain rfl := Option.some.inj h
  exact ch_goto 34 dX3_equal_30 rfl (ch_ireturn _ dX3_equal_34 rfl rfl hk)

def m_X3_equal (rc : Nat → Int32 → Int32 → Int32 → ch_S → Option (Int32 × ch_S))  (σ : ch_S) : Option (Int32 × ch_S) := (rc 4 0 0 0 σ).bind fun p1 => (m_X3_isSign 317 p1.2).bind fun v3 => if v3 = 0 then ((m_X3_isSign 289 p1.2).bind fun v5 => if v5 = 0 then (some ((p1.1, p1.2))) else (m_X3_equal_25 rc p1.1 p1.2)) else (m_X3_equal_25 rc p1.1 p1.2)
theorem s_X3_equal {g : State} {d : Nat} {rc : Nat → Int32 → Int32 → Int32 → ch_S → Option (Int32 × ch_S)} {m : Nat} {w : ch_W} (hr3 : ∀ {z0 : Int32} {σ : ch_S} {p : Int32 × ch_S} {Q : Outcome → ch_W → Prop}, rc 3 z0 0 0 σ = some p → ch_eI Q (p.1, ch_put m w p.2) → ch_CT g false yX3_signed (d + 7) [.ref m, .int z0] (ch_put m w σ) Q) (hr4 : ∀ {σ : ch_S} {p : Int32 × ch_S} {Q : Outcome → ch_W → Prop}, rc 4 0 0 0 σ = some p → ch_eI Q (p.1, ch_put m w p.2) → ch_CT g false yX3_related (d + 7) [.ref m] (ch_put m w σ) Q)  {σ : ch_S} {res : Int32 × ch_S} {Q : Outcome → ch_W → Prop} (h : m_X3_equal rc σ = some res) (hk : (fun r => ch_eI Q (r.1, ch_put m w r.2)) res) : ch_CT g false yX3_equal (d + 8) [.ref m] (ch_put m w σ) Q := by
  unfold m_X3_equal at h
  refine ch_ctL mX3_equal (ls := [some (va_rf (some m)), none]) q1993 rfl (ch_lyr (r := some m) ch_ly0) (Nat.le_of_ble_eq_true rfl) rfl ?_
  obtain ⟨p1, hp2, h⟩ := ch_bd h
  refine ch_aload_n 0 (some m) dX3_equal_0 rfl (ch_iv yX3_related prog_14_method_25_code 3 (some .int) (ci := 3) (q := (RX3, TX3, 109)) (b := m) (d' := (d + 7)) (av := []) (rest := []) rfl dX3_equal_1 q1994 q1996 rfl qs128 q1997 can_X3_related (Nat.le_refl _) (Nat.le_of_ble_eq_true rfl) ch_put_tag (cp_kI (v := p1.1) (w1 := ch_put m w p1.2) (fun Q' hq => hr4 hp2 hq) ?_))
  obtain ⟨v3, hp4, h⟩ := ch_bd h
  refine ch_istore_n 1 _ (ls1 := [some (va_rf (some m)), some (.int p1.1)]) dX3_equal_4 (Nat.le_of_ble_eq_true rfl) rfl (ch_aload_n 0 (some m) dX3_equal_5 rfl (ch_sipush _ 317 dX3_equal_6 rfl (ch_iv yX3_isSign prog_14_method_14_code 2 (some .boolean) (ci := 3) (q := (RX3, TX3, 109)) (b := m) (d' := 2) (av := [.int 317]) (rest := []) rfl dX3_equal_9 q1942 q1944 rfl qs115 q1945 can_X3_isSign (Nat.le_trans (Nat.le_of_ble_eq_true rfl) (Nat.le_add_left 8 d)) (Nat.le_of_ble_eq_true rfl) ch_put_tag (cp_kI (v := v3) (w1 := ch_put m w p1.2) (fun Q' hq => s_X3_isSign hp4 hq) ?_))))
  refine cp_if_ne _ (tgt := 25) dX3_equal_12 rfl h (fun h => ?_) (fun h => ?_)
  · exact ch_FT.wk (ch_wS (ch_wS ch_w0)) (s_X3_equal_25 hr3 hr4 h hk)
  · obtain ⟨v5, hp6, h⟩ := ch_bd h
    refine ch_aload_n 0 (some m) dX3_equal_15 rfl (ch_sipush _ 289 dX3_equal_16 rfl (ch_iv yX3_isSign prog_14_method_14_code 2 (some .boolean) (ci := 3) (q := (RX3, TX3, 109)) (b := m) (d' := 2) (av := [.int 289]) (rest := []) rfl dX3_equal_19 q1942 q1944 rfl qs115 q1945 can_X3_isSign (Nat.le_trans (Nat.le_of_ble_eq_true rfl) (Nat.le_add_left 8 d)) (Nat.le_of_ble_eq_true rfl) ch_put_tag (cp_kI (v := v5) (w1 := ch_put m w p1.2) (fun Q' hq => s_X3_isSign hp6 hq) ?_)))
    refine cp_if_eq _ (tgt := 33) dX3_equal_22 rfl h (fun h => ?_) (fun h => ?_)
    · obtain rfl := Option.some.inj h
      exact ch_iload_n 1 _ dX3_equal_33 rfl (ch_ireturn _ dX3_equal_34 rfl rfl hk)
    · exact ch_FT.wk (ch_wS (ch_wS ch_w0)) (s_X3_equal_25 hr3 hr4 h hk)

theorem bX3_signed_0 : ch_ck cX3_signed 0 [42, 180, 1, 0, 61, 42, 182, 1, 33, 28, 17, 1, 61, 159, 0, 10] := ch_ckof (by decide +kernel)
theorem bX3_signed_1 : ch_ck cX3_signed 16 [28, 17, 1, 33, 160, 0, 10, 42, 182, 1, 59, 167, 0, 46, 28, 16] := ch_ckof (by decide +kernel)
theorem bX3_signed_2 : ch_ck cX3_signed 32 [60, 159, 0, 10, 28, 17, 1, 60, 160, 0, 10, 42, 182, 1, 62, 167] := ch_ckof (by decide +kernel)
theorem bX3_signed_3 : ch_ck cX3_signed 48 [0, 26, 28, 16, 43, 159, 0, 9, 28, 16, 45, 160, 0, 10, 42, 182] := ch_ckof (by decide +kernel)
theorem bX3_signed_4 : ch_ck cX3_signed 64 [1, 65, 167, 0, 7, 42, 182, 1, 68, 62, 42, 16, 15, 27, 29, 28] := ch_ckof (by decide +kernel)
theorem bX3_signed_5 : ch_ck cX3_signed 80 [182, 1, 52, 172] := ch_ckof (by decide +kernel)
theorem dX3_signed_0 : decode cX3_signed 0 = .ok (.aload_n 0, 1) := dz_42 (bX3_signed_0 0 _ rfl)
theorem dX3_signed_1 : decode cX3_signed 1 = .ok (.getfield 256, 3) := dz_180 (bX3_signed_0 1 _ rfl) (bX3_signed_0 2 _ rfl) (bX3_signed_0 3 _ rfl)
theorem dX3_signed_4 : decode cX3_signed 4 = .ok (.istore_n 2, 1) := dz_61 (bX3_signed_0 4 _ rfl)
theorem dX3_signed_5 : decode cX3_signed 5 = .ok (.aload_n 0, 1) := dz_42 (bX3_signed_0 5 _ rfl)
theorem dX3_signed_6 : decode cX3_signed 6 = .ok (.invokevirtual 289, 3) := dz_182 (bX3_signed_0 6 _ rfl) (bX3_signed_0 7 _ rfl) (bX3_signed_0 8 _ rfl)
theorem dX3_signed_9 : decode cX3_signed 9 = .ok (.iload_n 2, 1) := dz_28 (bX3_signed_0 9 _ rfl)
theorem dX3_signed_10 : decode cX3_signed 10 = .ok (.sipush 317, 3) := dz_17 (bX3_signed_0 10 _ rfl) (bX3_signed_0 11 _ rfl) (bX3_signed_0 12 _ rfl)
theorem dX3_signed_13 : decode cX3_signed 13 = .ok (.if_icmp .eq 10, 3) := dz_159 (bX3_signed_0 13 _ rfl) (bX3_signed_0 14 _ rfl) (bX3_signed_0 15 _ rfl)
theorem dX3_signed_16 : decode cX3_signed 16 = .ok (.iload_n 2, 1) := dz_28 (bX3_signed_1 0 _ rfl)
theorem dX3_signed_17 : decode cX3_signed 17 = .ok (.sipush 289, 3) := dz_17 (bX3_signed_1 1 _ rfl) (bX3_signed_1 2 _ rfl) (bX3_signed_1 3 _ rfl)
theorem dX3_signed_20 : decode cX3_signed 20 = .ok (.if_icmp .ne 10, 3) := dz_160 (bX3_signed_1 4 _ rfl) (bX3_signed_1 5 _ rfl) (bX3_signed_1 6 _ rfl)
theorem dX3_signed_23 : decode cX3_signed 23 = .ok (.aload_n 0, 1) := dz_42 (bX3_signed_1 7 _ rfl)
theorem dX3_signed_24 : decode cX3_signed 24 = .ok (.invokevirtual 315, 3) := dz_182 (bX3_signed_1 8 _ rfl) (bX3_signed_1 9 _ rfl) (bX3_signed_1 10 _ rfl)
theorem dX3_signed_27 : decode cX3_signed 27 = .ok (.goto 46, 3) := dz_167 (bX3_signed_1 11 _ rfl) (bX3_signed_1 12 _ rfl) (bX3_signed_1 13 _ rfl)
theorem dX3_signed_30 : decode cX3_signed 30 = .ok (.iload_n 2, 1) := dz_28 (bX3_signed_1 14 _ rfl)
theorem dX3_signed_31 : decode cX3_signed 31 = .ok (.bipush 60, 2) := dz_16 (bX3_signed_1 15 _ rfl) (bX3_signed_2 0 _ rfl)
theorem dX3_signed_33 : decode cX3_signed 33 = .ok (.if_icmp .eq 10, 3) := dz_159 (bX3_signed_2 1 _ rfl) (bX3_signed_2 2 _ rfl) (bX3_signed_2 3 _ rfl)
theorem dX3_signed_36 : decode cX3_signed 36 = .ok (.iload_n 2, 1) := dz_28 (bX3_signed_2 4 _ rfl)
theorem dX3_signed_37 : decode cX3_signed 37 = .ok (.sipush 316, 3) := dz_17 (bX3_signed_2 5 _ rfl) (bX3_signed_2 6 _ rfl) (bX3_signed_2 7 _ rfl)
theorem dX3_signed_40 : decode cX3_signed 40 = .ok (.if_icmp .ne 10, 3) := dz_160 (bX3_signed_2 8 _ rfl) (bX3_signed_2 9 _ rfl) (bX3_signed_2 10 _ rfl)
theorem dX3_signed_43 : decode cX3_signed 43 = .ok (.aload_n 0, 1) := dz_42 (bX3_signed_2 11 _ rfl)
theorem dX3_signed_44 : decode cX3_signed 44 = .ok (.invokevirtual 318, 3) := dz_182 (bX3_signed_2 12 _ rfl) (bX3_signed_2 13 _ rfl) (bX3_signed_2 14 _ rfl)
theorem dX3_signed_47 : decode cX3_signed 47 = .ok (.goto 26, 3) := dz_167 (bX3_signed_2 15 _ rfl) (bX3_signed_3 0 _ rfl) (bX3_signed_3 1 _ rfl)
theorem dX3_signed_50 : decode cX3_signed 50 = .ok (.iload_n 2, 1) := dz_28 (bX3_signed_3 2 _ rfl)
theorem dX3_signed_51 : decode cX3_signed 51 = .ok (.bipush 43, 2) := dz_16 (bX3_signed_3 3 _ rfl) (bX3_signed_3 4 _ rfl)
theorem dX3_signed_53 : decode cX3_signed 53 = .ok (.if_icmp .eq 9, 3) := dz_159 (bX3_signed_3 5 _ rfl) (bX3_signed_3 6 _ rfl) (bX3_signed_3 7 _ rfl)
theorem dX3_signed_56 : decode cX3_signed 56 = .ok (.iload_n 2, 1) := dz_28 (bX3_signed_3 8 _ rfl)
theorem dX3_signed_57 : decode cX3_signed 57 = .ok (.bipush 45, 2) := dz_16 (bX3_signed_3 9 _ rfl) (bX3_signed_3 10 _ rfl)
theorem dX3_signed_59 : decode cX3_signed 59 = .ok (.if_icmp .ne 10, 3) := dz_160 (bX3_signed_3 11 _ rfl) (bX3_signed_3 12 _ rfl) (bX3_signed_3 13 _ rfl)
theorem dX3_signed_62 : decode cX3_signed 62 = .ok (.aload_n 0, 1) := dz_42 (bX3_signed_3 14 _ rfl)
theorem dX3_signed_63 : decode cX3_signed 63 = .ok (.invokevirtual 321, 3) := dz_182 (bX3_signed_3 15 _ rfl) (bX3_signed_4 0 _ rfl) (bX3_signed_4 1 _ rfl)
theorem dX3_signed_66 : decode cX3_signed 66 = .ok (.goto 7, 3) := dz_167 (bX3_signed_4 2 _ rfl) (bX3_signed_4 3 _ rfl) (bX3_signed_4 4 _ rfl)
theorem dX3_signed_69 : decode cX3_signed 69 = .ok (.aload_n 0, 1) := dz_42 (bX3_signed_4 5 _ rfl)
theorem dX3_signed_70 : decode cX3_signed 70 = .ok (.invokevirtual 324, 3) := dz_182 (bX3_signed_4 6 _ rfl) (bX3_signed_4 7 _ rfl) (bX3_signed_4 8 _ rfl)
theorem dX3_signed_73 : decode cX3_signed 73 = .ok (.istore_n 3, 1) := dz_62 (bX3_signed_4 9 _ rfl)
theorem dX3_signed_74 : decode cX3_signed 74 = .ok (.aload_n 0, 1) := dz_42 (bX3_signed_4 10 _ rfl)
theorem dX3_signed_75 : decode cX3_signed 75 = .ok (.bipush 15, 2) := dz_16 (bX3_signed_4 11 _ rfl) (bX3_signed_4 12 _ rfl)
theorem dX3_signed_77 : decode cX3_signed 77 = .ok (.iload_n 1, 1) := dz_27 (bX3_signed_4 13 _ rfl)
theorem dX3_signed_78 : decode cX3_signed 78 = .ok (.iload_n 3, 1) := dz_29 (bX3_signed_4 14 _ rfl)
theorem dX3_signed_79 : decode cX3_signed 79 = .ok (.iload_n 2, 1) := dz_28 (bX3_signed_4 15 _ rfl)
theorem dX3_signed_80 : decode cX3_signed 80 = .ok (.invokevirtual 308, 3) := dz_182 (bX3_signed_5 0 _ rfl) (bX3_signed_5 1 _ rfl) (bX3_signed_5 2 _ rfl)
theorem dX3_signed_83 : decode cX3_signed 83 = .ok (.ireturn, 1) := dz_172 (bX3_signed_5 3 _ rfl)
def m_X3_signed_73 (rc : Nat → Int32 → Int32 → Int32 → ch_S → Option (Int32 × ch_S)) (x1 : Int32) (x2 : Int32) (y0 : Int32) (σ : ch_S) : Option (Int32 × ch_S) := (m_X3_node 15 x1 y0 x2 σ).bind fun p1 => some ((p1.1, p1.2))
theorem s_X3_signed_73 {g : State} {d : Nat} {rc : Nat → Int32 → Int32 → Int32 → ch_S → Option (Int32 × ch_S)} {m : Nat} {w : ch_W} (hr4 : ∀ {σ : ch_S} {p : Int32 × ch_S} {Q : Outcome → ch_W → Prop}, rc 4 0 0 0 σ = some p → ch_eI Q (p.1, ch_put m w p.2) → ch_CT g false yX3_related (d + 7) [.ref m] (ch_put m w σ) Q) (hr5 : ∀ {σ : ch_S} {p : Int32 × ch_S} {Q : Outcome → ch_W → Prop}, rc 5 0 0 0 σ = some p → ch_eI Q (p.1, ch_put m w p.2) → ch_CT g false yX3_sum (d + 7) [.ref m] (ch_put m w σ) Q) (hr6 : ∀ {σ : ch_S} {p : Int32 × ch_S} {Q : Outcome → ch_W → Prop}, rc 6 0 0 0 σ = some p → ch_eI Q (p.1, ch_put m w p.2) → ch_CT g false yX3_product (d + 7) [.ref m] (ch_put m w σ) Q) (hr7 : ∀ {σ : ch_S} {p : Int32 × ch_S} {Q : Outcome → ch_W → Prop}, rc 7 0 0 0 σ = some p → ch_eI Q (p.1, ch_put m w p.2) → ch_CT g false yX3_single (d + 7) [.ref m] (ch_put m w σ) Q)  {x1 : Int32} {x2 : Int32} {y0 : Int32} {σ : ch_S} {res : Int32 × ch_S} {Q : Outcome → ch_W → Prop} (h : m_X3_signed_73 rc x1 x2 y0 σ = some res) (hk : (fun r => ch_eI Q (r.1, ch_put m w r.2)) res) : ch_FT g false mX3_signed (d + 8) 73 [some (va_rf (some m)), some (.int x1), some (.int x2), none] [.int y0] (ch_put m w σ) Q := by
  unfold m_X3_signed_73 at h
  obtain ⟨p1, hp2, h⟩ := ch_bd h
  refine ch_istore_n 3 _ (ls1 := [some (va_rf (some m)), some (.int x1), some (.int x2), some (.int y0)]) dX3_signed_73 (Nat.le_of_ble_eq_true rfl) rfl (ch_aload_n 0 (some m) dX3_signed_74 rfl (ch_bipush _ 15 dX3_signed_75 rfl (ch_iload_n 1 _ dX3_signed_77 rfl (ch_iload_n 3 _ dX3_signed_78 rfl (ch_iload_n 2 _ dX3_signed_79 rfl (ch_iv yX3_node prog_14_method_20_code 5 (some .int) (ci := 3) (q := (RX3, TX3, 109)) (b := m) (d' := 2) (av := [.int 15, .int x1, .int y0, .int x2]) (rest := []) rfl dX3_signed_80 q2018 q2020 rfl qs134 q2021 can_X3_node (Nat.le_trans (Nat.le_of_ble_eq_true rfl) (Nat.le_add_left 8 d)) (Nat.le_of_ble_eq_true rfl) ch_put_tag (cp_kI (v := p1.1) (w1 := ch_put m w p1.2) (fun Q' hq => s_X3_node hp2 hq) ?_)))))))
  obtain rfl := Option.some.inj h
  exact ch_ireturn _ dX3_signed_83 rfl rfl hk

def m_X3_signed_23 (rc : Nat → Int32 → Int32 → Int32 → ch_S → Option (Int32 × ch_S)) (x1 : Int32) (x2 : Int32)  (σ : ch_S) : Option (Int32 × ch_S) := (rc 4 0 0 0 σ).bind fun p1 => m_X3_signed_73 rc x1 x2 p1.1 p1.2
theorem s_X3_signed_23 {g : State} {d : Nat} {rc : Nat → Int32 → Int32 → Int32 → ch_S → Option (Int32 × ch_S)} {m : Nat} {w : ch_W} (hr4 : ∀ {σ : ch_S} {p : Int32 × ch_S} {Q : Outcome → ch_W → Prop}, rc 4 0 0 0 σ = some p → ch_eI Q (p.1, ch_put m w p.2) → ch_CT g false yX3_related (d + 7) [.ref m] (ch_put m w σ) Q) (hr5 : ∀ {σ : ch_S} {p : Int32 × ch_S} {Q : Outcome → ch_W → Prop}, rc 5 0 0 0 σ = some p → ch_eI Q (p.1, ch_put m w p.2) → ch_CT g false yX3_sum (d + 7) [.ref m] (ch_put m w σ) Q) (hr6 : ∀ {σ : ch_S} {p : Int32 × ch_S} {Q : Outcome → ch_W → Prop}, rc 6 0 0 0 σ = some p → ch_eI Q (p.1, ch_put m w p.2) → ch_CT g false yX3_product (d + 7) [.ref m] (ch_put m w σ) Q) (hr7 : ∀ {σ : ch_S} {p : Int32 × ch_S} {Q : Outcome → ch_W → Prop}, rc 7 0 0 0 σ = some p → ch_eI Q (p.1, ch_put m w p.2) → ch_CT g false yX3_single (d + 7) [.ref m] (ch_put m w σ) Q)  {x1 : Int32} {x2 : Int32} {σ : ch_S} {res : Int32 × ch_S} {Q : Outcome → ch_W → Prop} (h : m_X3_signed_23 rc x1 x2 σ = some res) (hk : (fun r => ch_eI Q (r.1, ch_put m w r.2)) res) : ch_FT g false mX3_signed (d + 8) 23 [some (va_rf (some m)), some (.int x1), some (.int x2), none] [] (ch_put m w σ) Q := by
  unfold m_X3_signed_23 at h
  obtain ⟨p1, hp2, h⟩ := ch_bd h
  refine ch_aload_n 0 (some m) dX3_signed_23 rfl (ch_iv yX3_related prog_14_method_25_code 3 (some .int) (ci := 3) (q := (RX3, TX3, 109)) (b := m) (d' := (d + 7)) (av := []) (rest := []) rfl dX3_signed_24 q1994 q1996 rfl qs128 q1997 can_X3_related (Nat.le_refl _) (Nat.le_of_ble_eq_true rfl) ch_put_tag (cp_kI (v := p1.1) (w1 := ch_put m w p1.2) (fun Q' hq => hr4 hp2 hq) ?_))
  exact ch_goto 73 dX3_signed_27 rfl (ch_FT.wk (ch_wS (ch_wS (ch_wS (ch_wN ch_w0)))) (s_X3_signed_73 hr4 hr5 hr6 hr7 h hk))

def m_X3_signed_43 (rc : Nat → Int32 → Int32 → Int32 → ch_S → Option (Int32 × ch_S)) (x1 : Int32) (x2 : Int32)  (σ : ch_S) : Option (Int32 × ch_S) := (rc 5 0 0 0 σ).bind fun p1 => m_X3_signed_73 rc x1 x2 p1.1 p1.2
theorem s_X3_signed_43 {g : State} {d : Nat} {rc : Nat → Int32 → Int32 → Int32 → ch_S → Option (Int32 × ch_S)} {m : Nat} {w : ch_W} (hr4 : ∀ {σ : ch_S} {p : Int32 × ch_S} {Q : Outcome → ch_W → Prop}, rc 4 0 0 0 σ = some p → ch_eI Q (p.1, ch_put m w p.2) → ch_CT g false yX3_related (d + 7) [.ref m] (ch_put m w σ) Q) (hr5 : ∀ {σ : ch_S} {p : Int32 × ch_S} {Q : Outcome → ch_W → Prop}, rc 5 0 0 0 σ = some p → ch_eI Q (p.1, ch_put m w p.2) → ch_CT g false yX3_sum (d + 7) [.ref m] (ch_put m w σ) Q) (hr6 : ∀ {σ : ch_S} {p : Int32 × ch_S} {Q : Outcome → ch_W → Prop}, rc 6 0 0 0 σ = some p → ch_eI Q (p.1, ch_put m w p.2) → ch_CT g false yX3_product (d + 7) [.ref m] (ch_put m w σ) Q) (hr7 : ∀ {σ : ch_S} {p : Int32 × ch_S} {Q : Outcome → ch_W → Prop}, rc 7 0 0 0 σ = some p → ch_eI Q (p.1, ch_put m w p.2) → ch_CT g false yX3_single (d + 7) [.ref m] (ch_put m w σ) Q)  {x1 : Int32} {x2 : Int32} {σ : ch_S} {res : Int32 × ch_S} {Q : Outcome → ch_W → Prop} (h : m_X3_signed_43 rc x1 x2 σ = some res) (hk : (fun r => ch_eI Q (r.1, ch_put m w r.2)) res) : ch_FT g false mX3_signed (d + 8) 43 [some (va_rf (some m)), some (.int x1), some (.int x2), none] [] (ch_put m w σ) Q := by
  unfold m_X3_signed_43 at h
  obtain ⟨p1, hp2, h⟩ := ch_bd h
  refine ch_aload_n 0 (some m) dX3_signed_43 rfl (ch_iv yX3_sum prog_14_method_26_code 2 (some .int) (ci := 3) (q := (RX3, TX3, 109)) (b := m) (d' := (d + 7)) (av := []) (rest := []) rfl dX3_signed_44 q1998 q2000 rfl qs129 q2001 can_X3_sum (Nat.le_refl _) (Nat.le_of_ble_eq_true rfl) ch_put_tag (cp_kI (v := p1.1) (w1 := ch_put m w p1.2) (fun Q' hq => hr5 hp2 hq) ?_))
  exact ch_goto 73 dX3_signed_47 rfl (ch_FT.wk (ch_wS (ch_wS (ch_wS (ch_wN ch_w0)))) (s_X3_signed_73 hr4 hr5 hr6 hr7 h hk))

def m_X3_signed_62 (rc : Nat → Int32 → Int32 → Int32 → ch_S → Option (Int32 × ch_S)) (x1 : Int32) (x2 : Int32)  (σ : ch_S) : Option (Int32 × ch_S) := (rc 6 0 0 0 σ).bind fun p1 => m_X3_signed_73 rc x1 x2 p1.1 p1.2
theorem s_X3_signed_62 {g : State} {d : Nat} {rc : Nat → Int32 → Int32 → Int32 → ch_S → Option (Int32 × ch_S)} {m : Nat} {w : ch_W} (hr4 : ∀ {σ : ch_S} {p : Int32 × ch_S} {Q : Outcome → ch_W → Prop}, rc 4 0 0 0 σ = some p → ch_eI Q (p.1, ch_put m w p.2) → ch_CT g false yX3_related (d + 7) [.ref m] (ch_put m w σ) Q) (hr5 : ∀ {σ : ch_S} {p : Int32 × ch_S} {Q : Outcome → ch_W → Prop}, rc 5 0 0 0 σ = some p → ch_eI Q (p.1, ch_put m w p.2) → ch_CT g false yX3_sum (d + 7) [.ref m] (ch_put m w σ) Q) (hr6 : ∀ {σ : ch_S} {p : Int32 × ch_S} {Q : Outcome → ch_W → Prop}, rc 6 0 0 0 σ = some p → ch_eI Q (p.1, ch_put m w p.2) → ch_CT g false yX3_product (d + 7) [.ref m] (ch_put m w σ) Q) (hr7 : ∀ {σ : ch_S} {p : Int32 × ch_S} {Q : Outcome → ch_W → Prop}, rc 7 0 0 0 σ = some p → ch_eI Q (p.1, ch_put m w p.2) → ch_CT g false yX3_single (d + 7) [.ref m] (ch_put m w σ) Q)  {x1 : Int32} {x2 : Int32} {σ : ch_S} {res : Int32 × ch_S} {Q : Outcome → ch_W → Prop} (h : m_X3_signed_62 rc x1 x2 σ = some res) (hk : (fun r => ch_eI Q (r.1, ch_put m w r.2)) res) : ch_FT g false mX3_signed (d + 8) 62 [some (va_rf (some m)), some (.int x1), some (.int x2), none] [] (ch_put m w σ) Q := by
  unfold m_X3_signed_62 at h
  obtain ⟨p1, hp2, h⟩ := ch_bd h
  refine ch_aload_n 0 (some m) dX3_signed_62 rfl (ch_iv yX3_product prog_14_method_27_code 2 (some .int) (ci := 3) (q := (RX3, TX3, 109)) (b := m) (d' := (d + 7)) (av := []) (rest := []) rfl dX3_signed_63 q2002 q2004 rfl qs130 q2005 can_X3_product (Nat.le_refl _) (Nat.le_of_ble_eq_true rfl) ch_put_tag (cp_kI (v := p1.1) (w1 := ch_put m w p1.2) (fun Q' hq => hr6 hp2 hq) ?_))
  exact ch_goto 73 dX3_signed_66 rfl (ch_FT.wk (ch_wS (ch_wS (ch_wS (ch_wN ch_w0)))) (s_X3_signed_73 hr4 hr5 hr6 hr7 h hk))

def m_X3_signed (rc : Nat → Int32 → Int32 → Int32 → ch_S → Option (Int32 × ch_S)) (x1 : Int32) (σ : ch_S) : Option (Int32 × ch_S) := (m_X3_next σ).bind fun p1 => if (σ.1 fX3_wordValue) = 317 then (m_X3_signed_23 rc x1 (σ.1 fX3_wordValue) p1) else (if (σ.1 fX3_wordValue) = 289 then (m_X3_signed_23 rc x1 (σ.1 fX3_wordValue) p1) else (if (σ.1 fX3_wordValue) = 60 then (m_X3_signed_43 rc x1 (σ.1 fX3_wordValue) p1) else (if (σ.1 fX3_wordValue) = 316 then (m_X3_signed_43 rc x1 (σ.1 fX3_wordValue) p1) else (if (σ.1 fX3_wordValue) = 43 then (m_X3_signed_62 rc x1 (σ.1 fX3_wordValue) p1) else (if (σ.1 fX3_wordValue) = 45 then (m_X3_signed_62 rc x1 (σ.1 fX3_wordValue) p1) else ((rc 7 0 0 0 p1).bind fun p3 => m_X3_signed_73 rc x1 (σ.1 fX3_wordValue) p3.1 p3.2))))))
theorem s_X3_signed {g : State} {d : Nat} {rc : Nat → Int32 → Int32 → Int32 → ch_S → Option (Int32 × ch_S)} {m : Nat} {w : ch_W} (hr4 : ∀ {σ : ch_S} {p : Int32 × ch_S} {Q : Outcome → ch_W → Prop}, rc 4 0 0 0 σ = some p → ch_eI Q (p.1, ch_put m w p.2) → ch_CT g false yX3_related (d + 7) [.ref m] (ch_put m w σ) Q) (hr5 : ∀ {σ : ch_S} {p : Int32 × ch_S} {Q : Outcome → ch_W → Prop}, rc 5 0 0 0 σ = some p → ch_eI Q (p.1, ch_put m w p.2) → ch_CT g false yX3_sum (d + 7) [.ref m] (ch_put m w σ) Q) (hr6 : ∀ {σ : ch_S} {p : Int32 × ch_S} {Q : Outcome → ch_W → Prop}, rc 6 0 0 0 σ = some p → ch_eI Q (p.1, ch_put m w p.2) → ch_CT g false yX3_product (d + 7) [.ref m] (ch_put m w σ) Q) (hr7 : ∀ {σ : ch_S} {p : Int32 × ch_S} {Q : Outcome → ch_W → Prop}, rc 7 0 0 0 σ = some p → ch_eI Q (p.1, ch_put m w p.2) → ch_CT g false yX3_single (d + 7) [.ref m] (ch_put m w σ) Q)  {x1 : Int32} {σ : ch_S} {res : Int32 × ch_S} {Q : Outcome → ch_W → Prop} (h : m_X3_signed rc x1 σ = some res) (hk : (fun r => ch_eI Q (r.1, ch_put m w r.2)) res) : ch_CT g false yX3_signed (d + 8) [.ref m, .int x1] (ch_put m w σ) Q := by
  unfold m_X3_signed at h
  refine ch_ctL mX3_signed (ls := [some (va_rf (some m)), some (.int x1), none, none]) q2031 rfl (ch_lyr (r := some m) (ch_lyi ch_ly0)) (Nat.le_of_ble_eq_true rfl) rfl ?_
  obtain ⟨p1, hp2, h⟩ := ch_bd h
  refine ch_aload_n 0 (some m) dX3_signed_0 rfl (mp_gI 8 dX3_signed_1 fl_X3_256 rfl (ch_istore_n 2 _ (ls1 := [some (va_rf (some m)), some (.int x1), some (.int (σ.1 fX3_wordValue)), none]) dX3_signed_4 (Nat.le_of_ble_eq_true rfl) rfl (ch_aload_n 0 (some m) dX3_signed_5 rfl (ch_iv yX3_next prog_14_method_12_code 4 none (ci := 3) (q := (RX3, TX3, 109)) (b := m) (d' := 4) (av := []) (rest := []) rfl dX3_signed_6 q1884 q1886 rfl qs105 q1887 can_X3_next (Nat.le_trans (Nat.le_of_ble_eq_true rfl) (Nat.le_add_left 8 d)) (Nat.le_of_ble_eq_true rfl) ch_put_tag (cp_kV (w1 := ch_put m w p1) (fun Q' hq => s_X3_next hp2 hq) ?_)))))
  refine ch_iload_n 2 _ dX3_signed_9 rfl (ch_sipush _ 317 dX3_signed_10 rfl (cp_icmp_eq _ _ (tgt := 23) dX3_signed_13 rfl h (fun h => ?_) (fun h => ?_)))
  · exact ch_FT.wk (ch_wS (ch_wS (ch_wS (ch_wN ch_w0)))) (s_X3_signed_23 hr4 hr5 hr6 hr7 h hk)
  · refine ch_iload_n 2 _ dX3_signed_16 rfl (ch_sipush _ 289 dX3_signed_17 rfl (cp_icmp_ne _ _ (tgt := 30) dX3_signed_20 rfl h (fun h => ?_) (fun h => ?_)))
    · refine ch_iload_n 2 _ dX3_signed_30 rfl (ch_bipush _ 60 dX3_signed_31 rfl (cp_icmp_eq _ _ (tgt := 43) dX3_signed_33 rfl h (fun h => ?_) (fun h => ?_)))
      · exact ch_FT.wk (ch_wS (ch_wS (ch_wS (ch_wN ch_w0)))) (s_X3_signed_43 hr4 hr5 hr6 hr7 h hk)
      · refine ch_iload_n 2 _ dX3_signed_36 rfl (ch_sipush _ 316 dX3_signed_37 rfl (cp_icmp_ne _ _ (tgt := 50) dX3_signed_40 rfl h (fun h => ?_) (fun h => ?_)))
        · refine ch_iload_n 2 _ dX3_signed_50 rfl (ch_bipush _ 43 dX3_signed_51 rfl (cp_icmp_eq _ _ (tgt := 62) dX3_signed_53 rfl h (fun h => ?_) (fun h => ?_)))
          · exact ch_FT.wk (ch_wS (ch_wS (ch_wS (ch_wN ch_w0)))) (s_X3_signed_62 hr4 hr5 hr6 hr7 h hk)
          · refine ch_iload_n 2 _ dX3_signed_56 rfl (ch_bipush _ 45 dX3_signed_57 rfl (cp_icmp_ne _ _ (tgt := 69) dX3_signed_59 rfl h (fun h => ?_) (fun h => ?_)))
            · obtain ⟨p3, hp4, h⟩ := ch_bd h
              refine ch_aload_n 0 (some m) dX3_signed_69 rfl (ch_iv yX3_single prog_14_method_28_code 3 (some .int) (ci := 3) (q := (RX3, TX3, 109)) (b := m) (d' := (d + 7)) (av := []) (rest := []) rfl dX3_signed_70 q2006 q2008 rfl qs131 q2009 can_X3_single (Nat.le_refl _) (Nat.le_of_ble_eq_true rfl) ch_put_tag (cp_kI (v := p3.1) (w1 := ch_put m w p3.2) (fun Q' hq => hr7 hp4 hq) ?_))
              exact ch_FT.wk (ch_wS (ch_wS (ch_wS (ch_wN ch_w0)))) (s_X3_signed_73 hr4 hr5 hr6 hr7 h hk)
            · exact ch_FT.wk (ch_wS (ch_wS (ch_wS (ch_wN ch_w0)))) (s_X3_signed_62 hr4 hr5 hr6 hr7 h hk)
        · exact ch_FT.wk (ch_wS (ch_wS (ch_wS (ch_wN ch_w0)))) (s_X3_signed_43 hr4 hr5 hr6 hr7 h hk)
    · exact ch_FT.wk (ch_wS (ch_wS (ch_wS (ch_wN ch_w0)))) (s_X3_signed_23 hr4 hr5 hr6 hr7 h hk)

theorem bX3_related_0 : ch_ck cX3_related 0 [42, 182, 1, 62, 60, 42, 16, 60, 182, 1, 39, 154, 0, 13, 42, 17] := ch_ckof (by decide +kernel)
theorem bX3_related_1 : ch_ck cX3_related 16 [1, 60, 182, 1, 39, 153, 0, 9, 42, 27, 182, 1, 71, 172, 42, 16] := ch_ckof (by decide +kernel)
theorem bX3_related_2 : ch_ck cX3_related 32 [21, 182, 1, 74, 154, 0, 5, 27, 172, 42, 182, 1, 33, 42, 182, 1] := ch_ckof (by decide +kernel)
theorem bX3_related_3 : ch_ck cX3_related 48 [77, 61, 42, 16, 11, 27, 3, 28, 182, 1, 52, 172] := ch_ckof (by decide +kernel)
theorem dX3_related_0 : decode cX3_related 0 = .ok (.aload_n 0, 1) := dz_42 (bX3_related_0 0 _ rfl)
theorem dX3_related_1 : decode cX3_related 1 = .ok (.invokevirtual 318, 3) := dz_182 (bX3_related_0 1 _ rfl) (bX3_related_0 2 _ rfl) (bX3_related_0 3 _ rfl)
theorem dX3_related_4 : decode cX3_related 4 = .ok (.istore_n 1, 1) := dz_60 (bX3_related_0 4 _ rfl)
theorem dX3_related_5 : decode cX3_related 5 = .ok (.aload_n 0, 1) := dz_42 (bX3_related_0 5 _ rfl)
theorem dX3_related_6 : decode cX3_related 6 = .ok (.bipush 60, 2) := dz_16 (bX3_related_0 6 _ rfl) (bX3_related_0 7 _ rfl)
theorem dX3_related_8 : decode cX3_related 8 = .ok (.invokevirtual 295, 3) := dz_182 (bX3_related_0 8 _ rfl) (bX3_related_0 9 _ rfl) (bX3_related_0 10 _ rfl)
theorem dX3_related_11 : decode cX3_related 11 = .ok (.ifCond .ne 13, 3) := dz_154 (bX3_related_0 11 _ rfl) (bX3_related_0 12 _ rfl) (bX3_related_0 13 _ rfl)
theorem dX3_related_14 : decode cX3_related 14 = .ok (.aload_n 0, 1) := dz_42 (bX3_related_0 14 _ rfl)
theorem dX3_related_15 : decode cX3_related 15 = .ok (.sipush 316, 3) := dz_17 (bX3_related_0 15 _ rfl) (bX3_related_1 0 _ rfl) (bX3_related_1 1 _ rfl)
theorem dX3_related_18 : decode cX3_related 18 = .ok (.invokevirtual 295, 3) := dz_182 (bX3_related_1 2 _ rfl) (bX3_related_1 3 _ rfl) (bX3_related_1 4 _ rfl)
theorem dX3_related_21 : decode cX3_related 21 = .ok (.ifCond .eq 9, 3) := dz_153 (bX3_related_1 5 _ rfl) (bX3_related_1 6 _ rfl) (bX3_related_1 7 _ rfl)
theorem dX3_related_24 : decode cX3_related 24 = .ok (.aload_n 0, 1) := dz_42 (bX3_related_1 8 _ rfl)
theorem dX3_related_25 : decode cX3_related 25 = .ok (.iload_n 1, 1) := dz_27 (bX3_related_1 9 _ rfl)
theorem dX3_related_26 : decode cX3_related 26 = .ok (.invokevirtual 327, 3) := dz_182 (bX3_related_1 10 _ rfl) (bX3_related_1 11 _ rfl) (bX3_related_1 12 _ rfl)
theorem dX3_related_29 : decode cX3_related 29 = .ok (.ireturn, 1) := dz_172 (bX3_related_1 13 _ rfl)
theorem dX3_related_30 : decode cX3_related 30 = .ok (.aload_n 0, 1) := dz_42 (bX3_related_1 14 _ rfl)
theorem dX3_related_31 : decode cX3_related 31 = .ok (.bipush 21, 2) := dz_16 (bX3_related_1 15 _ rfl) (bX3_related_2 0 _ rfl)
theorem dX3_related_33 : decode cX3_related 33 = .ok (.invokevirtual 330, 3) := dz_182 (bX3_related_2 1 _ rfl) (bX3_related_2 2 _ rfl) (bX3_related_2 3 _ rfl)
theorem dX3_related_36 : decode cX3_related 36 = .ok (.ifCond .ne 5, 3) := dz_154 (bX3_related_2 4 _ rfl) (bX3_related_2 5 _ rfl) (bX3_related_2 6 _ rfl)
theorem dX3_related_39 : decode cX3_related 39 = .ok (.iload_n 1, 1) := dz_27 (bX3_related_2 7 _ rfl)
theorem dX3_related_40 : decode cX3_related 40 = .ok (.ireturn, 1) := dz_172 (bX3_related_2 8 _ rfl)
theorem dX3_related_41 : decode cX3_related 41 = .ok (.aload_n 0, 1) := dz_42 (bX3_related_2 9 _ rfl)
theorem dX3_related_42 : decode cX3_related 42 = .ok (.invokevirtual 289, 3) := dz_182 (bX3_related_2 10 _ rfl) (bX3_related_2 11 _ rfl) (bX3_related_2 12 _ rfl)
theorem dX3_related_45 : decode cX3_related 45 = .ok (.aload_n 0, 1) := dz_42 (bX3_related_2 13 _ rfl)
theorem dX3_related_46 : decode cX3_related 46 = .ok (.invokevirtual 333, 3) := dz_182 (bX3_related_2 14 _ rfl) (bX3_related_2 15 _ rfl) (bX3_related_3 0 _ rfl)
theorem dX3_related_49 : decode cX3_related 49 = .ok (.istore_n 2, 1) := dz_61 (bX3_related_3 1 _ rfl)
theorem dX3_related_50 : decode cX3_related 50 = .ok (.aload_n 0, 1) := dz_42 (bX3_related_3 2 _ rfl)
theorem dX3_related_51 : decode cX3_related 51 = .ok (.bipush 11, 2) := dz_16 (bX3_related_3 3 _ rfl) (bX3_related_3 4 _ rfl)
theorem dX3_related_53 : decode cX3_related 53 = .ok (.iload_n 1, 1) := dz_27 (bX3_related_3 5 _ rfl)
theorem dX3_related_54 : decode cX3_related 54 = .ok (.iconst 0, 1) := dz_3 (bX3_related_3 6 _ rfl)
theorem dX3_related_55 : decode cX3_related 55 = .ok (.iload_n 2, 1) := dz_28 (bX3_related_3 7 _ rfl)
theorem dX3_related_56 : decode cX3_related 56 = .ok (.invokevirtual 308, 3) := dz_182 (bX3_related_3 8 _ rfl) (bX3_related_3 9 _ rfl) (bX3_related_3 10 _ rfl)
theorem dX3_related_59 : decode cX3_related 59 = .ok (.ireturn, 1) := dz_172 (bX3_related_3 11 _ rfl)
def m_X3_related_24 (rc : Nat → Int32 → Int32 → Int32 → ch_S → Option (Int32 × ch_S)) (x1 : Int32)  (σ : ch_S) : Option (Int32 × ch_S) := (rc 3 x1 0 0 σ).bind fun p1 => some ((p1.1, p1.2))
theorem s_X3_related_24 {g : State} {d : Nat} {rc : Nat → Int32 → Int32 → Int32 → ch_S → Option (Int32 × ch_S)} {m : Nat} {w : ch_W} (hr3 : ∀ {z0 : Int32} {σ : ch_S} {p : Int32 × ch_S} {Q : Outcome → ch_W → Prop}, rc 3 z0 0 0 σ = some p → ch_eI Q (p.1, ch_put m w p.2) → ch_CT g false yX3_signed (d + 7) [.ref m, .int z0] (ch_put m w σ) Q) (hr5 : ∀ {σ : ch_S} {p : Int32 × ch_S} {Q : Outcome → ch_W → Prop}, rc 5 0 0 0 σ = some p → ch_eI Q (p.1, ch_put m w p.2) → ch_CT g false yX3_sum (d + 7) [.ref m] (ch_put m w σ) Q)  {x1 : Int32} {σ : ch_S} {res : Int32 × ch_S} {Q : Outcome → ch_W → Prop} (h : m_X3_related_24 rc x1 σ = some res) (hk : (fun r => ch_eI Q (r.1, ch_put m w r.2)) res) : ch_FT g false mX3_related (d + 8) 24 [some (va_rf (some m)), some (.int x1), none] [] (ch_put m w σ) Q := by
  unfold m_X3_related_24 at h
  obtain ⟨p1, hp2, h⟩ := ch_bd h
  refine ch_aload_n 0 (some m) dX3_related_24 rfl (ch_iload_n 1 _ dX3_related_25 rfl (ch_iv yX3_signed prog_14_method_23_code 4 (some .int) (ci := 3) (q := (RX3, TX3, 109)) (b := m) (d' := (d + 7)) (av := [.int x1]) (rest := []) rfl dX3_related_26 q2028 q2030 rfl qs136 q2031 can_X3_signed (Nat.le_refl _) (Nat.le_of_ble_eq_true rfl) ch_put_tag (cp_kI (v := p1.1) (w1 := ch_put m w p1.2) (fun Q' hq => hr3 hp2 hq) ?_)))
  obtain rfl := Option.some.inj h
  exact ch_ireturn _ dX3_related_29 rfl rfl hk

def m_X3_related (rc : Nat → Int32 → Int32 → Int32 → ch_S → Option (Int32 × ch_S))  (σ : ch_S) : Option (Int32 × ch_S) := (rc 5 0 0 0 σ).bind fun p1 => (m_X3_isSign 60 p1.2).bind fun v3 => if v3 = 0 then ((m_X3_isSign 316 p1.2).bind fun v5 => if v5 = 0 then ((m_X3_isKey 21 p1.2).bind fun v7 => if v7 = 0 then (some ((p1.1, p1.2))) else ((m_X3_next p1.2).bind fun p9 => (m_X3_name p9).bind fun p11 => (m_X3_node 11 p1.1 0 p11.1 p11.2).bind fun p13 => some ((p13.1, p13.2)))) else (m_X3_related_24 rc p1.1 p1.2)) else (m_X3_related_24 rc p1.1 p1.2)
theorem s_X3_related {g : State} {d : Nat} {rc : Nat → Int32 → Int32 → Int32 → ch_S → Option (Int32 × ch_S)} {m : Nat} {w : ch_W} (hr3 : ∀ {z0 : Int32} {σ : ch_S} {p : Int32 × ch_S} {Q : Outcome → ch_W → Prop}, rc 3 z0 0 0 σ = some p → ch_eI Q (p.1, ch_put m w p.2) → ch_CT g false yX3_signed (d + 7) [.ref m, .int z0] (ch_put m w σ) Q) (hr5 : ∀ {σ : ch_S} {p : Int32 × ch_S} {Q : Outcome → ch_W → Prop}, rc 5 0 0 0 σ = some p → ch_eI Q (p.1, ch_put m w p.2) → ch_CT g false yX3_sum (d + 7) [.ref m] (ch_put m w σ) Q)  {σ : ch_S} {res : Int32 × ch_S} {Q : Outcome → ch_W → Prop} (h : m_X3_related rc σ = some res) (hk : (fun r => ch_eI Q (r.1, ch_put m w r.2)) res) : ch_CT g false yX3_related (d + 8) [.ref m] (ch_put m w σ) Q := by
  unfold m_X3_related at h
  refine ch_ctL mX3_related (ls := [some (va_rf (some m)), none, none]) q1997 rfl (ch_lyr (r := some m) ch_ly0) (Nat.le_of_ble_eq_true rfl) rfl ?_
  obtain ⟨p1, hp2, h⟩ := ch_bd h
  refine ch_aload_n 0 (some m) dX3_related_0 rfl (ch_iv yX3_sum prog_14_method_26_code 2 (some .int) (ci := 3) (q := (RX3, TX3, 109)) (b := m) (d' := (d + 7)) (av := []) (rest := []) rfl dX3_related_1 q1998 q2000 rfl qs129 q2001 can_X3_sum (Nat.le_refl _) (Nat.le_of_ble_eq_true rfl) ch_put_tag (cp_kI (v := p1.1) (w1 := ch_put m w p1.2) (fun Q' hq => hr5 hp2 hq) ?_))
  obtain ⟨v3, hp4, h⟩ := ch_bd h
  refine ch_istore_n 1 _ (ls1 := [some (va_rf (some m)), some (.int p1.1), none]) dX3_related_4 (Nat.le_of_ble_eq_true rfl) rfl (ch_aload_n 0 (some m) dX3_related_5 rfl (ch_bipush _ 60 dX3_related_6 rfl (ch_iv yX3_isSign prog_14_method_14_code 2 (some .boolean) (ci := 3) (q := (RX3, TX3, 109)) (b := m) (d' := 2) (av := [.int 60]) (rest := []) rfl dX3_related_8 q1942 q1944 rfl qs115 q1945 can_X3_isSign (Nat.le_trans (Nat.le_of_ble_eq_true rfl) (Nat.le_add_left 8 d)) (Nat.le_of_ble_eq_true rfl) ch_put_tag (cp_kI (v := v3) (w1 := ch_put m w p1.2) (fun Q' hq => s_X3_isSign hp4 hq) ?_))))
  refine cp_if_ne _ (tgt := 24) dX3_related_11 rfl h (fun h => ?_) (fun h => ?_)
  · exact ch_FT.wk (ch_wS (ch_wS (ch_wN ch_w0))) (s_X3_related_24 hr3 hr5 h hk)
  · obtain ⟨v5, hp6, h⟩ := ch_bd h
    refine ch_aload_n 0 (some m) dX3_related_14 rfl (ch_sipush _ 316 dX3_related_15 rfl (ch_iv yX3_isSign prog_14_method_14_code 2 (some .boolean) (ci := 3) (q := (RX3, TX3, 109)) (b := m) (d' := 2) (av := [.int 316]) (rest := []) rfl dX3_related_18 q1942 q1944 rfl qs115 q1945 can_X3_isSign (Nat.le_trans (Nat.le_of_ble_eq_true rfl) (Nat.le_add_left 8 d)) (Nat.le_of_ble_eq_true rfl) ch_put_tag (cp_kI (v := v5) (w1 := ch_put m w p1.2) (fun Q' hq => s_X3_isSign hp6 hq) ?_)))
    refine cp_if_eq _ (tgt := 30) dX3_related_21 rfl h (fun h => ?_) (fun h => ?_)
    · obtain ⟨v7, hp8, h⟩ := ch_bd h
      refine ch_aload_n 0 (some m) dX3_related_30 rfl (ch_bipush _ 21 dX3_related_31 rfl (ch_iv yX3_isKey prog_14_method_15_code 2 (some .boolean) (ci := 3) (q := (RX3, TX3, 109)) (b := m) (d' := 2) (av := [.int 21]) (rest := []) rfl dX3_related_33 q1922 q1924 rfl qs110 q1925 can_X3_isKey (Nat.le_trans (Nat.le_of_ble_eq_true rfl) (Nat.le_add_left 8 d)) (Nat.le_of_ble_eq_true rfl) ch_put_tag (cp_kI (v := v7) (w1 := ch_put m w p1.2) (fun Q' hq => s_X3_isKey hp8 hq) ?_)))
      refine cp_if_ne _ (tgt := 41) dX3_related_36 rfl h (fun h => ?_) (fun h => ?_)
      · obtain ⟨p9, hp10, h⟩ := ch_bd h
        refine ch_aload_n 0 (some m) dX3_related_41 rfl (ch_iv yX3_next prog_14_method_12_code 4 none (ci := 3) (q := (RX3, TX3, 109)) (b := m) (d' := 4) (av := []) (rest := []) rfl dX3_related_42 q1884 q1886 rfl qs105 q1887 can_X3_next (Nat.le_trans (Nat.le_of_ble_eq_true rfl) (Nat.le_add_left 8 d)) (Nat.le_of_ble_eq_true rfl) ch_put_tag (cp_kV (w1 := ch_put m w p9) (fun Q' hq => s_X3_next hp10 hq) ?_))
        obtain ⟨p11, hp12, h⟩ := ch_bd h
        refine ch_aload_n 0 (some m) dX3_related_45 rfl (ch_iv yX3_name prog_14_method_19_code 2 (some .int) (ci := 3) (q := (RX3, TX3, 109)) (b := m) (d' := 6) (av := []) (rest := []) rfl dX3_related_46 q1938 q1940 rfl qs114 q1941 can_X3_name (Nat.le_trans (Nat.le_of_ble_eq_true rfl) (Nat.le_add_left 8 d)) (Nat.le_of_ble_eq_true rfl) ch_put_tag (cp_kI (v := p11.1) (w1 := ch_put m w p11.2) (fun Q' hq => s_X3_name hp12 hq) ?_))
        obtain ⟨p13, hp14, h⟩ := ch_bd h
        refine ch_istore_n 2 _ (ls1 := [some (va_rf (some m)), some (.int p1.1), some (.int p11.1)]) dX3_related_49 (Nat.le_of_ble_eq_true rfl) rfl (ch_aload_n 0 (some m) dX3_related_50 rfl (ch_bipush _ 11 dX3_related_51 rfl (ch_iload_n 1 _ dX3_related_53 rfl (ch_iconst _ 0 dX3_related_54 rfl (ch_iload_n 2 _ dX3_related_55 rfl (ch_iv yX3_node prog_14_method_20_code 5 (some .int) (ci := 3) (q := (RX3, TX3, 109)) (b := m) (d' := 2) (av := [.int 11, .int p1.1, .int 0, .int p11.1]) (rest := []) rfl dX3_related_56 q2018 q2020 rfl qs134 q2021 can_X3_node (Nat.le_trans (Nat.le_of_ble_eq_true rfl) (Nat.le_add_left 8 d)) (Nat.le_of_ble_eq_true rfl) ch_put_tag (cp_kI (v := p13.1) (w1 := ch_put m w p13.2) (fun Q' hq => s_X3_node hp14 hq) ?_)))))))
        obtain rfl := Option.some.inj h
        exact ch_ireturn _ dX3_related_59 rfl rfl hk
      · obtain rfl := Option.some.inj h
        exact ch_iload_n 1 _ dX3_related_39 rfl (ch_ireturn _ dX3_related_40 rfl rfl hk)
    · exact ch_FT.wk (ch_wS (ch_wS (ch_wN ch_w0))) (s_X3_related_24 hr3 hr5 h hk)

theorem bX3_sum_0 : ch_ck cX3_sum 0 [42, 182, 1, 65, 60, 42, 16, 43, 182, 1, 39, 154, 0, 12, 42, 16] := ch_ckof (by decide +kernel)
theorem bX3_sum_1 : ch_ck cX3_sum 16 [45, 182, 1, 39, 153, 0, 12, 42, 27, 182, 1, 71, 60, 167, 255, 232] := ch_ckof (by decide +kernel)
theorem bX3_sum_2 : ch_ck cX3_sum 32 [27, 172] := ch_ckof (by decide +kernel)
theorem dX3_sum_0 : decode cX3_sum 0 = .ok (.aload_n 0, 1) := dz_42 (bX3_sum_0 0 _ rfl)
theorem dX3_sum_1 : decode cX3_sum 1 = .ok (.invokevirtual 321, 3) := dz_182 (bX3_sum_0 1 _ rfl) (bX3_sum_0 2 _ rfl) (bX3_sum_0 3 _ rfl)
theorem dX3_sum_4 : decode cX3_sum 4 = .ok (.istore_n 1, 1) := dz_60 (bX3_sum_0 4 _ rfl)
theorem dX3_sum_5 : decode cX3_sum 5 = .ok (.aload_n 0, 1) := dz_42 (bX3_sum_0 5 _ rfl)
theorem dX3_sum_6 : decode cX3_sum 6 = .ok (.bipush 43, 2) := dz_16 (bX3_sum_0 6 _ rfl) (bX3_sum_0 7 _ rfl)
theorem dX3_sum_8 : decode cX3_sum 8 = .ok (.invokevirtual 295, 3) := dz_182 (bX3_sum_0 8 _ rfl) (bX3_sum_0 9 _ rfl) (bX3_sum_0 10 _ rfl)
theorem dX3_sum_11 : decode cX3_sum 11 = .ok (.ifCond .ne 12, 3) := dz_154 (bX3_sum_0 11 _ rfl) (bX3_sum_0 12 _ rfl) (bX3_sum_0 13 _ rfl)
theorem dX3_sum_14 : decode cX3_sum 14 = .ok (.aload_n 0, 1) := dz_42 (bX3_sum_0 14 _ rfl)
theorem dX3_sum_15 : decode cX3_sum 15 = .ok (.bipush 45, 2) := dz_16 (bX3_sum_0 15 _ rfl) (bX3_sum_1 0 _ rfl)
theorem dX3_sum_17 : decode cX3_sum 17 = .ok (.invokevirtual 295, 3) := dz_182 (bX3_sum_1 1 _ rfl) (bX3_sum_1 2 _ rfl) (bX3_sum_1 3 _ rfl)
theorem dX3_sum_20 : decode cX3_sum 20 = .ok (.ifCond .eq 12, 3) := dz_153 (bX3_sum_1 4 _ rfl) (bX3_sum_1 5 _ rfl) (bX3_sum_1 6 _ rfl)
theorem dX3_sum_23 : decode cX3_sum 23 = .ok (.aload_n 0, 1) := dz_42 (bX3_sum_1 7 _ rfl)
theorem dX3_sum_24 : decode cX3_sum 24 = .ok (.iload_n 1, 1) := dz_27 (bX3_sum_1 8 _ rfl)
theorem dX3_sum_25 : decode cX3_sum 25 = .ok (.invokevirtual 327, 3) := dz_182 (bX3_sum_1 9 _ rfl) (bX3_sum_1 10 _ rfl) (bX3_sum_1 11 _ rfl)
theorem dX3_sum_28 : decode cX3_sum 28 = .ok (.istore_n 1, 1) := dz_60 (bX3_sum_1 12 _ rfl)
theorem dX3_sum_29 : decode cX3_sum 29 = .ok (.goto (-24), 3) := dz_167 (bX3_sum_1 13 _ rfl) (bX3_sum_1 14 _ rfl) (bX3_sum_1 15 _ rfl)
theorem dX3_sum_32 : decode cX3_sum 32 = .ok (.iload_n 1, 1) := dz_27 (bX3_sum_2 0 _ rfl)
theorem dX3_sum_33 : decode cX3_sum 33 = .ok (.ireturn, 1) := dz_172 (bX3_sum_2 1 _ rfl)
def m_X3_sum_23 (rc : Nat → Int32 → Int32 → Int32 → ch_S → Option (Int32 × ch_S)) (x1 : Int32)  (σ : ch_S) : Option ((Int32 × ch_S) ⊕ (Int32 × ch_S)) := (rc 3 x1 0 0 σ).bind fun p1 => some (.inl (p1.1, p1.2))
theorem s_X3_sum_23 {g : State} {d : Nat} {rc : Nat → Int32 → Int32 → Int32 → ch_S → Option (Int32 × ch_S)} {m : Nat} {w : ch_W} (hr3 : ∀ {z0 : Int32} {σ : ch_S} {p : Int32 × ch_S} {Q : Outcome → ch_W → Prop}, rc 3 z0 0 0 σ = some p → ch_eI Q (p.1, ch_put m w p.2) → ch_CT g false yX3_signed (d + 7) [.ref m, .int z0] (ch_put m w σ) Q) (hr6 : ∀ {σ : ch_S} {p : Int32 × ch_S} {Q : Outcome → ch_W → Prop}, rc 6 0 0 0 σ = some p → ch_eI Q (p.1, ch_put m w p.2) → ch_CT g false yX3_product (d + 7) [.ref m] (ch_put m w σ) Q)  {x1 : Int32} {σ : ch_S} {res : (Int32 × ch_S) ⊕ (Int32 × ch_S)} {Q : Outcome → ch_W → Prop} (h : m_X3_sum_23 rc x1 σ = some res) (hk : (ch_sm (fun s => ch_FT g false mX3_sum (d + 8) 5 [some (va_rf (some m)), some (.int s.1)] [] (ch_put m w s.2) Q) (fun r => ch_eI Q (r.1, ch_put m w r.2))) res) : ch_FT g false mX3_sum (d + 8) 23 [some (va_rf (some m)), some (.int x1)] [] (ch_put m w σ) Q := by
  unfold m_X3_sum_23 at h
  obtain ⟨p1, hp2, h⟩ := ch_bd h
  refine ch_aload_n 0 (some m) dX3_sum_23 rfl (ch_iload_n 1 _ dX3_sum_24 rfl (ch_iv yX3_signed prog_14_method_23_code 4 (some .int) (ci := 3) (q := (RX3, TX3, 109)) (b := m) (d' := (d + 7)) (av := [.int x1]) (rest := []) rfl dX3_sum_25 q2028 q2030 rfl qs136 q2031 can_X3_signed (Nat.le_refl _) (Nat.le_of_ble_eq_true rfl) ch_put_tag (cp_kI (v := p1.1) (w1 := ch_put m w p1.2) (fun Q' hq => hr3 hp2 hq) ?_)))
  refine ch_istore_n 1 _ (ls1 := [some (va_rf (some m)), some (.int p1.1)]) dX3_sum_28 (Nat.le_of_ble_eq_true rfl) rfl (ch_goto 5 dX3_sum_29 rfl (ch_FT.wk (ch_wS (ch_wS ch_w0)) ?_))
  obtain rfl := Option.some.inj h
  exact hk

def m_X3_sum_5 (rc : Nat → Int32 → Int32 → Int32 → ch_S → Option (Int32 × ch_S)) (x1 : Int32)  (σ : ch_S) : Option ((Int32 × ch_S) ⊕ (Int32 × ch_S)) := (m_X3_isSign 43 σ).bind fun v1 => if v1 = 0 then ((m_X3_isSign 45 σ).bind fun v3 => if v3 = 0 then (some (.inr ((x1, σ)))) else (m_X3_sum_23 rc x1 σ)) else (m_X3_sum_23 rc x1 σ)
theorem s_X3_sum_5 {g : State} {d : Nat} {rc : Nat → Int32 → Int32 → Int32 → ch_S → Option (Int32 × ch_S)} {m : Nat} {w : ch_W} (hr3 : ∀ {z0 : Int32} {σ : ch_S} {p : Int32 × ch_S} {Q : Outcome → ch_W → Prop}, rc 3 z0 0 0 σ = some p → ch_eI Q (p.1, ch_put m w p.2) → ch_CT g false yX3_signed (d + 7) [.ref m, .int z0] (ch_put m w σ) Q) (hr6 : ∀ {σ : ch_S} {p : Int32 × ch_S} {Q : Outcome → ch_W → Prop}, rc 6 0 0 0 σ = some p → ch_eI Q (p.1, ch_put m w p.2) → ch_CT g false yX3_product (d + 7) [.ref m] (ch_put m w σ) Q)  {x1 : Int32} {σ : ch_S} {res : (Int32 × ch_S) ⊕ (Int32 × ch_S)} {Q : Outcome → ch_W → Prop} (h : m_X3_sum_5 rc x1 σ = some res) (hk : (ch_sm (fun s => ch_FT g false mX3_sum (d + 8) 5 [some (va_rf (some m)), some (.int s.1)] [] (ch_put m w s.2) Q) (fun r => ch_eI Q (r.1, ch_put m w r.2))) res) : ch_FT g false mX3_sum (d + 8) 5 [some (va_rf (some m)), some (.int x1)] [] (ch_put m w σ) Q := by
  unfold m_X3_sum_5 at h
  obtain ⟨v1, hp2, h⟩ := ch_bd h
  refine ch_aload_n 0 (some m) dX3_sum_5 rfl (ch_bipush _ 43 dX3_sum_6 rfl (ch_iv yX3_isSign prog_14_method_14_code 2 (some .boolean) (ci := 3) (q := (RX3, TX3, 109)) (b := m) (d' := 2) (av := [.int 43]) (rest := []) rfl dX3_sum_8 q1942 q1944 rfl qs115 q1945 can_X3_isSign (Nat.le_trans (Nat.le_of_ble_eq_true rfl) (Nat.le_add_left 8 d)) (Nat.le_of_ble_eq_true rfl) ch_put_tag (cp_kI (v := v1) (w1 := ch_put m w σ) (fun Q' hq => s_X3_isSign hp2 hq) ?_)))
  refine cp_if_ne _ (tgt := 23) dX3_sum_11 rfl h (fun h => ?_) (fun h => ?_)
  · exact ch_FT.wk (ch_wS (ch_wS ch_w0)) (s_X3_sum_23 hr3 hr6 h hk)
  · obtain ⟨v3, hp4, h⟩ := ch_bd h
    refine ch_aload_n 0 (some m) dX3_sum_14 rfl (ch_bipush _ 45 dX3_sum_15 rfl (ch_iv yX3_isSign prog_14_method_14_code 2 (some .boolean) (ci := 3) (q := (RX3, TX3, 109)) (b := m) (d' := 2) (av := [.int 45]) (rest := []) rfl dX3_sum_17 q1942 q1944 rfl qs115 q1945 can_X3_isSign (Nat.le_trans (Nat.le_of_ble_eq_true rfl) (Nat.le_add_left 8 d)) (Nat.le_of_ble_eq_true rfl) ch_put_tag (cp_kI (v := v3) (w1 := ch_put m w σ) (fun Q' hq => s_X3_isSign hp4 hq) ?_)))
    refine cp_if_eq _ (tgt := 32) dX3_sum_20 rfl h (fun h => ?_) (fun h => ?_)
    · obtain rfl := Option.some.inj h
      exact ch_iload_n 1 _ dX3_sum_32 rfl (ch_ireturn _ dX3_sum_33 rfl rfl hk)
    · exact ch_FT.wk (ch_wS (ch_wS ch_w0)) (s_X3_sum_23 hr3 hr6 h hk)
theorem sl_X3_sum_5 {g : State} {d : Nat} {rc : Nat → Int32 → Int32 → Int32 → ch_S → Option (Int32 × ch_S)} {m : Nat} {w : ch_W} (hr3 : ∀ {z0 : Int32} {σ : ch_S} {p : Int32 × ch_S} {Q : Outcome → ch_W → Prop}, rc 3 z0 0 0 σ = some p → ch_eI Q (p.1, ch_put m w p.2) → ch_CT g false yX3_signed (d + 7) [.ref m, .int z0] (ch_put m w σ) Q) (hr6 : ∀ {σ : ch_S} {p : Int32 × ch_S} {Q : Outcome → ch_W → Prop}, rc 6 0 0 0 σ = some p → ch_eI Q (p.1, ch_put m w p.2) → ch_CT g false yX3_product (d + 7) [.ref m] (ch_put m w σ) Q)  {a : Int32 × ch_S} {res : Int32 × ch_S} {Q : Outcome → ch_W → Prop} (h : ch_loop (fun (s : Int32 × ch_S) => m_X3_sum_5 rc s.1 s.2) a = some res) (hk : (fun r => ch_eI Q (r.1, ch_put m w r.2)) res) : ch_FT g false mX3_sum (d + 8) 5 [some (va_rf (some m)), some (.int a.1)] [] (ch_put m w a.2) Q := by
  refine ch_loop_ind (fun (a : Int32 × ch_S) (r : Int32 × ch_S) => (fun r => ch_eI Q (r.1, ch_put m w r.2)) r → ch_FT g false mX3_sum (d + 8) 5 [some (va_rf (some m)), some (.int a.1)] [] (ch_put m w a.2) Q) ?_ ?_ a res h hk
  · intro a a2 b h1 ih hk
    exact s_X3_sum_5 hr3 hr6 h1 (ih hk)
  · intro a b h1 hk
    exact s_X3_sum_5 hr3 hr6 h1 hk

def m_X3_sum (rc : Nat → Int32 → Int32 → Int32 → ch_S → Option (Int32 × ch_S))  (σ : ch_S) : Option (Int32 × ch_S) := (rc 6 0 0 0 σ).bind fun p1 => ch_loop (fun (s : Int32 × ch_S) => m_X3_sum_5 rc s.1 s.2) (p1.1, p1.2)
theorem s_X3_sum {g : State} {d : Nat} {rc : Nat → Int32 → Int32 → Int32 → ch_S → Option (Int32 × ch_S)} {m : Nat} {w : ch_W} (hr3 : ∀ {z0 : Int32} {σ : ch_S} {p : Int32 × ch_S} {Q : Outcome → ch_W → Prop}, rc 3 z0 0 0 σ = some p → ch_eI Q (p.1, ch_put m w p.2) → ch_CT g false yX3_signed (d + 7) [.ref m, .int z0] (ch_put m w σ) Q) (hr6 : ∀ {σ : ch_S} {p : Int32 × ch_S} {Q : Outcome → ch_W → Prop}, rc 6 0 0 0 σ = some p → ch_eI Q (p.1, ch_put m w p.2) → ch_CT g false yX3_product (d + 7) [.ref m] (ch_put m w σ) Q)  {σ : ch_S} {res : Int32 × ch_S} {Q : Outcome → ch_W → Prop} (h : m_X3_sum rc σ = some res) (hk : (fun r => ch_eI Q (r.1, ch_put m w r.2)) res) : ch_CT g false yX3_sum (d + 8) [.ref m] (ch_put m w σ) Q := by
  unfold m_X3_sum at h
  refine ch_ctL mX3_sum (ls := [some (va_rf (some m)), none]) q2001 rfl (ch_lyr (r := some m) ch_ly0) (Nat.le_of_ble_eq_true rfl) rfl ?_
  obtain ⟨p1, hp2, h⟩ := ch_bd h
  refine ch_aload_n 0 (some m) dX3_sum_0 rfl (ch_iv yX3_product prog_14_method_27_code 2 (some .int) (ci := 3) (q := (RX3, TX3, 109)) (b := m) (d' := (d + 7)) (av := []) (rest := []) rfl dX3_sum_1 q2002 q2004 rfl qs130 q2005 can_X3_product (Nat.le_refl _) (Nat.le_of_ble_eq_true rfl) ch_put_tag (cp_kI (v := p1.1) (w1 := ch_put m w p1.2) (fun Q' hq => hr6 hp2 hq) ?_))
  exact ch_istore_n 1 _ (ls1 := [some (va_rf (some m)), some (.int p1.1)]) dX3_sum_4 (Nat.le_of_ble_eq_true rfl) rfl (ch_FT.wk (ch_wS (ch_wS ch_w0)) (sl_X3_sum_5 hr3 hr6 h hk))

theorem bX3_product_0 : ch_ck cX3_product 0 [42, 182, 1, 68, 60, 42, 16, 42, 182, 1, 39, 154, 0, 21, 42, 16] := ch_ckof (by decide +kernel)
theorem bX3_product_1 : ch_ck cX3_product 16 [47, 182, 1, 39, 154, 0, 12, 42, 16, 37, 182, 1, 39, 153, 0, 12] := ch_ckof (by decide +kernel)
theorem bX3_product_2 : ch_ck cX3_product 32 [42, 27, 182, 1, 71, 60, 167, 255, 223, 27, 172] := ch_ckof (by decide +kernel)
theorem dX3_product_0 : decode cX3_product 0 = .ok (.aload_n 0, 1) := dz_42 (bX3_product_0 0 _ rfl)
theorem dX3_product_1 : decode cX3_product 1 = .ok (.invokevirtual 324, 3) := dz_182 (bX3_product_0 1 _ rfl) (bX3_product_0 2 _ rfl) (bX3_product_0 3 _ rfl)
theorem dX3_product_4 : decode cX3_product 4 = .ok (.istore_n 1, 1) := dz_60 (bX3_product_0 4 _ rfl)
theorem dX3_product_5 : decode cX3_product 5 = .ok (.aload_n 0, 1) := dz_42 (bX3_product_0 5 _ rfl)
theorem dX3_product_6 : decode cX3_product 6 = .ok (.bipush 42, 2) := dz_16 (bX3_product_0 6 _ rfl) (bX3_product_0 7 _ rfl)
theorem dX3_product_8 : decode cX3_product 8 = .ok (.invokevirtual 295, 3) := dz_182 (bX3_product_0 8 _ rfl) (bX3_product_0 9 _ rfl) (bX3_product_0 10 _ rfl)
theorem dX3_product_11 : decode cX3_product 11 = .ok (.ifCond .ne 21, 3) := dz_154 (bX3_product_0 11 _ rfl) (bX3_product_0 12 _ rfl) (bX3_product_0 13 _ rfl)
theorem dX3_product_14 : decode cX3_product 14 = .ok (.aload_n 0, 1) := dz_42 (bX3_product_0 14 _ rfl)
theorem dX3_product_15 : decode cX3_product 15 = .ok (.bipush 47, 2) := dz_16 (bX3_product_0 15 _ rfl) (bX3_product_1 0 _ rfl)
theorem dX3_product_17 : decode cX3_product 17 = .ok (.invokevirtual 295, 3) := dz_182 (bX3_product_1 1 _ rfl) (bX3_product_1 2 _ rfl) (bX3_product_1 3 _ rfl)
theorem dX3_product_20 : decode cX3_product 20 = .ok (.ifCond .ne 12, 3) := dz_154 (bX3_product_1 4 _ rfl) (bX3_product_1 5 _ rfl) (bX3_product_1 6 _ rfl)
theorem dX3_product_23 : decode cX3_product 23 = .ok (.aload_n 0, 1) := dz_42 (bX3_product_1 7 _ rfl)
theorem dX3_product_24 : decode cX3_product 24 = .ok (.bipush 37, 2) := dz_16 (bX3_product_1 8 _ rfl) (bX3_product_1 9 _ rfl)
theorem dX3_product_26 : decode cX3_product 26 = .ok (.invokevirtual 295, 3) := dz_182 (bX3_product_1 10 _ rfl) (bX3_product_1 11 _ rfl) (bX3_product_1 12 _ rfl)
theorem dX3_product_29 : decode cX3_product 29 = .ok (.ifCond .eq 12, 3) := dz_153 (bX3_product_1 13 _ rfl) (bX3_product_1 14 _ rfl) (bX3_product_1 15 _ rfl)
theorem dX3_product_32 : decode cX3_product 32 = .ok (.aload_n 0, 1) := dz_42 (bX3_product_2 0 _ rfl)
theorem dX3_product_33 : decode cX3_product 33 = .ok (.iload_n 1, 1) := dz_27 (bX3_product_2 1 _ rfl)
theorem dX3_product_34 : decode cX3_product 34 = .ok (.invokevirtual 327, 3) := dz_182 (bX3_product_2 2 _ rfl) (bX3_product_2 3 _ rfl) (bX3_product_2 4 _ rfl)
theorem dX3_product_37 : decode cX3_product 37 = .ok (.istore_n 1, 1) := dz_60 (bX3_product_2 5 _ rfl)
theorem dX3_product_38 : decode cX3_product 38 = .ok (.goto (-33), 3) := dz_167 (bX3_product_2 6 _ rfl) (bX3_product_2 7 _ rfl) (bX3_product_2 8 _ rfl)
theorem dX3_product_41 : decode cX3_product 41 = .ok (.iload_n 1, 1) := dz_27 (bX3_product_2 9 _ rfl)
theorem dX3_product_42 : decode cX3_product 42 = .ok (.ireturn, 1) := dz_172 (bX3_product_2 10 _ rfl)
def m_X3_product_32 (rc : Nat → Int32 → Int32 → Int32 → ch_S → Option (Int32 × ch_S)) (x1 : Int32)  (σ : ch_S) : Option ((Int32 × ch_S) ⊕ (Int32 × ch_S)) := (rc 3 x1 0 0 σ).bind fun p1 => some (.inl (p1.1, p1.2))
theorem s_X3_product_32 {g : State} {d : Nat} {rc : Nat → Int32 → Int32 → Int32 → ch_S → Option (Int32 × ch_S)} {m : Nat} {w : ch_W} (hr3 : ∀ {z0 : Int32} {σ : ch_S} {p : Int32 × ch_S} {Q : Outcome → ch_W → Prop}, rc 3 z0 0 0 σ = some p → ch_eI Q (p.1, ch_put m w p.2) → ch_CT g false yX3_signed (d + 7) [.ref m, .int z0] (ch_put m w σ) Q) (hr7 : ∀ {σ : ch_S} {p : Int32 × ch_S} {Q : Outcome → ch_W → Prop}, rc 7 0 0 0 σ = some p → ch_eI Q (p.1, ch_put m w p.2) → ch_CT g false yX3_single (d + 7) [.ref m] (ch_put m w σ) Q)  {x1 : Int32} {σ : ch_S} {res : (Int32 × ch_S) ⊕ (Int32 × ch_S)} {Q : Outcome → ch_W → Prop} (h : m_X3_product_32 rc x1 σ = some res) (hk : (ch_sm (fun s => ch_FT g false mX3_product (d + 8) 5 [some (va_rf (some m)), some (.int s.1)] [] (ch_put m w s.2) Q) (fun r => ch_eI Q (r.1, ch_put m w r.2))) res) : ch_FT g false mX3_product (d + 8) 32 [some (va_rf (some m)), some (.int x1)] [] (ch_put m w σ) Q := by
  unfold m_X3_product_32 at h
  obtain ⟨p1, hp2, h⟩ := ch_bd h
  refine ch_aload_n 0 (some m) dX3_product_32 rfl (ch_iload_n 1 _ dX3_product_33 rfl (ch_iv yX3_signed prog_14_method_23_code 4 (some .int) (ci := 3) (q := (RX3, TX3, 109)) (b := m) (d' := (d + 7)) (av := [.int x1]) (rest := []) rfl dX3_product_34 q2028 q2030 rfl qs136 q2031 can_X3_signed (Nat.le_refl _) (Nat.le_of_ble_eq_true rfl) ch_put_tag (cp_kI (v := p1.1) (w1 := ch_put m w p1.2) (fun Q' hq => hr3 hp2 hq) ?_)))
  refine ch_istore_n 1 _ (ls1 := [some (va_rf (some m)), some (.int p1.1)]) dX3_product_37 (Nat.le_of_ble_eq_true rfl) rfl (ch_goto 5 dX3_product_38 rfl (ch_FT.wk (ch_wS (ch_wS ch_w0)) ?_))
  obtain rfl := Option.some.inj h
  exact hk

def m_X3_product_5 (rc : Nat → Int32 → Int32 → Int32 → ch_S → Option (Int32 × ch_S)) (x1 : Int32)  (σ : ch_S) : Option ((Int32 × ch_S) ⊕ (Int32 × ch_S)) := (m_X3_isSign 42 σ).bind fun v1 => if v1 = 0 then ((m_X3_isSign 47 σ).bind fun v3 => if v3 = 0 then ((m_X3_isSign 37 σ).bind fun v5 => if v5 = 0 then (some (.inr ((x1, σ)))) else (m_X3_product_32 rc x1 σ)) else (m_X3_product_32 rc x1 σ)) else (m_X3_product_32 rc x1 σ)
theorem s_X3_product_5 {g : State} {d : Nat} {rc : Nat → Int32 → Int32 → Int32 → ch_S → Option (Int32 × ch_S)} {m : Nat} {w : ch_W} (hr3 : ∀ {z0 : Int32} {σ : ch_S} {p : Int32 × ch_S} {Q : Outcome → ch_W → Prop}, rc 3 z0 0 0 σ = some p → ch_eI Q (p.1, ch_put m w p.2) → ch_CT g false yX3_signed (d + 7) [.ref m, .int z0] (ch_put m w σ) Q) (hr7 : ∀ {σ : ch_S} {p : Int32 × ch_S} {Q : Outcome → ch_W → Prop}, rc 7 0 0 0 σ = some p → ch_eI Q (p.1, ch_put m w p.2) → ch_CT g false yX3_single (d + 7) [.ref m] (ch_put m w σ) Q)  {x1 : Int32} {σ : ch_S} {res : (Int32 × ch_S) ⊕ (Int32 × ch_S)} {Q : Outcome → ch_W → Prop} (h : m_X3_product_5 rc x1 σ = some res) (hk : (ch_sm (fun s => ch_FT g false mX3_product (d + 8) 5 [some (va_rf (some m)), some (.int s.1)] [] (ch_put m w s.2) Q) (fun r => ch_eI Q (r.1, ch_put m w r.2))) res) : ch_FT g false mX3_product (d + 8) 5 [some (va_rf (some m)), some (.int x1)] [] (ch_put m w σ) Q := by
  unfold m_X3_product_5 at h
  obtain ⟨v1, hp2, h⟩ := ch_bd h
  refine ch_aload_n 0 (some m) dX3_product_5 rfl (ch_bipush _ 42 dX3_product_6 rfl (ch_iv yX3_isSign prog_14_method_14_code 2 (some .boolean) (ci := 3) (q := (RX3, TX3, 109)) (b := m) (d' := 2) (av := [.int 42]) (rest := []) rfl dX3_product_8 q1942 q1944 rfl qs115 q1945 can_X3_isSign (Nat.le_trans (Nat.le_of_ble_eq_true rfl) (Nat.le_add_left 8 d)) (Nat.le_of_ble_eq_true rfl) ch_put_tag (cp_kI (v := v1) (w1 := ch_put m w σ) (fun Q' hq => s_X3_isSign hp2 hq) ?_)))
  refine cp_if_ne _ (tgt := 32) dX3_product_11 rfl h (fun h => ?_) (fun h => ?_)
  · exact ch_FT.wk (ch_wS (ch_wS ch_w0)) (s_X3_product_32 hr3 hr7 h hk)
  · obtain ⟨v3, hp4, h⟩ := ch_bd h
    refine ch_aload_n 0 (some m) dX3_product_14 rfl (ch_bipush _ 47 dX3_product_15 rfl (ch_iv yX3_isSign prog_14_method_14_code 2 (some .boolean) (ci := 3) (q := (RX3, TX3, 109)) (b := m) (d' := 2) (av := [.int 47]) (rest := []) rfl dX3_product_17 q1942 q1944 rfl qs115 q1945 can_X3_isSign (Nat.le_trans (Nat.le_of_ble_eq_true rfl) (Nat.le_add_left 8 d)) (Nat.le_of_ble_eq_true rfl) ch_put_tag (cp_kI (v := v3) (w1 := ch_put m w σ) (fun Q' hq => s_X3_isSign hp4 hq) ?_)))
    refine cp_if_ne _ (tgt := 32) dX3_product_20 rfl h (fun h => ?_) (fun h => ?_)
    · exact ch_FT.wk (ch_wS (ch_wS ch_w0)) (s_X3_product_32 hr3 hr7 h hk)
    · obtain ⟨v5, hp6, h⟩ := ch_bd h
      refine ch_aload_n 0 (some m) dX3_product_23 rfl (ch_bipush _ 37 dX3_product_24 rfl (ch_iv yX3_isSign prog_14_method_14_code 2 (some .boolean) (ci := 3) (q := (RX3, TX3, 109)) (b := m) (d' := 2) (av := [.int 37]) (rest := []) rfl dX3_product_26 q1942 q1944 rfl qs115 q1945 can_X3_isSign (Nat.le_trans (Nat.le_of_ble_eq_true rfl) (Nat.le_add_left 8 d)) (Nat.le_of_ble_eq_true rfl) ch_put_tag (cp_kI (v := v5) (w1 := ch_put m w σ) (fun Q' hq => s_X3_isSign hp6 hq) ?_)))
      refine cp_if_eq _ (tgt := 41) dX3_product_29 rfl h (fun h => ?_) (fun h => ?_)
      · obtain rfl := Option.some.inj h
        exact ch_iload_n 1 _ dX3_product_41 rfl (ch_ireturn _ dX3_product_42 rfl rfl hk)
      · exact ch_FT.wk (ch_wS (ch_wS ch_w0)) (s_X3_product_32 hr3 hr7 h hk)
theorem sl_X3_product_5 {g : State} {d : Nat} {rc : Nat → Int32 → Int32 → Int32 → ch_S → Option (Int32 × ch_S)} {m : Nat} {w : ch_W} (hr3 : ∀ {z0 : Int32} {σ : ch_S} {p : Int32 × ch_S} {Q : Outcome → ch_W → Prop}, rc 3 z0 0 0 σ = some p → ch_eI Q (p.1, ch_put m w p.2) → ch_CT g false yX3_signed (d + 7) [.ref m, .int z0] (ch_put m w σ) Q) (hr7 : ∀ {σ : ch_S} {p : Int32 × ch_S} {Q : Outcome → ch_W → Prop}, rc 7 0 0 0 σ = some p → ch_eI Q (p.1, ch_put m w p.2) → ch_CT g false yX3_single (d + 7) [.ref m] (ch_put m w σ) Q)  {a : Int32 × ch_S} {res : Int32 × ch_S} {Q : Outcome → ch_W → Prop} (h : ch_loop (fun (s : Int32 × ch_S) => m_X3_product_5 rc s.1 s.2) a = some res) (hk : (fun r => ch_eI Q (r.1, ch_put m w r.2)) res) : ch_FT g false mX3_product (d + 8) 5 [some (va_rf (some m)), some (.int a.1)] [] (ch_put m w a.2) Q := by
  refine ch_loop_ind (fun (a : Int32 × ch_S) (r : Int32 × ch_S) => (fun r => ch_eI Q (r.1, ch_put m w r.2)) r → ch_FT g false mX3_product (d + 8) 5 [some (va_rf (some m)), some (.int a.1)] [] (ch_put m w a.2) Q) ?_ ?_ a res h hk
  · intro a a2 b h1 ih hk
    exact s_X3_product_5 hr3 hr7 h1 (ih hk)
  · intro a b h1 hk
    exact s_X3_product_5 hr3 hr7 h1 hk

def m_X3_product (rc : Nat → Int32 → Int32 → Int32 → ch_S → Option (Int32 × ch_S))  (σ : ch_S) : Option (Int32 × ch_S) := (rc 7 0 0 0 σ).bind fun p1 => ch_loop (fun (s : Int32 × ch_S) => m_X3_product_5 rc s.1 s.2) (p1.1, p1.2)
theorem s_X3_product {g : State} {d : Nat} {rc : Nat → Int32 → Int32 → Int32 → ch_S → Option (Int32 × ch_S)} {m : Nat} {w : ch_W} (hr3 : ∀ {z0 : Int32} {σ : ch_S} {p : Int32 × ch_S} {Q : Outcome → ch_W → Prop}, rc 3 z0 0 0 σ = some p → ch_eI Q (p.1, ch_put m w p.2) → ch_CT g false yX3_signed (d + 7) [.ref m, .int z0] (ch_put m w σ) Q) (hr7 : ∀ {σ : ch_S} {p : Int32 × ch_S} {Q : Outcome → ch_W → Prop}, rc 7 0 0 0 σ = some p → ch_eI Q (p.1, ch_put m w p.2) → ch_CT g false yX3_single (d + 7) [.ref m] (ch_put m w σ) Q)  {σ : ch_S} {res : Int32 × ch_S} {Q : Outcome → ch_W → Prop} (h : m_X3_product rc σ = some res) (hk : (fun r => ch_eI Q (r.1, ch_put m w r.2)) res) : ch_CT g false yX3_product (d + 8) [.ref m] (ch_put m w σ) Q := by
  unfold m_X3_product at h
  refine ch_ctL mX3_product (ls := [some (va_rf (some m)), none]) q2005 rfl (ch_lyr (r := some m) ch_ly0) (Nat.le_of_ble_eq_true rfl) rfl ?_
  obtain ⟨p1, hp2, h⟩ := ch_bd h
  refine ch_aload_n 0 (some m) dX3_product_0 rfl (ch_iv yX3_single prog_14_method_28_code 3 (some .int) (ci := 3) (q := (RX3, TX3, 109)) (b := m) (d' := (d + 7)) (av := []) (rest := []) rfl dX3_product_1 q2006 q2008 rfl qs131 q2009 can_X3_single (Nat.le_refl _) (Nat.le_of_ble_eq_true rfl) ch_put_tag (cp_kI (v := p1.1) (w1 := ch_put m w p1.2) (fun Q' hq => hr7 hp2 hq) ?_))
  exact ch_istore_n 1 _ (ls1 := [some (va_rf (some m)), some (.int p1.1)]) dX3_product_4 (Nat.le_of_ble_eq_true rfl) rfl (ch_FT.wk (ch_wS (ch_wS ch_w0)) (sl_X3_product_5 hr3 hr7 h hk))

theorem bX3_single_0 : ch_ck cX3_single 0 [42, 16, 45, 182, 1, 39, 154, 0, 17, 42, 16, 33, 182, 1, 39, 154] := ch_ckof (by decide +kernel)
theorem bX3_single_1 : ch_ck cX3_single 16 [0, 8, 42, 182, 1, 80, 172, 42, 16, 45, 182, 1, 39, 60, 42, 4] := ch_ckof (by decide +kernel)
theorem bX3_single_2 : ch_ck cX3_single 32 [182, 1, 83, 154, 0, 5, 2, 172, 42, 182, 1, 68, 61, 42, 180, 1] := ch_ckof (by decide +kernel)
theorem bX3_single_3 : ch_ck cX3_single 48 [27, 156, 0, 13, 42, 89, 180, 1, 36, 4, 100, 181, 1, 36, 42, 27] := ch_ckof (by decide +kernel)
theorem bX3_single_4 : ch_ck cX3_single 64 [153, 0, 8, 16, 13, 167, 0, 5, 16, 14, 28, 3, 3, 182, 1, 52] := ch_ckof (by decide +kernel)
theorem bX3_single_5 : ch_ck cX3_single 80 [172] := ch_ckof (by decide +kernel)
theorem dX3_single_0 : decode cX3_single 0 = .ok (.aload_n 0, 1) := dz_42 (bX3_single_0 0 _ rfl)
theorem dX3_single_1 : decode cX3_single 1 = .ok (.bipush 45, 2) := dz_16 (bX3_single_0 1 _ rfl) (bX3_single_0 2 _ rfl)
theorem dX3_single_3 : decode cX3_single 3 = .ok (.invokevirtual 295, 3) := dz_182 (bX3_single_0 3 _ rfl) (bX3_single_0 4 _ rfl) (bX3_single_0 5 _ rfl)
theorem dX3_single_6 : decode cX3_single 6 = .ok (.ifCond .ne 17, 3) := dz_154 (bX3_single_0 6 _ rfl) (bX3_single_0 7 _ rfl) (bX3_single_0 8 _ rfl)
theorem dX3_single_9 : decode cX3_single 9 = .ok (.aload_n 0, 1) := dz_42 (bX3_single_0 9 _ rfl)
theorem dX3_single_10 : decode cX3_single 10 = .ok (.bipush 33, 2) := dz_16 (bX3_single_0 10 _ rfl) (bX3_single_0 11 _ rfl)
theorem dX3_single_12 : decode cX3_single 12 = .ok (.invokevirtual 295, 3) := dz_182 (bX3_single_0 12 _ rfl) (bX3_single_0 13 _ rfl) (bX3_single_0 14 _ rfl)
theorem dX3_single_15 : decode cX3_single 15 = .ok (.ifCond .ne 8, 3) := dz_154 (bX3_single_0 15 _ rfl) (bX3_single_1 0 _ rfl) (bX3_single_1 1 _ rfl)
theorem dX3_single_18 : decode cX3_single 18 = .ok (.aload_n 0, 1) := dz_42 (bX3_single_1 2 _ rfl)
theorem dX3_single_19 : decode cX3_single 19 = .ok (.invokevirtual 336, 3) := dz_182 (bX3_single_1 3 _ rfl) (bX3_single_1 4 _ rfl) (bX3_single_1 5 _ rfl)
theorem dX3_single_22 : decode cX3_single 22 = .ok (.ireturn, 1) := dz_172 (bX3_single_1 6 _ rfl)
theorem dX3_single_23 : decode cX3_single 23 = .ok (.aload_n 0, 1) := dz_42 (bX3_single_1 7 _ rfl)
theorem dX3_single_24 : decode cX3_single 24 = .ok (.bipush 45, 2) := dz_16 (bX3_single_1 8 _ rfl) (bX3_single_1 9 _ rfl)
theorem dX3_single_26 : decode cX3_single 26 = .ok (.invokevirtual 295, 3) := dz_182 (bX3_single_1 10 _ rfl) (bX3_single_1 11 _ rfl) (bX3_single_1 12 _ rfl)
theorem dX3_single_29 : decode cX3_single 29 = .ok (.istore_n 1, 1) := dz_60 (bX3_single_1 13 _ rfl)
theorem dX3_single_30 : decode cX3_single 30 = .ok (.aload_n 0, 1) := dz_42 (bX3_single_1 14 _ rfl)
theorem dX3_single_31 : decode cX3_single 31 = .ok (.iconst 1, 1) := dz_4 (bX3_single_1 15 _ rfl)
theorem dX3_single_32 : decode cX3_single 32 = .ok (.invokevirtual 339, 3) := dz_182 (bX3_single_2 0 _ rfl) (bX3_single_2 1 _ rfl) (bX3_single_2 2 _ rfl)
theorem dX3_single_35 : decode cX3_single 35 = .ok (.ifCond .ne 5, 3) := dz_154 (bX3_single_2 3 _ rfl) (bX3_single_2 4 _ rfl) (bX3_single_2 5 _ rfl)
theorem dX3_single_38 : decode cX3_single 38 = .ok (.iconst (-1), 1) := dz_2 (bX3_single_2 6 _ rfl)
theorem dX3_single_39 : decode cX3_single 39 = .ok (.ireturn, 1) := dz_172 (bX3_single_2 7 _ rfl)
theorem dX3_single_40 : decode cX3_single 40 = .ok (.aload_n 0, 1) := dz_42 (bX3_single_2 8 _ rfl)
theorem dX3_single_41 : decode cX3_single 41 = .ok (.invokevirtual 324, 3) := dz_182 (bX3_single_2 9 _ rfl) (bX3_single_2 10 _ rfl) (bX3_single_2 11 _ rfl)
theorem dX3_single_44 : decode cX3_single 44 = .ok (.istore_n 2, 1) := dz_61 (bX3_single_2 12 _ rfl)
theorem dX3_single_45 : decode cX3_single 45 = .ok (.aload_n 0, 1) := dz_42 (bX3_single_2 13 _ rfl)
theorem dX3_single_46 : decode cX3_single 46 = .ok (.getfield 283, 3) := dz_180 (bX3_single_2 14 _ rfl) (bX3_single_2 15 _ rfl) (bX3_single_3 0 _ rfl)
theorem dX3_single_49 : decode cX3_single 49 = .ok (.ifCond .ge 13, 3) := dz_156 (bX3_single_3 1 _ rfl) (bX3_single_3 2 _ rfl) (bX3_single_3 3 _ rfl)
theorem dX3_single_52 : decode cX3_single 52 = .ok (.aload_n 0, 1) := dz_42 (bX3_single_3 4 _ rfl)
theorem dX3_single_53 : decode cX3_single 53 = .ok (.dup, 1) := dz_89 (bX3_single_3 5 _ rfl)
theorem dX3_single_54 : decode cX3_single 54 = .ok (.getfield 292, 3) := dz_180 (bX3_single_3 6 _ rfl) (bX3_single_3 7 _ rfl) (bX3_single_3 8 _ rfl)
theorem dX3_single_57 : decode cX3_single 57 = .ok (.iconst 1, 1) := dz_4 (bX3_single_3 9 _ rfl)
theorem dX3_single_58 : decode cX3_single 58 = .ok (.isub, 1) := dz_100 (bX3_single_3 10 _ rfl)
theorem dX3_single_59 : decode cX3_single 59 = .ok (.putfield 292, 3) := dz_181 (bX3_single_3 11 _ rfl) (bX3_single_3 12 _ rfl) (bX3_single_3 13 _ rfl)
theorem dX3_single_62 : decode cX3_single 62 = .ok (.aload_n 0, 1) := dz_42 (bX3_single_3 14 _ rfl)
theorem dX3_single_63 : decode cX3_single 63 = .ok (.iload_n 1, 1) := dz_27 (bX3_single_3 15 _ rfl)
theorem dX3_single_64 : decode cX3_single 64 = .ok (.ifCond .eq 8, 3) := dz_153 (bX3_single_4 0 _ rfl) (bX3_single_4 1 _ rfl) (bX3_single_4 2 _ rfl)
theorem dX3_single_67 : decode cX3_single 67 = .ok (.bipush 13, 2) := dz_16 (bX3_single_4 3 _ rfl) (bX3_single_4 4 _ rfl)
theorem dX3_single_69 : decode cX3_single 69 = .ok (.goto 5, 3) := dz_167 (bX3_single_4 5 _ rfl) (bX3_single_4 6 _ rfl) (bX3_single_4 7 _ rfl)
theorem dX3_single_72 : decode cX3_single 72 = .ok (.bipush 14, 2) := dz_16 (bX3_single_4 8 _ rfl) (bX3_single_4 9 _ rfl)
theorem dX3_single_74 : decode cX3_single 74 = .ok (.iload_n 2, 1) := dz_28 (bX3_single_4 10 _ rfl)
theorem dX3_single_75 : decode cX3_single 75 = .ok (.iconst 0, 1) := dz_3 (bX3_single_4 11 _ rfl)
theorem dX3_single_76 : decode cX3_single 76 = .ok (.iconst 0, 1) := dz_3 (bX3_single_4 12 _ rfl)
theorem dX3_single_77 : decode cX3_single 77 = .ok (.invokevirtual 308, 3) := dz_182 (bX3_single_4 13 _ rfl) (bX3_single_4 14 _ rfl) (bX3_single_4 15 _ rfl)
theorem dX3_single_80 : decode cX3_single 80 = .ok (.ireturn, 1) := dz_172 (bX3_single_5 0 _ rfl)
def m_X3_single_74 (rc : Nat → Int32 → Int32 → Int32 → ch_S → Option (Int32 × ch_S)) (x2 : Int32) (y0 : Int32) (σ : ch_S) : Option (Int32 × ch_S) := (m_X3_node y0 x2 0 0 σ).bind fun p1 => some ((p1.1, p1.2))
theorem s_X3_single_74 {g : State} {d : Nat} {rc : Nat → Int32 → Int32 → Int32 → ch_S → Option (Int32 × ch_S)} {m : Nat} {w : ch_W} (hr7 : ∀ {σ : ch_S} {p : Int32 × ch_S} {Q : Outcome → ch_W → Prop}, rc 7 0 0 0 σ = some p → ch_eI Q (p.1, ch_put m w p.2) → ch_CT g false yX3_single (d + 7) [.ref m] (ch_put m w σ) Q) (hr8 : ∀ {σ : ch_S} {p : Int32 × ch_S} {Q : Outcome → ch_W → Prop}, rc 8 0 0 0 σ = some p → ch_eI Q (p.1, ch_put m w p.2) → ch_CT g false yX3_chain (d + 7) [.ref m] (ch_put m w σ) Q)  {x2 : Int32} {y0 : Int32} {σ : ch_S} {res : Int32 × ch_S} {Q : Outcome → ch_W → Prop} (h : m_X3_single_74 rc x2 y0 σ = some res) (hk : (fun r => ch_eI Q (r.1, ch_put m w r.2)) res) : ch_FT g false mX3_single (d + 8) 74 [none, none, some (.int x2)] [.int y0, va_rf (some m)] (ch_put m w σ) Q := by
  unfold m_X3_single_74 at h
  obtain ⟨p1, hp2, h⟩ := ch_bd h
  refine ch_iload_n 2 _ dX3_single_74 rfl (ch_iconst _ 0 dX3_single_75 rfl (ch_iconst _ 0 dX3_single_76 rfl (ch_iv yX3_node prog_14_method_20_code 5 (some .int) (ci := 3) (q := (RX3, TX3, 109)) (b := m) (d' := 2) (av := [.int y0, .int x2, .int 0, .int 0]) (rest := []) rfl dX3_single_77 q2018 q2020 rfl qs134 q2021 can_X3_node (Nat.le_trans (Nat.le_of_ble_eq_true rfl) (Nat.le_add_left 8 d)) (Nat.le_of_ble_eq_true rfl) ch_put_tag (cp_kI (v := p1.1) (w1 := ch_put m w p1.2) (fun Q' hq => s_X3_node hp2 hq) ?_))))
  obtain rfl := Option.some.inj h
  exact ch_ireturn _ dX3_single_80 rfl rfl hk

def m_X3_single_62 (rc : Nat → Int32 → Int32 → Int32 → ch_S → Option (Int32 × ch_S)) (x1 : Int32) (x2 : Int32)  (σ : ch_S) : Option (Int32 × ch_S) := if x1 = 0 then (m_X3_single_74 rc x2 14 σ) else (m_X3_single_74 rc x2 13 σ)
theorem s_X3_single_62 {g : State} {d : Nat} {rc : Nat → Int32 → Int32 → Int32 → ch_S → Option (Int32 × ch_S)} {m : Nat} {w : ch_W} (hr7 : ∀ {σ : ch_S} {p : Int32 × ch_S} {Q : Outcome → ch_W → Prop}, rc 7 0 0 0 σ = some p → ch_eI Q (p.1, ch_put m w p.2) → ch_CT g false yX3_single (d + 7) [.ref m] (ch_put m w σ) Q) (hr8 : ∀ {σ : ch_S} {p : Int32 × ch_S} {Q : Outcome → ch_W → Prop}, rc 8 0 0 0 σ = some p → ch_eI Q (p.1, ch_put m w p.2) → ch_CT g false yX3_chain (d + 7) [.ref m] (ch_put m w σ) Q)  {x1 : Int32} {x2 : Int32} {σ : ch_S} {res : Int32 × ch_S} {Q : Outcome → ch_W → Prop} (h : m_X3_single_62 rc x1 x2 σ = some res) (hk : (fun r => ch_eI Q (r.1, ch_put m w r.2)) res) : ch_FT g false mX3_single (d + 8) 62 [some (va_rf (some m)), some (.int x1), some (.int x2)] [] (ch_put m w σ) Q := by
  unfold m_X3_single_62 at h
  refine ch_aload_n 0 (some m) dX3_single_62 rfl (ch_iload_n 1 _ dX3_single_63 rfl (cp_if_eq _ (tgt := 72) dX3_single_64 rfl h (fun h => ?_) (fun h => ?_)))
  · exact ch_bipush _ 14 dX3_single_72 rfl (ch_FT.wk (ch_wN (ch_wN (ch_wS ch_w0))) (s_X3_single_74 hr7 hr8 h hk))
  · exact ch_bipush _ 13 dX3_single_67 rfl (ch_goto 74 dX3_single_69 rfl (ch_FT.wk (ch_wN (ch_wN (ch_wS ch_w0))) (s_X3_single_74 hr7 hr8 h hk)))

def m_X3_single_23 (rc : Nat → Int32 → Int32 → Int32 → ch_S → Option (Int32 × ch_S))   (σ : ch_S) : Option (Int32 × ch_S) := (m_X3_isSign 45 σ).bind fun v1 => (m_X3_opens 1 σ).bind fun p3 => if p3.1 = 0 then (some (((-1), p3.2))) else ((rc 7 0 0 0 p3.2).bind fun p5 => if (p5.2.1 fX3_wrong) < 0 then ((ch_mI p5.2 fX3_deep ((p5.2.1 fX3_deep) - 1)).bind fun σ7 => m_X3_single_62 rc v1 p5.1 σ7) else (m_X3_single_62 rc v1 p5.1 p5.2))
theorem s_X3_single_23 {g : State} {d : Nat} {rc : Nat → Int32 → Int32 → Int32 → ch_S → Option (Int32 × ch_S)} {m : Nat} {w : ch_W} (hr7 : ∀ {σ : ch_S} {p : Int32 × ch_S} {Q : Outcome → ch_W → Prop}, rc 7 0 0 0 σ = some p → ch_eI Q (p.1, ch_put m w p.2) → ch_CT g false yX3_single (d + 7) [.ref m] (ch_put m w σ) Q) (hr8 : ∀ {σ : ch_S} {p : Int32 × ch_S} {Q : Outcome → ch_W → Prop}, rc 8 0 0 0 σ = some p → ch_eI Q (p.1, ch_put m w p.2) → ch_CT g false yX3_chain (d + 7) [.ref m] (ch_put m w σ) Q)  {σ : ch_S} {res : Int32 × ch_S} {Q : Outcome → ch_W → Prop} (h : m_X3_single_23 rc σ = some res) (hk : (fun r => ch_eI Q (r.1, ch_put m w r.2)) res) : ch_FT g false mX3_single (d + 8) 23 [some (va_rf (some m)), none, none] [] (ch_put m w σ) Q := by
  unfold m_X3_single_23 at h
  obtain ⟨v1, hp2, h⟩ := ch_bd h
  refine ch_aload_n 0 (some m) dX3_single_23 rfl (ch_bipush _ 45 dX3_single_24 rfl (ch_iv yX3_isSign prog_14_method_14_code 2 (some .boolean) (ci := 3) (q := (RX3, TX3, 109)) (b := m) (d' := 2) (av := [.int 45]) (rest := []) rfl dX3_single_26 q1942 q1944 rfl qs115 q1945 can_X3_isSign (Nat.le_trans (Nat.le_of_ble_eq_true rfl) (Nat.le_add_left 8 d)) (Nat.le_of_ble_eq_true rfl) ch_put_tag (cp_kI (v := v1) (w1 := ch_put m w σ) (fun Q' hq => s_X3_isSign hp2 hq) ?_)))
  obtain ⟨p3, hp4, h⟩ := ch_bd h
  refine ch_istore_n 1 _ (ls1 := [some (va_rf (some m)), some (.int v1), none]) dX3_single_29 (Nat.le_of_ble_eq_true rfl) rfl (ch_aload_n 0 (some m) dX3_single_30 rfl (ch_iconst _ 1 dX3_single_31 rfl (ch_iv yX3_opens prog_14_method_17_code 3 (some .boolean) (ci := 3) (q := (RX3, TX3, 109)) (b := m) (d' := 5) (av := [.int 1]) (rest := []) rfl dX3_single_32 q1946 q1948 rfl qs116 q1949 can_X3_opens (Nat.le_trans (Nat.le_of_ble_eq_true rfl) (Nat.le_add_left 8 d)) (Nat.le_of_ble_eq_true rfl) ch_put_tag (cp_kI (v := p3.1) (w1 := ch_put m w p3.2) (fun Q' hq => s_X3_opens hp4 hq) ?_))))
  refine cp_if_ne _ (tgt := 40) dX3_single_35 rfl h (fun h => ?_) (fun h => ?_)
  · obtain ⟨p5, hp6, h⟩ := ch_bd h
    refine ch_aload_n 0 (some m) dX3_single_40 rfl (ch_iv yX3_single prog_14_method_28_code 3 (some .int) (ci := 3) (q := (RX3, TX3, 109)) (b := m) (d' := (d + 7)) (av := []) (rest := []) rfl dX3_single_41 q2006 q2008 rfl qs131 q2009 can_X3_single (Nat.le_refl _) (Nat.le_of_ble_eq_true rfl) ch_put_tag (cp_kI (v := p5.1) (w1 := ch_put m w p5.2) (fun Q' hq => hr7 hp6 hq) ?_))
    refine ch_istore_n 2 _ (ls1 := [some (va_rf (some m)), some (.int v1), some (.int p5.1)]) dX3_single_44 (Nat.le_of_ble_eq_true rfl) rfl (ch_aload_n 0 (some m) dX3_single_45 rfl (mp_gI 9 dX3_single_46 fl_X3_283 rfl (cp_if_ge _ (tgt := 62) dX3_single_49 rfl h (fun h => ?_) (fun h => ?_))))
    · exact ch_FT.wk (ch_wS (ch_wS (ch_wS ch_w0))) (s_X3_single_62 hr7 hr8 h hk)
    · refine ch_aload_n 0 (some m) dX3_single_52 rfl (ch_dup dX3_single_53 (ch_cat _) (mp_gI 10 dX3_single_54 fl_X3_292 rfl (ch_iconst _ 1 dX3_single_57 rfl (ch_isub _ _ dX3_single_58 (mp_pI (k := 10) dX3_single_59 fl_X3_292 rfl rfl rfl h (fun σ7 h => ?_))))))
      exact ch_FT.wk (ch_wS (ch_wS (ch_wS ch_w0))) (s_X3_single_62 hr7 hr8 h hk)
  · obtain rfl := Option.some.inj h
    exact ch_iconst _ (-1) dX3_single_38 rfl (ch_ireturn _ dX3_single_39 rfl rfl hk)

def m_X3_single (rc : Nat → Int32 → Int32 → Int32 → ch_S → Option (Int32 × ch_S))  (σ : ch_S) : Option (Int32 × ch_S) := (m_X3_isSign 45 σ).bind fun v1 => if v1 = 0 then ((m_X3_isSign 33 σ).bind fun v3 => if v3 = 0 then ((rc 8 0 0 0 σ).bind fun p5 => some ((p5.1, p5.2))) else (m_X3_single_23 rc σ)) else (m_X3_single_23 rc σ)
theorem s_X3_single {g : State} {d : Nat} {rc : Nat → Int32 → Int32 → Int32 → ch_S → Option (Int32 × ch_S)} {m : Nat} {w : ch_W} (hr7 : ∀ {σ : ch_S} {p : Int32 × ch_S} {Q : Outcome → ch_W → Prop}, rc 7 0 0 0 σ = some p → ch_eI Q (p.1, ch_put m w p.2) → ch_CT g false yX3_single (d + 7) [.ref m] (ch_put m w σ) Q) (hr8 : ∀ {σ : ch_S} {p : Int32 × ch_S} {Q : Outcome → ch_W → Prop}, rc 8 0 0 0 σ = some p → ch_eI Q (p.1, ch_put m w p.2) → ch_CT g false yX3_chain (d + 7) [.ref m] (ch_put m w σ) Q)  {σ : ch_S} {res : Int32 × ch_S} {Q : Outcome → ch_W → Prop} (h : m_X3_single rc σ = some res) (hk : (fun r => ch_eI Q (r.1, ch_put m w r.2)) res) : ch_CT g false yX3_single (d + 8) [.ref m] (ch_put m w σ) Q := by
  unfold m_X3_single at h
  refine ch_ctL mX3_single (ls := [some (va_rf (some m)), none, none]) q2009 rfl (ch_lyr (r := some m) ch_ly0) (Nat.le_of_ble_eq_true rfl) rfl ?_
  obtain ⟨v1, hp2, h⟩ := ch_bd h
  refine ch_aload_n 0 (some m) dX3_single_0 rfl (ch_bipush _ 45 dX3_single_1 rfl (ch_iv yX3_isSign prog_14_method_14_code 2 (some .boolean) (ci := 3) (q := (RX3, TX3, 109)) (b := m) (d' := 2) (av := [.int 45]) (rest := []) rfl dX3_single_3 q1942 q1944 rfl qs115 q1945 can_X3_isSign (Nat.le_trans (Nat.le_of_ble_eq_true rfl) (Nat.le_add_left 8 d)) (Nat.le_of_ble_eq_true rfl) ch_put_tag (cp_kI (v := v1) (w1 := ch_put m w σ) (fun Q' hq => s_X3_isSign hp2 hq) ?_)))
  refine cp_if_ne _ (tgt := 23) dX3_single_6 rfl h (fun h => ?_) (fun h => ?_)
  · exact ch_FT.wk (ch_wS (ch_wN (ch_wN ch_w0))) (s_X3_single_23 hr7 hr8 h hk)
  · obtain ⟨v3, hp4, h⟩ := ch_bd h
    refine ch_aload_n 0 (some m) dX3_single_9 rfl (ch_bipush _ 33 dX3_single_10 rfl (ch_iv yX3_isSign prog_14_method_14_code 2 (some .boolean) (ci := 3) (q := (RX3, TX3, 109)) (b := m) (d' := 2) (av := [.int 33]) (rest := []) rfl dX3_single_12 q1942 q1944 rfl qs115 q1945 can_X3_isSign (Nat.le_trans (Nat.le_of_ble_eq_true rfl) (Nat.le_add_left 8 d)) (Nat.le_of_ble_eq_true rfl) ch_put_tag (cp_kI (v := v3) (w1 := ch_put m w σ) (fun Q' hq => s_X3_isSign hp4 hq) ?_)))
    refine cp_if_ne _ (tgt := 23) dX3_single_15 rfl h (fun h => ?_) (fun h => ?_)
    · exact ch_FT.wk (ch_wS (ch_wN (ch_wN ch_w0))) (s_X3_single_23 hr7 hr8 h hk)
    · obtain ⟨p5, hp6, h⟩ := ch_bd h
      refine ch_aload_n 0 (some m) dX3_single_18 rfl (ch_iv yX3_chain prog_14_method_29_code 4 (some .int) (ci := 3) (q := (RX3, TX3, 109)) (b := m) (d' := (d + 7)) (av := []) (rest := []) rfl dX3_single_19 q2010 q2012 rfl qs132 q2013 can_X3_chain (Nat.le_refl _) (Nat.le_of_ble_eq_true rfl) ch_put_tag (cp_kI (v := p5.1) (w1 := ch_put m w p5.2) (fun Q' hq => hr8 hp6 hq) ?_))
      obtain rfl := Option.some.inj h
      exact ch_ireturn _ dX3_single_22 rfl rfl hk

theorem bX3_chain_0 : ch_ck cX3_chain 0 [42, 182, 1, 86, 60, 42, 180, 1, 27, 156, 0, 150, 42, 16, 46, 182] := ch_ckof (by decide +kernel)
theorem bX3_chain_1 : ch_ck cX3_chain 16 [1, 39, 154, 0, 21, 42, 16, 91, 182, 1, 39, 154, 0, 12, 42, 16] := ch_ckof (by decide +kernel)
theorem bX3_chain_2 : ch_ck cX3_chain 32 [20, 182, 1, 74, 153, 0, 123, 42, 16, 46, 182, 1, 39, 153, 0, 45] := ch_ckof (by decide +kernel)
theorem bX3_chain_3 : ch_ck cX3_chain 48 [42, 182, 1, 33, 42, 182, 1, 77, 61, 42, 16, 40, 182, 1, 39, 153] := ch_ckof (by decide +kernel)
theorem bX3_chain_4 : ch_ck cX3_chain 64 [0, 14, 42, 16, 8, 27, 28, 182, 1, 89, 167, 0, 12, 42, 16, 6] := ch_ckof (by decide +kernel)
theorem bX3_chain_5 : ch_ck cX3_chain 80 [27, 3, 28, 182, 1, 52, 60, 167, 255, 174, 42, 16, 91, 182, 1, 39] := ch_ckof (by decide +kernel)
theorem bX3_chain_6 : ch_ck cX3_chain 96 [153, 0, 41, 42, 4, 182, 1, 83, 61, 28, 153, 0, 10, 42, 182, 1] := ch_ckof (by decide +kernel)
theorem bX3_chain_7 : ch_ck cX3_chain 112 [93, 167, 0, 4, 2, 62, 42, 16, 93, 182, 1, 96, 42, 16, 7, 27] := ch_ckof (by decide +kernel)
theorem bX3_chain_8 : ch_ck cX3_chain 128 [29, 3, 182, 1, 52, 60, 167, 255, 127, 42, 182, 1, 33, 42, 182, 1] := ch_ckof (by decide +kernel)
theorem bX3_chain_9 : ch_ck cX3_chain 144 [77, 61, 42, 16, 10, 27, 3, 28, 182, 1, 52, 60, 167, 255, 105, 27] := ch_ckof (by decide +kernel)
theorem bX3_chain_10 : ch_ck cX3_chain 160 [172] := ch_ckof (by decide +kernel)
theorem dX3_chain_0 : decode cX3_chain 0 = .ok (.aload_n 0, 1) := dz_42 (bX3_chain_0 0 _ rfl)
theorem dX3_chain_1 : decode cX3_chain 1 = .ok (.invokevirtual 342, 3) := dz_182 (bX3_chain_0 1 _ rfl) (bX3_chain_0 2 _ rfl) (bX3_chain_0 3 _ rfl)
theorem dX3_chain_4 : decode cX3_chain 4 = .ok (.istore_n 1, 1) := dz_60 (bX3_chain_0 4 _ rfl)
theorem dX3_chain_5 : decode cX3_chain 5 = .ok (.aload_n 0, 1) := dz_42 (bX3_chain_0 5 _ rfl)
theorem dX3_chain_6 : decode cX3_chain 6 = .ok (.getfield 283, 3) := dz_180 (bX3_chain_0 6 _ rfl) (bX3_chain_0 7 _ rfl) (bX3_chain_0 8 _ rfl)
theorem dX3_chain_9 : decode cX3_chain 9 = .ok (.ifCond .ge 150, 3) := dz_156 (bX3_chain_0 9 _ rfl) (bX3_chain_0 10 _ rfl) (bX3_chain_0 11 _ rfl)
theorem dX3_chain_12 : decode cX3_chain 12 = .ok (.aload_n 0, 1) := dz_42 (bX3_chain_0 12 _ rfl)
theorem dX3_chain_13 : decode cX3_chain 13 = .ok (.bipush 46, 2) := dz_16 (bX3_chain_0 13 _ rfl) (bX3_chain_0 14 _ rfl)
theorem dX3_chain_15 : decode cX3_chain 15 = .ok (.invokevirtual 295, 3) := dz_182 (bX3_chain_0 15 _ rfl) (bX3_chain_1 0 _ rfl) (bX3_chain_1 1 _ rfl)
theorem dX3_chain_18 : decode cX3_chain 18 = .ok (.ifCond .ne 21, 3) := dz_154 (bX3_chain_1 2 _ rfl) (bX3_chain_1 3 _ rfl) (bX3_chain_1 4 _ rfl)
theorem dX3_chain_21 : decode cX3_chain 21 = .ok (.aload_n 0, 1) := dz_42 (bX3_chain_1 5 _ rfl)
theorem dX3_chain_22 : decode cX3_chain 22 = .ok (.bipush 91, 2) := dz_16 (bX3_chain_1 6 _ rfl) (bX3_chain_1 7 _ rfl)
theorem dX3_chain_24 : decode cX3_chain 24 = .ok (.invokevirtual 295, 3) := dz_182 (bX3_chain_1 8 _ rfl) (bX3_chain_1 9 _ rfl) (bX3_chain_1 10 _ rfl)
theorem dX3_chain_27 : decode cX3_chain 27 = .ok (.ifCond .ne 12, 3) := dz_154 (bX3_chain_1 11 _ rfl) (bX3_chain_1 12 _ rfl) (bX3_chain_1 13 _ rfl)
theorem dX3_chain_30 : decode cX3_chain 30 = .ok (.aload_n 0, 1) := dz_42 (bX3_chain_1 14 _ rfl)
theorem dX3_chain_31 : decode cX3_chain 31 = .ok (.bipush 20, 2) := dz_16 (bX3_chain_1 15 _ rfl) (bX3_chain_2 0 _ rfl)
theorem dX3_chain_33 : decode cX3_chain 33 = .ok (.invokevirtual 330, 3) := dz_182 (bX3_chain_2 1 _ rfl) (bX3_chain_2 2 _ rfl) (bX3_chain_2 3 _ rfl)
theorem dX3_chain_36 : decode cX3_chain 36 = .ok (.ifCond .eq 123, 3) := dz_153 (bX3_chain_2 4 _ rfl) (bX3_chain_2 5 _ rfl) (bX3_chain_2 6 _ rfl)
theorem dX3_chain_39 : decode cX3_chain 39 = .ok (.aload_n 0, 1) := dz_42 (bX3_chain_2 7 _ rfl)
theorem dX3_chain_40 : decode cX3_chain 40 = .ok (.bipush 46, 2) := dz_16 (bX3_chain_2 8 _ rfl) (bX3_chain_2 9 _ rfl)
theorem dX3_chain_42 : decode cX3_chain 42 = .ok (.invokevirtual 295, 3) := dz_182 (bX3_chain_2 10 _ rfl) (bX3_chain_2 11 _ rfl) (bX3_chain_2 12 _ rfl)
theorem dX3_chain_45 : decode cX3_chain 45 = .ok (.ifCond .eq 45, 3) := dz_153 (bX3_chain_2 13 _ rfl) (bX3_chain_2 14 _ rfl) (bX3_chain_2 15 _ rfl)
theorem dX3_chain_48 : decode cX3_chain 48 = .ok (.aload_n 0, 1) := dz_42 (bX3_chain_3 0 _ rfl)
theorem dX3_chain_49 : decode cX3_chain 49 = .ok (.invokevirtual 289, 3) := dz_182 (bX3_chain_3 1 _ rfl) (bX3_chain_3 2 _ rfl) (bX3_chain_3 3 _ rfl)
theorem dX3_chain_52 : decode cX3_chain 52 = .ok (.aload_n 0, 1) := dz_42 (bX3_chain_3 4 _ rfl)
theorem dX3_chain_53 : decode cX3_chain 53 = .ok (.invokevirtual 333, 3) := dz_182 (bX3_chain_3 5 _ rfl) (bX3_chain_3 6 _ rfl) (bX3_chain_3 7 _ rfl)
theorem dX3_chain_56 : decode cX3_chain 56 = .ok (.istore_n 2, 1) := dz_61 (bX3_chain_3 8 _ rfl)
theorem dX3_chain_57 : decode cX3_chain 57 = .ok (.aload_n 0, 1) := dz_42 (bX3_chain_3 9 _ rfl)
theorem dX3_chain_58 : decode cX3_chain 58 = .ok (.bipush 40, 2) := dz_16 (bX3_chain_3 10 _ rfl) (bX3_chain_3 11 _ rfl)
theorem dX3_chain_60 : decode cX3_chain 60 = .ok (.invokevirtual 295, 3) := dz_182 (bX3_chain_3 12 _ rfl) (bX3_chain_3 13 _ rfl) (bX3_chain_3 14 _ rfl)
theorem dX3_chain_63 : decode cX3_chain 63 = .ok (.ifCond .eq 14, 3) := dz_153 (bX3_chain_3 15 _ rfl) (bX3_chain_4 0 _ rfl) (bX3_chain_4 1 _ rfl)
theorem dX3_chain_66 : decode cX3_chain 66 = .ok (.aload_n 0, 1) := dz_42 (bX3_chain_4 2 _ rfl)
theorem dX3_chain_67 : decode cX3_chain 67 = .ok (.bipush 8, 2) := dz_16 (bX3_chain_4 3 _ rfl) (bX3_chain_4 4 _ rfl)
theorem dX3_chain_69 : decode cX3_chain 69 = .ok (.iload_n 1, 1) := dz_27 (bX3_chain_4 5 _ rfl)
theorem dX3_chain_70 : decode cX3_chain 70 = .ok (.iload_n 2, 1) := dz_28 (bX3_chain_4 6 _ rfl)
theorem dX3_chain_71 : decode cX3_chain 71 = .ok (.invokevirtual 345, 3) := dz_182 (bX3_chain_4 7 _ rfl) (bX3_chain_4 8 _ rfl) (bX3_chain_4 9 _ rfl)
theorem dX3_chain_74 : decode cX3_chain 74 = .ok (.goto 12, 3) := dz_167 (bX3_chain_4 10 _ rfl) (bX3_chain_4 11 _ rfl) (bX3_chain_4 12 _ rfl)
theorem dX3_chain_77 : decode cX3_chain 77 = .ok (.aload_n 0, 1) := dz_42 (bX3_chain_4 13 _ rfl)
theorem dX3_chain_78 : decode cX3_chain 78 = .ok (.bipush 6, 2) := dz_16 (bX3_chain_4 14 _ rfl) (bX3_chain_4 15 _ rfl)
theorem dX3_chain_80 : decode cX3_chain 80 = .ok (.iload_n 1, 1) := dz_27 (bX3_chain_5 0 _ rfl)
theorem dX3_chain_81 : decode cX3_chain 81 = .ok (.iconst 0, 1) := dz_3 (bX3_chain_5 1 _ rfl)
theorem dX3_chain_82 : decode cX3_chain 82 = .ok (.iload_n 2, 1) := dz_28 (bX3_chain_5 2 _ rfl)
theorem dX3_chain_83 : decode cX3_chain 83 = .ok (.invokevirtual 308, 3) := dz_182 (bX3_chain_5 3 _ rfl) (bX3_chain_5 4 _ rfl) (bX3_chain_5 5 _ rfl)
theorem dX3_chain_86 : decode cX3_chain 86 = .ok (.istore_n 1, 1) := dz_60 (bX3_chain_5 6 _ rfl)
theorem dX3_chain_87 : decode cX3_chain 87 = .ok (.goto (-82), 3) := dz_167 (bX3_chain_5 7 _ rfl) (bX3_chain_5 8 _ rfl) (bX3_chain_5 9 _ rfl)
theorem dX3_chain_90 : decode cX3_chain 90 = .ok (.aload_n 0, 1) := dz_42 (bX3_chain_5 10 _ rfl)
theorem dX3_chain_91 : decode cX3_chain 91 = .ok (.bipush 91, 2) := dz_16 (bX3_chain_5 11 _ rfl) (bX3_chain_5 12 _ rfl)
theorem dX3_chain_93 : decode cX3_chain 93 = .ok (.invokevirtual 295, 3) := dz_182 (bX3_chain_5 13 _ rfl) (bX3_chain_5 14 _ rfl) (bX3_chain_5 15 _ rfl)
theorem dX3_chain_96 : decode cX3_chain 96 = .ok (.ifCond .eq 41, 3) := dz_153 (bX3_chain_6 0 _ rfl) (bX3_chain_6 1 _ rfl) (bX3_chain_6 2 _ rfl)
theorem dX3_chain_99 : decode cX3_chain 99 = .ok (.aload_n 0, 1) := dz_42 (bX3_chain_6 3 _ rfl)
theorem dX3_chain_100 : decode cX3_chain 100 = .ok (.iconst 1, 1) := dz_4 (bX3_chain_6 4 _ rfl)
theorem dX3_chain_101 : decode cX3_chain 101 = .ok (.invokevirtual 339, 3) := dz_182 (bX3_chain_6 5 _ rfl) (bX3_chain_6 6 _ rfl) (bX3_chain_6 7 _ rfl)
theorem dX3_chain_104 : decode cX3_chain 104 = .ok (.istore_n 2, 1) := dz_61 (bX3_chain_6 8 _ rfl)
theorem dX3_chain_105 : decode cX3_chain 105 = .ok (.iload_n 2, 1) := dz_28 (bX3_chain_6 9 _ rfl)
theorem dX3_chain_106 : decode cX3_chain 106 = .ok (.ifCond .eq 10, 3) := dz_153 (bX3_chain_6 10 _ rfl) (bX3_chain_6 11 _ rfl) (bX3_chain_6 12 _ rfl)
theorem dX3_chain_109 : decode cX3_chain 109 = .ok (.aload_n 0, 1) := dz_42 (bX3_chain_6 13 _ rfl)
theorem dX3_chain_110 : decode cX3_chain 110 = .ok (.invokevirtual 349, 3) := dz_182 (bX3_chain_6 14 _ rfl) (bX3_chain_6 15 _ rfl) (bX3_chain_7 0 _ rfl)
theorem dX3_chain_113 : decode cX3_chain 113 = .ok (.goto 4, 3) := dz_167 (bX3_chain_7 1 _ rfl) (bX3_chain_7 2 _ rfl) (bX3_chain_7 3 _ rfl)
theorem dX3_chain_116 : decode cX3_chain 116 = .ok (.iconst (-1), 1) := dz_2 (bX3_chain_7 4 _ rfl)
theorem dX3_chain_117 : decode cX3_chain 117 = .ok (.istore_n 3, 1) := dz_62 (bX3_chain_7 5 _ rfl)
theorem dX3_chain_118 : decode cX3_chain 118 = .ok (.aload_n 0, 1) := dz_42 (bX3_chain_7 6 _ rfl)
theorem dX3_chain_119 : decode cX3_chain 119 = .ok (.bipush 93, 2) := dz_16 (bX3_chain_7 7 _ rfl) (bX3_chain_7 8 _ rfl)
theorem dX3_chain_121 : decode cX3_chain 121 = .ok (.invokevirtual 352, 3) := dz_182 (bX3_chain_7 9 _ rfl) (bX3_chain_7 10 _ rfl) (bX3_chain_7 11 _ rfl)
theorem dX3_chain_124 : decode cX3_chain 124 = .ok (.aload_n 0, 1) := dz_42 (bX3_chain_7 12 _ rfl)
theorem dX3_chain_125 : decode cX3_chain 125 = .ok (.bipush 7, 2) := dz_16 (bX3_chain_7 13 _ rfl) (bX3_chain_7 14 _ rfl)
theorem dX3_chain_127 : decode cX3_chain 127 = .ok (.iload_n 1, 1) := dz_27 (bX3_chain_7 15 _ rfl)
theorem dX3_chain_128 : decode cX3_chain 128 = .ok (.iload_n 3, 1) := dz_29 (bX3_chain_8 0 _ rfl)
theorem dX3_chain_129 : decode cX3_chain 129 = .ok (.iconst 0, 1) := dz_3 (bX3_chain_8 1 _ rfl)
theorem dX3_chain_130 : decode cX3_chain 130 = .ok (.invokevirtual 308, 3) := dz_182 (bX3_chain_8 2 _ rfl) (bX3_chain_8 3 _ rfl) (bX3_chain_8 4 _ rfl)
theorem dX3_chain_133 : decode cX3_chain 133 = .ok (.istore_n 1, 1) := dz_60 (bX3_chain_8 5 _ rfl)
theorem dX3_chain_134 : decode cX3_chain 134 = .ok (.goto (-129), 3) := dz_167 (bX3_chain_8 6 _ rfl) (bX3_chain_8 7 _ rfl) (bX3_chain_8 8 _ rfl)
theorem dX3_chain_137 : decode cX3_chain 137 = .ok (.aload_n 0, 1) := dz_42 (bX3_chain_8 9 _ rfl)
theorem dX3_chain_138 : decode cX3_chain 138 = .ok (.invokevirtual 289, 3) := dz_182 (bX3_chain_8 10 _ rfl) (bX3_chain_8 11 _ rfl) (bX3_chain_8 12 _ rfl)
theorem dX3_chain_141 : decode cX3_chain 141 = .ok (.aload_n 0, 1) := dz_42 (bX3_chain_8 13 _ rfl)
theorem dX3_chain_142 : decode cX3_chain 142 = .ok (.invokevirtual 333, 3) := dz_182 (bX3_chain_8 14 _ rfl) (bX3_chain_8 15 _ rfl) (bX3_chain_9 0 _ rfl)
theorem dX3_chain_145 : decode cX3_chain 145 = .ok (.istore_n 2, 1) := dz_61 (bX3_chain_9 1 _ rfl)
theorem dX3_chain_146 : decode cX3_chain 146 = .ok (.aload_n 0, 1) := dz_42 (bX3_chain_9 2 _ rfl)
theorem dX3_chain_147 : decode cX3_chain 147 = .ok (.bipush 10, 2) := dz_16 (bX3_chain_9 3 _ rfl) (bX3_chain_9 4 _ rfl)
theorem dX3_chain_149 : decode cX3_chain 149 = .ok (.iload_n 1, 1) := dz_27 (bX3_chain_9 5 _ rfl)
theorem dX3_chain_150 : decode cX3_chain 150 = .ok (.iconst 0, 1) := dz_3 (bX3_chain_9 6 _ rfl)
theorem dX3_chain_151 : decode cX3_chain 151 = .ok (.iload_n 2, 1) := dz_28 (bX3_chain_9 7 _ rfl)
theorem dX3_chain_152 : decode cX3_chain 152 = .ok (.invokevirtual 308, 3) := dz_182 (bX3_chain_9 8 _ rfl) (bX3_chain_9 9 _ rfl) (bX3_chain_9 10 _ rfl)
theorem dX3_chain_155 : decode cX3_chain 155 = .ok (.istore_n 1, 1) := dz_60 (bX3_chain_9 11 _ rfl)
theorem dX3_chain_156 : decode cX3_chain 156 = .ok (.goto (-151), 3) := dz_167 (bX3_chain_9 12 _ rfl) (bX3_chain_9 13 _ rfl) (bX3_chain_9 14 _ rfl)
theorem dX3_chain_159 : decode cX3_chain 159 = .ok (.iload_n 1, 1) := dz_27 (bX3_chain_9 15 _ rfl)
theorem dX3_chain_160 : decode cX3_chain 160 = .ok (.ireturn, 1) := dz_172 (bX3_chain_10 0 _ rfl)
def m_X3_chain_117 (rc : Nat → Int32 → Int32 → Int32 → ch_S → Option (Int32 × ch_S)) (x1 : Int32) (y0 : Int32) (σ : ch_S) : Option ((Int32 × ch_S) ⊕ (Int32 × ch_S)) := (m_X3_closes 93 σ).bind fun p1 => (m_X3_node 7 x1 y0 0 p1).bind fun p3 => some (.inl (p3.1, p3.2))
theorem s_X3_chain_117 {g : State} {d : Nat} {rc : Nat → Int32 → Int32 → Int32 → ch_S → Option (Int32 × ch_S)} {m : Nat} {w : ch_W} (hr0 : ∀ {σ : ch_S} {p : Int32 × ch_S} {Q : Outcome → ch_W → Prop}, rc 0 0 0 0 σ = some p → ch_eI Q (p.1, ch_put m w p.2) → ch_CT g false yX3_expression (d + 7) [.ref m] (ch_put m w σ) Q) (hr9 : ∀ {z0 : Int32} {z1 : Int32} {z2 : Int32} {σ : ch_S} {p : Int32 × ch_S} {Q : Outcome → ch_W → Prop}, rc 9 z0 z1 z2 σ = some p → ch_eI Q (p.1, ch_put m w p.2) → ch_CT g false yX3_called (d + 7) [.ref m, .int z0, .int z1, .int z2] (ch_put m w σ) Q) (hr10 : ∀ {σ : ch_S} {p : Int32 × ch_S} {Q : Outcome → ch_W → Prop}, rc 10 0 0 0 σ = some p → ch_eI Q (p.1, ch_put m w p.2) → ch_CT g false yX3_first (d + 7) [.ref m] (ch_put m w σ) Q)  {x1 : Int32} {y0 : Int32} {σ : ch_S} {res : (Int32 × ch_S) ⊕ (Int32 × ch_S)} {Q : Outcome → ch_W → Prop} (h : m_X3_chain_117 rc x1 y0 σ = some res) (hk : (ch_sm (fun s => ch_FT g false mX3_chain (d + 8) 5 [some (va_rf (some m)), some (.int s.1), none, none] [] (ch_put m w s.2) Q) (fun r => ch_eI Q (r.1, ch_put m w r.2))) res) : ch_FT g false mX3_chain (d + 8) 117 [some (va_rf (some m)), some (.int x1), none, none] [.int y0] (ch_put m w σ) Q := by
  unfold m_X3_chain_117 at h
  obtain ⟨p1, hp2, h⟩ := ch_bd h
  refine ch_istore_n 3 _ (ls1 := [some (va_rf (some m)), some (.int x1), none, some (.int y0)]) dX3_chain_117 (Nat.le_of_ble_eq_true rfl) rfl (ch_aload_n 0 (some m) dX3_chain_118 rfl (ch_bipush _ 93 dX3_chain_119 rfl (ch_iv yX3_closes prog_14_method_18_code 2 none (ci := 3) (q := (RX3, TX3, 109)) (b := m) (d' := 6) (av := [.int 93]) (rest := []) rfl dX3_chain_121 q1962 q1964 rfl qs120 q1965 can_X3_closes (Nat.le_trans (Nat.le_of_ble_eq_true rfl) (Nat.le_add_left 8 d)) (Nat.le_of_ble_eq_true rfl) ch_put_tag (cp_kV (w1 := ch_put m w p1) (fun Q' hq => s_X3_closes hp2 hq) ?_))))
  obtain ⟨p3, hp4, h⟩ := ch_bd h
  refine ch_aload_n 0 (some m) dX3_chain_124 rfl (ch_bipush _ 7 dX3_chain_125 rfl (ch_iload_n 1 _ dX3_chain_127 rfl (ch_iload_n 3 _ dX3_chain_128 rfl (ch_iconst _ 0 dX3_chain_129 rfl (ch_iv yX3_node prog_14_method_20_code 5 (some .int) (ci := 3) (q := (RX3, TX3, 109)) (b := m) (d' := 2) (av := [.int 7, .int x1, .int y0, .int 0]) (rest := []) rfl dX3_chain_130 q2018 q2020 rfl qs134 q2021 can_X3_node (Nat.le_trans (Nat.le_of_ble_eq_true rfl) (Nat.le_add_left 8 d)) (Nat.le_of_ble_eq_true rfl) ch_put_tag (cp_kI (v := p3.1) (w1 := ch_put m w p3.2) (fun Q' hq => s_X3_node hp4 hq) ?_))))))
  refine ch_istore_n 1 _ (ls1 := [some (va_rf (some m)), some (.int p3.1), none, some (.int y0)]) dX3_chain_133 (Nat.le_of_ble_eq_true rfl) rfl (ch_goto 5 dX3_chain_134 rfl (ch_FT.wk (ch_wS (ch_wS (ch_wN (ch_wN ch_w0)))) ?_))
  obtain rfl := Option.some.inj h
  exact hk

def m_X3_chain_39 (rc : Nat → Int32 → Int32 → Int32 → ch_S → Option (Int32 × ch_S)) (x1 : Int32)  (σ : ch_S) : Option ((Int32 × ch_S) ⊕ (Int32 × ch_S)) := (m_X3_isSign 46 σ).bind fun v1 => if v1 = 0 then ((m_X3_isSign 91 σ).bind fun v3 => if v3 = 0 then ((m_X3_next σ).bind fun p5 => (m_X3_name p5).bind fun p7 => (m_X3_node 10 x1 0 p7.1 p7.2).bind fun p9 => some (.inl (p9.1, p9.2))) else ((m_X3_opens 1 σ).bind fun p11 => if p11.1 = 0 then (m_X3_chain_117 rc x1 (-1) p11.2) else ((rc 0 0 0 0 p11.2).bind fun p13 => m_X3_chain_117 rc x1 p13.1 p13.2))) else ((m_X3_next σ).bind fun p15 => (m_X3_name p15).bind fun p17 => (m_X3_isSign 40 p17.2).bind fun v19 => if v19 = 0 then ((m_X3_node 6 x1 0 p17.1 p17.2).bind fun p21 => some (.inl (p21.1, p21.2))) else ((rc 9 8 x1 p17.1 p17.2).bind fun p23 => some (.inl (p23.1, p23.2))))
theorem s_X3_chain_39 {g : State} {d : Nat} {rc : Nat → Int32 → Int32 → Int32 → ch_S → Option (Int32 × ch_S)} {m : Nat} {w : ch_W} (hr0 : ∀ {σ : ch_S} {p : Int32 × ch_S} {Q : Outcome → ch_W → Prop}, rc 0 0 0 0 σ = some p → ch_eI Q (p.1, ch_put m w p.2) → ch_CT g false yX3_expression (d + 7) [.ref m] (ch_put m w σ) Q) (hr9 : ∀ {z0 : Int32} {z1 : Int32} {z2 : Int32} {σ : ch_S} {p : Int32 × ch_S} {Q : Outcome → ch_W → Prop}, rc 9 z0 z1 z2 σ = some p → ch_eI Q (p.1, ch_put m w p.2) → ch_CT g false yX3_called (d + 7) [.ref m, .int z0, .int z1, .int z2] (ch_put m w σ) Q) (hr10 : ∀ {σ : ch_S} {p : Int32 × ch_S} {Q : Outcome → ch_W → Prop}, rc 10 0 0 0 σ = some p → ch_eI Q (p.1, ch_put m w p.2) → ch_CT g false yX3_first (d + 7) [.ref m] (ch_put m w σ) Q)  {x1 : Int32} {σ : ch_S} {res : (Int32 × ch_S) ⊕ (Int32 × ch_S)} {Q : Outcome → ch_W → Prop} (h : m_X3_chain_39 rc x1 σ = some res) (hk : (ch_sm (fun s => ch_FT g false mX3_chain (d + 8) 5 [some (va_rf (some m)), some (.int s.1), none, none] [] (ch_put m w s.2) Q) (fun r => ch_eI Q (r.1, ch_put m w r.2))) res) : ch_FT g false mX3_chain (d + 8) 39 [some (va_rf (some m)), some (.int x1), none, none] [] (ch_put m w σ) Q := by
  unfold m_X3_chain_39 at h
  obtain ⟨v1, hp2, h⟩ := ch_bd h
  refine ch_aload_n 0 (some m) dX3_chain_39 rfl (ch_bipush _ 46 dX3_chain_40 rfl (ch_iv yX3_isSign prog_14_method_14_code 2 (some .boolean) (ci := 3) (q := (RX3, TX3, 109)) (b := m) (d' := 2) (av := [.int 46]) (rest := []) rfl dX3_chain_42 q1942 q1944 rfl qs115 q1945 can_X3_isSign (Nat.le_trans (Nat.le_of_ble_eq_true rfl) (Nat.le_add_left 8 d)) (Nat.le_of_ble_eq_true rfl) ch_put_tag (cp_kI (v := v1) (w1 := ch_put m w σ) (fun Q' hq => s_X3_isSign hp2 hq) ?_)))
  refine cp_if_eq _ (tgt := 90) dX3_chain_45 rfl h (fun h => ?_) (fun h => ?_)
  · obtain ⟨v3, hp4, h⟩ := ch_bd h
    refine ch_aload_n 0 (some m) dX3_chain_90 rfl (ch_bipush _ 91 dX3_chain_91 rfl (ch_iv yX3_isSign prog_14_method_14_code 2 (some .boolean) (ci := 3) (q := (RX3, TX3, 109)) (b := m) (d' := 2) (av := [.int 91]) (rest := []) rfl dX3_chain_93 q1942 q1944 rfl qs115 q1945 can_X3_isSign (Nat.le_trans (Nat.le_of_ble_eq_true rfl) (Nat.le_add_left 8 d)) (Nat.le_of_ble_eq_true rfl) ch_put_tag (cp_kI (v := v3) (w1 := ch_put m w σ) (fun Q' hq => s_X3_isSign hp4 hq) ?_)))
    refine cp_if_eq _ (tgt := 137) dX3_chain_96 rfl h (fun h => ?_) (fun h => ?_)
    · obtain ⟨p5, hp6, h⟩ := ch_bd h
      refine ch_aload_n 0 (some m) dX3_chain_137 rfl (ch_iv yX3_next prog_14_method_12_code 4 none (ci := 3) (q := (RX3, TX3, 109)) (b := m) (d' := 4) (av := []) (rest := []) rfl dX3_chain_138 q1884 q1886 rfl qs105 q1887 can_X3_next (Nat.le_trans (Nat.le_of_ble_eq_true rfl) (Nat.le_add_left 8 d)) (Nat.le_of_ble_eq_true rfl) ch_put_tag (cp_kV (w1 := ch_put m w p5) (fun Q' hq => s_X3_next hp6 hq) ?_))
      obtain ⟨p7, hp8, h⟩ := ch_bd h
      refine ch_aload_n 0 (some m) dX3_chain_141 rfl (ch_iv yX3_name prog_14_method_19_code 2 (some .int) (ci := 3) (q := (RX3, TX3, 109)) (b := m) (d' := 6) (av := []) (rest := []) rfl dX3_chain_142 q1938 q1940 rfl qs114 q1941 can_X3_name (Nat.le_trans (Nat.le_of_ble_eq_true rfl) (Nat.le_add_left 8 d)) (Nat.le_of_ble_eq_true rfl) ch_put_tag (cp_kI (v := p7.1) (w1 := ch_put m w p7.2) (fun Q' hq => s_X3_name hp8 hq) ?_))
      obtain ⟨p9, hp10, h⟩ := ch_bd h
      refine ch_istore_n 2 _ (ls1 := [some (va_rf (some m)), some (.int x1), some (.int p7.1), none]) dX3_chain_145 (Nat.le_of_ble_eq_true rfl) rfl (ch_aload_n 0 (some m) dX3_chain_146 rfl (ch_bipush _ 10 dX3_chain_147 rfl (ch_iload_n 1 _ dX3_chain_149 rfl (ch_iconst _ 0 dX3_chain_150 rfl (ch_iload_n 2 _ dX3_chain_151 rfl (ch_iv yX3_node prog_14_method_20_code 5 (some .int) (ci := 3) (q := (RX3, TX3, 109)) (b := m) (d' := 2) (av := [.int 10, .int x1, .int 0, .int p7.1]) (rest := []) rfl dX3_chain_152 q2018 q2020 rfl qs134 q2021 can_X3_node (Nat.le_trans (Nat.le_of_ble_eq_true rfl) (Nat.le_add_left 8 d)) (Nat.le_of_ble_eq_true rfl) ch_put_tag (cp_kI (v := p9.1) (w1 := ch_put m w p9.2) (fun Q' hq => s_X3_node hp10 hq) ?_)))))))
      refine ch_istore_n 1 _ (ls1 := [some (va_rf (some m)), some (.int p9.1), some (.int p7.1), none]) dX3_chain_155 (Nat.le_of_ble_eq_true rfl) rfl (ch_goto 5 dX3_chain_156 rfl (ch_FT.wk (ch_wS (ch_wS (ch_wN (ch_wN ch_w0)))) ?_))
      obtain rfl := Option.some.inj h
      exact hk
    · obtain ⟨p11, hp12, h⟩ := ch_bd h
      refine ch_aload_n 0 (some m) dX3_chain_99 rfl (ch_iconst _ 1 dX3_chain_100 rfl (ch_iv yX3_opens prog_14_method_17_code 3 (some .boolean) (ci := 3) (q := (RX3, TX3, 109)) (b := m) (d' := 5) (av := [.int 1]) (rest := []) rfl dX3_chain_101 q1946 q1948 rfl qs116 q1949 can_X3_opens (Nat.le_trans (Nat.le_of_ble_eq_true rfl) (Nat.le_add_left 8 d)) (Nat.le_of_ble_eq_true rfl) ch_put_tag (cp_kI (v := p11.1) (w1 := ch_put m w p11.2) (fun Q' hq => s_X3_opens hp12 hq) ?_)))
      refine ch_istore_n 2 _ (ls1 := [some (va_rf (some m)), some (.int x1), some (.int p11.1), none]) dX3_chain_104 (Nat.le_of_ble_eq_true rfl) rfl (ch_iload_n 2 _ dX3_chain_105 rfl (cp_if_eq _ (tgt := 116) dX3_chain_106 rfl h (fun h => ?_) (fun h => ?_)))
      · exact ch_iconst _ (-1) dX3_chain_116 rfl (ch_FT.wk (ch_wS (ch_wS (ch_wN (ch_wN ch_w0)))) (s_X3_chain_117 hr0 hr9 hr10 h hk))
      · obtain ⟨p13, hp14, h⟩ := ch_bd h
        refine ch_aload_n 0 (some m) dX3_chain_109 rfl (ch_iv yX3_expression prog_14_method_21_code 3 (some .int) (ci := 3) (q := (RX3, TX3, 109)) (b := m) (d' := (d + 7)) (av := []) (rest := []) rfl dX3_chain_110 q1982 q1984 rfl qs125 q1985 can_X3_expression (Nat.le_refl _) (Nat.le_of_ble_eq_true rfl) ch_put_tag (cp_kI (v := p13.1) (w1 := ch_put m w p13.2) (fun Q' hq => hr0 hp14 hq) ?_))
        exact ch_goto 117 dX3_chain_113 rfl (ch_FT.wk (ch_wS (ch_wS (ch_wN (ch_wN ch_w0)))) (s_X3_chain_117 hr0 hr9 hr10 h hk))
  · obtain ⟨p15, hp16, h⟩ := ch_bd h
    refine ch_aload_n 0 (some m) dX3_chain_48 rfl (ch_iv yX3_next prog_14_method_12_code 4 none (ci := 3) (q := (RX3, TX3, 109)) (b := m) (d' := 4) (av := []) (rest := []) rfl dX3_chain_49 q1884 q1886 rfl qs105 q1887 can_X3_next (Nat.le_trans (Nat.le_of_ble_eq_true rfl) (Nat.le_add_left 8 d)) (Nat.le_of_ble_eq_true rfl) ch_put_tag (cp_kV (w1 := ch_put m w p15) (fun Q' hq => s_X3_next hp16 hq) ?_))
    obtain ⟨p17, hp18, h⟩ := ch_bd h
    refine ch_aload_n 0 (some m) dX3_chain_52 rfl (ch_iv yX3_name prog_14_method_19_code 2 (some .int) (ci := 3) (q := (RX3, TX3, 109)) (b := m) (d' := 6) (av := []) (rest := []) rfl dX3_chain_53 q1938 q1940 rfl qs114 q1941 can_X3_name (Nat.le_trans (Nat.le_of_ble_eq_true rfl) (Nat.le_add_left 8 d)) (Nat.le_of_ble_eq_true rfl) ch_put_tag (cp_kI (v := p17.1) (w1 := ch_put m w p17.2) (fun Q' hq => s_X3_name hp18 hq) ?_))
    obtain ⟨v19, hp20, h⟩ := ch_bd h
    refine ch_istore_n 2 _ (ls1 := [some (va_rf (some m)), some (.int x1), some (.int p17.1), none]) dX3_chain_56 (Nat.le_of_ble_eq_true rfl) rfl (ch_aload_n 0 (some m) dX3_chain_57 rfl (ch_bipush _ 40 dX3_chain_58 rfl (ch_iv yX3_isSign prog_14_method_14_code 2 (some .boolean) (ci := 3) (q := (RX3, TX3, 109)) (b := m) (d' := 2) (av := [.int 40]) (rest := []) rfl dX3_chain_60 q1942 q1944 rfl qs115 q1945 can_X3_isSign (Nat.le_trans (Nat.le_of_ble_eq_true rfl) (Nat.le_add_left 8 d)) (Nat.le_of_ble_eq_true rfl) ch_put_tag (cp_kI (v := v19) (w1 := ch_put m w p17.2) (fun Q' hq => s_X3_isSign hp20 hq) ?_))))
    refine cp_if_eq _ (tgt := 77) dX3_chain_63 rfl h (fun h => ?_) (fun h => ?_)
    · obtain ⟨p21, hp22, h⟩ := ch_bd h
      refine ch_aload_n 0 (some m) dX3_chain_77 rfl (ch_bipush _ 6 dX3_chain_78 rfl (ch_iload_n 1 _ dX3_chain_80 rfl (ch_iconst _ 0 dX3_chain_81 rfl (ch_iload_n 2 _ dX3_chain_82 rfl (ch_iv yX3_node prog_14_method_20_code 5 (some .int) (ci := 3) (q := (RX3, TX3, 109)) (b := m) (d' := 2) (av := [.int 6, .int x1, .int 0, .int p17.1]) (rest := []) rfl dX3_chain_83 q2018 q2020 rfl qs134 q2021 can_X3_node (Nat.le_trans (Nat.le_of_ble_eq_true rfl) (Nat.le_add_left 8 d)) (Nat.le_of_ble_eq_true rfl) ch_put_tag (cp_kI (v := p21.1) (w1 := ch_put m w p21.2) (fun Q' hq => s_X3_node hp22 hq) ?_))))))
      refine ch_istore_n 1 _ (ls1 := [some (va_rf (some m)), some (.int p21.1), some (.int p17.1), none]) dX3_chain_86 (Nat.le_of_ble_eq_true rfl) rfl (ch_goto 5 dX3_chain_87 rfl (ch_FT.wk (ch_wS (ch_wS (ch_wN (ch_wN ch_w0)))) ?_))
      obtain rfl := Option.some.inj h
      exact hk
    · obtain ⟨p23, hp24, h⟩ := ch_bd h
      refine ch_aload_n 0 (some m) dX3_chain_66 rfl (ch_bipush _ 8 dX3_chain_67 rfl (ch_iload_n 1 _ dX3_chain_69 rfl (ch_iload_n 2 _ dX3_chain_70 rfl (ch_iv yX3_called prog_14_method_30_code 9 (some .int) (ci := 3) (q := (RX3, TX3, 109)) (b := m) (d' := (d + 7)) (av := [.int 8, .int x1, .int p17.1]) (rest := []) rfl dX3_chain_71 q2022 q2024 rfl qs135 q2025 can_X3_called (Nat.le_refl _) (Nat.le_of_ble_eq_true rfl) ch_put_tag (cp_kI (v := p23.1) (w1 := ch_put m w p23.2) (fun Q' hq => hr9 hp24 hq) ?_)))))
      refine ch_goto 86 dX3_chain_74 rfl (ch_istore_n 1 _ (ls1 := [some (va_rf (some m)), some (.int p23.1), some (.int p17.1), none]) dX3_chain_86 (Nat.le_of_ble_eq_true rfl) rfl (ch_goto 5 dX3_chain_87 rfl (ch_FT.wk (ch_wS (ch_wS (ch_wN (ch_wN ch_w0)))) ?_)))
      obtain rfl := Option.some.inj h
      exact hk

def m_X3_chain_5 (rc : Nat → Int32 → Int32 → Int32 → ch_S → Option (Int32 × ch_S)) (x1 : Int32)  (σ : ch_S) : Option ((Int32 × ch_S) ⊕ (Int32 × ch_S)) := if (σ.1 fX3_wrong) < 0 then ((m_X3_isSign 46 σ).bind fun v1 => if v1 = 0 then ((m_X3_isSign 91 σ).bind fun v3 => if v3 = 0 then ((m_X3_isKey 20 σ).bind fun v5 => if v5 = 0 then (some (.inr ((x1, σ)))) else (m_X3_chain_39 rc x1 σ)) else (m_X3_chain_39 rc x1 σ)) else (m_X3_chain_39 rc x1 σ)) else (some (.inr ((x1, σ))))
theorem s_X3_chain_5 {g : State} {d : Nat} {rc : Nat → Int32 → Int32 → Int32 → ch_S → Option (Int32 × ch_S)} {m : Nat} {w : ch_W} (hr0 : ∀ {σ : ch_S} {p : Int32 × ch_S} {Q : Outcome → ch_W → Prop}, rc 0 0 0 0 σ = some p → ch_eI Q (p.1, ch_put m w p.2) → ch_CT g false yX3_expression (d + 7) [.ref m] (ch_put m w σ) Q) (hr9 : ∀ {z0 : Int32} {z1 : Int32} {z2 : Int32} {σ : ch_S} {p : Int32 × ch_S} {Q : Outcome → ch_W → Prop}, rc 9 z0 z1 z2 σ = some p → ch_eI Q (p.1, ch_put m w p.2) → ch_CT g false yX3_called (d + 7) [.ref m, .int z0, .int z1, .int z2] (ch_put m w σ) Q) (hr10 : ∀ {σ : ch_S} {p : Int32 × ch_S} {Q : Outcome → ch_W → Prop}, rc 10 0 0 0 σ = some p → ch_eI Q (p.1, ch_put m w p.2) → ch_CT g false yX3_first (d + 7) [.ref m] (ch_put m w σ) Q)  {x1 : Int32} {σ : ch_S} {res : (Int32 × ch_S) ⊕ (Int32 × ch_S)} {Q : Outcome → ch_W → Prop} (h : m_X3_chain_5 rc x1 σ = some res) (hk : (ch_sm (fun s => ch_FT g false mX3_chain (d + 8) 5 [some (va_rf (some m)), some (.int s.1), none, none] [] (ch_put m w s.2) Q) (fun r => ch_eI Q (r.1, ch_put m w r.2))) res) : ch_FT g false mX3_chain (d + 8) 5 [some (va_rf (some m)), some (.int x1), none, none] [] (ch_put m w σ) Q := by
  unfold m_X3_chain_5 at h
  refine ch_aload_n 0 (some m) dX3_chain_5 rfl (mp_gI 9 dX3_chain_6 fl_X3_283 rfl (cp_if_ge _ (tgt := 159) dX3_chain_9 rfl h (fun h => ?_) (fun h => ?_)))
  · obtain rfl := Option.some.inj h
    exact ch_iload_n 1 _ dX3_chain_159 rfl (ch_ireturn _ dX3_chain_160 rfl rfl hk)
  · obtain ⟨v1, hp2, h⟩ := ch_bd h
    refine ch_aload_n 0 (some m) dX3_chain_12 rfl (ch_bipush _ 46 dX3_chain_13 rfl (ch_iv yX3_isSign prog_14_method_14_code 2 (some .boolean) (ci := 3) (q := (RX3, TX3, 109)) (b := m) (d' := 2) (av := [.int 46]) (rest := []) rfl dX3_chain_15 q1942 q1944 rfl qs115 q1945 can_X3_isSign (Nat.le_trans (Nat.le_of_ble_eq_true rfl) (Nat.le_add_left 8 d)) (Nat.le_of_ble_eq_true rfl) ch_put_tag (cp_kI (v := v1) (w1 := ch_put m w σ) (fun Q' hq => s_X3_isSign hp2 hq) ?_)))
    refine cp_if_ne _ (tgt := 39) dX3_chain_18 rfl h (fun h => ?_) (fun h => ?_)
    · exact ch_FT.wk (ch_wS (ch_wS (ch_wN (ch_wN ch_w0)))) (s_X3_chain_39 hr0 hr9 hr10 h hk)
    · obtain ⟨v3, hp4, h⟩ := ch_bd h
      refine ch_aload_n 0 (some m) dX3_chain_21 rfl (ch_bipush _ 91 dX3_chain_22 rfl (ch_iv yX3_isSign prog_14_method_14_code 2 (some .boolean) (ci := 3) (q := (RX3, TX3, 109)) (b := m) (d' := 2) (av := [.int 91]) (rest := []) rfl dX3_chain_24 q1942 q1944 rfl qs115 q1945 can_X3_isSign (Nat.le_trans (Nat.le_of_ble_eq_true rfl) (Nat.le_add_left 8 d)) (Nat.le_of_ble_eq_true rfl) ch_put_tag (cp_kI (v := v3) (w1 := ch_put m w σ) (fun Q' hq => s_X3_isSign hp4 hq) ?_)))
      refine cp_if_ne _ (tgt := 39) dX3_chain_27 rfl h (fun h => ?_) (fun h => ?_)
      · exact ch_FT.wk (ch_wS (ch_wS (ch_wN (ch_wN ch_w0)))) (s_X3_chain_39 hr0 hr9 hr10 h hk)
      · obtain ⟨v5, hp6, h⟩ := ch_bd h
        refine ch_aload_n 0 (some m) dX3_chain_30 rfl (ch_bipush _ 20 dX3_chain_31 rfl (ch_iv yX3_isKey prog_14_method_15_code 2 (some .boolean) (ci := 3) (q := (RX3, TX3, 109)) (b := m) (d' := 2) (av := [.int 20]) (rest := []) rfl dX3_chain_33 q1922 q1924 rfl qs110 q1925 can_X3_isKey (Nat.le_trans (Nat.le_of_ble_eq_true rfl) (Nat.le_add_left 8 d)) (Nat.le_of_ble_eq_true rfl) ch_put_tag (cp_kI (v := v5) (w1 := ch_put m w σ) (fun Q' hq => s_X3_isKey hp6 hq) ?_)))
        refine cp_if_eq _ (tgt := 159) dX3_chain_36 rfl h (fun h => ?_) (fun h => ?_)
        · obtain rfl := Option.some.inj h
          exact ch_iload_n 1 _ dX3_chain_159 rfl (ch_ireturn _ dX3_chain_160 rfl rfl hk)
        · exact ch_FT.wk (ch_wS (ch_wS (ch_wN (ch_wN ch_w0)))) (s_X3_chain_39 hr0 hr9 hr10 h hk)
theorem sl_X3_chain_5 {g : State} {d : Nat} {rc : Nat → Int32 → Int32 → Int32 → ch_S → Option (Int32 × ch_S)} {m : Nat} {w : ch_W} (hr0 : ∀ {σ : ch_S} {p : Int32 × ch_S} {Q : Outcome → ch_W → Prop}, rc 0 0 0 0 σ = some p → ch_eI Q (p.1, ch_put m w p.2) → ch_CT g false yX3_expression (d + 7) [.ref m] (ch_put m w σ) Q) (hr9 : ∀ {z0 : Int32} {z1 : Int32} {z2 : Int32} {σ : ch_S} {p : Int32 × ch_S} {Q : Outcome → ch_W → Prop}, rc 9 z0 z1 z2 σ = some p → ch_eI Q (p.1, ch_put m w p.2) → ch_CT g false yX3_called (d + 7) [.ref m, .int z0, .int z1, .int z2] (ch_put m w σ) Q) (hr10 : ∀ {σ : ch_S} {p : Int32 × ch_S} {Q : Outcome → ch_W → Prop}, rc 10 0 0 0 σ = some p → ch_eI Q (p.1, ch_put m w p.2) → ch_CT g false yX3_first (d + 7) [.ref m] (ch_put m w σ) Q)  {a : Int32 × ch_S} {res : Int32 × ch_S} {Q : Outcome → ch_W → Prop} (h : ch_loop (fun (s : Int32 × ch_S) => m_X3_chain_5 rc s.1 s.2) a = some res) (hk : (fun r => ch_eI Q (r.1, ch_put m w r.2)) res) : ch_FT g false mX3_chain (d + 8) 5 [some (va_rf (some m)), some (.int a.1), none, none] [] (ch_put m w a.2) Q := by
  refine ch_loop_ind (fun (a : Int32 × ch_S) (r : Int32 × ch_S) => (fun r => ch_eI Q (r.1, ch_put m w r.2)) r → ch_FT g false mX3_chain (d + 8) 5 [some (va_rf (some m)), some (.int a.1), none, none] [] (ch_put m w a.2) Q) ?_ ?_ a res h hk
  · intro a a2 b h1 ih hk
    exact s_X3_chain_5 hr0 hr9 hr10 h1 (ih hk)
  · intro a b h1 hk
    exact s_X3_chain_5 hr0 hr9 hr10 h1 hk

def m_X3_chain (rc : Nat → Int32 → Int32 → Int32 → ch_S → Option (Int32 × ch_S))  (σ : ch_S) : Option (Int32 × ch_S) := (rc 10 0 0 0 σ).bind fun p1 => ch_loop (fun (s : Int32 × ch_S) => m_X3_chain_5 rc s.1 s.2) (p1.1, p1.2)
theorem s_X3_chain {g : State} {d : Nat} {rc : Nat → Int32 → Int32 → Int32 → ch_S → Option (Int32 × ch_S)} {m : Nat} {w : ch_W} (hr0 : ∀ {σ : ch_S} {p : Int32 × ch_S} {Q : Outcome → ch_W → Prop}, rc 0 0 0 0 σ = some p → ch_eI Q (p.1, ch_put m w p.2) → ch_CT g false yX3_expression (d + 7) [.ref m] (ch_put m w σ) Q) (hr9 : ∀ {z0 : Int32} {z1 : Int32} {z2 : Int32} {σ : ch_S} {p : Int32 × ch_S} {Q : Outcome → ch_W → Prop}, rc 9 z0 z1 z2 σ = some p → ch_eI Q (p.1, ch_put m w p.2) → ch_CT g false yX3_called (d + 7) [.ref m, .int z0, .int z1, .int z2] (ch_put m w σ) Q) (hr10 : ∀ {σ : ch_S} {p : Int32 × ch_S} {Q : Outcome → ch_W → Prop}, rc 10 0 0 0 σ = some p → ch_eI Q (p.1, ch_put m w p.2) → ch_CT g false yX3_first (d + 7) [.ref m] (ch_put m w σ) Q)  {σ : ch_S} {res : Int32 × ch_S} {Q : Outcome → ch_W → Prop} (h : m_X3_chain rc σ = some res) (hk : (fun r => ch_eI Q (r.1, ch_put m w r.2)) res) : ch_CT g false yX3_chain (d + 8) [.ref m] (ch_put m w σ) Q := by
  unfold m_X3_chain at h
  refine ch_ctL mX3_chain (ls := [some (va_rf (some m)), none, none, none]) q2013 rfl (ch_lyr (r := some m) ch_ly0) (Nat.le_of_ble_eq_true rfl) rfl ?_
  obtain ⟨p1, hp2, h⟩ := ch_bd h
  refine ch_aload_n 0 (some m) dX3_chain_0 rfl (ch_iv yX3_first prog_14_method_31_code 3 (some .int) (ci := 3) (q := (RX3, TX3, 109)) (b := m) (d' := (d + 7)) (av := []) (rest := []) rfl dX3_chain_1 q2014 q2016 rfl qs133 q2017 can_X3_first (Nat.le_refl _) (Nat.le_of_ble_eq_true rfl) ch_put_tag (cp_kI (v := p1.1) (w1 := ch_put m w p1.2) (fun Q' hq => hr10 hp2 hq) ?_))
  exact ch_istore_n 1 _ (ls1 := [some (va_rf (some m)), some (.int p1.1), none, none]) dX3_chain_4 (Nat.le_of_ble_eq_true rfl) rfl (ch_FT.wk (ch_wS (ch_wS (ch_wN (ch_wN ch_w0)))) (sl_X3_chain_5 hr0 hr9 hr10 h hk))

theorem bX3_called_0 : ch_ck cX3_called 0 [42, 4, 182, 1, 83, 154, 0, 5, 2, 172, 42, 180, 1, 100, 54, 4] := ch_ckof (by decide +kernel)
theorem bX3_called_1 : ch_ck cX3_called 16 [42, 16, 41, 182, 1, 39, 154, 0, 7, 4, 167, 0, 4, 3, 54, 5] := ch_ckof (by decide +kernel)
theorem bX3_called_2 : ch_ck cX3_called 32 [21, 5, 153, 0, 57, 42, 180, 1, 27, 156, 0, 50, 42, 182, 1, 93] := ch_ckof (by decide +kernel)
theorem bX3_called_3 : ch_ck cX3_called 48 [54, 6, 42, 180, 0, 43, 42, 180, 1, 100, 21, 6, 79, 42, 89, 180] := ch_ckof (by decide +kernel)
theorem bX3_called_4 : ch_ck cX3_called 64 [1, 100, 4, 96, 181, 1, 100, 42, 16, 44, 182, 1, 39, 54, 5, 21] := ch_ckof (by decide +kernel)
theorem bX3_called_5 : ch_ck cX3_called 80 [5, 153, 0, 7, 42, 182, 1, 33, 167, 255, 200, 42, 16, 41, 182, 1] := ch_ckof (by decide +kernel)
theorem bX3_called_6 : ch_ck cX3_called 96 [96, 42, 180, 1, 103, 54, 6, 21, 4, 54, 7, 21, 7, 42, 180, 1] := ch_ckof (by decide +kernel)
theorem bX3_called_7 : ch_ck cX3_called 112 [100, 162, 0, 35, 42, 180, 0, 40, 42, 180, 1, 103, 42, 180, 0, 43] := ch_ckof (by decide +kernel)
theorem bX3_called_8 : ch_ck cX3_called 128 [21, 7, 46, 79, 42, 89, 180, 1, 103, 4, 96, 181, 1, 103, 132, 7] := ch_ckof (by decide +kernel)
theorem bX3_called_9 : ch_ck cX3_called 144 [1, 167, 255, 218, 42, 180, 1, 100, 21, 4, 100, 54, 7, 42, 21, 4] := ch_ckof (by decide +kernel)
theorem bX3_called_10 : ch_ck cX3_called 160 [181, 1, 100, 42, 27, 28, 21, 6, 29, 182, 1, 52, 54, 8, 42, 180] := ch_ckof (by decide +kernel)
theorem bX3_called_11 : ch_ck cX3_called 176 [0, 37, 21, 8, 21, 7, 79, 21, 8, 172] := ch_ckof (by decide +kernel)
theorem dX3_called_0 : decode cX3_called 0 = .ok (.aload_n 0, 1) := dz_42 (bX3_called_0 0 _ rfl)
theorem dX3_called_1 : decode cX3_called 1 = .ok (.iconst 1, 1) := dz_4 (bX3_called_0 1 _ rfl)
theorem dX3_called_2 : decode cX3_called 2 = .ok (.invokevirtual 339, 3) := dz_182 (bX3_called_0 2 _ rfl) (bX3_called_0 3 _ rfl) (bX3_called_0 4 _ rfl)
theorem dX3_called_5 : decode cX3_called 5 = .ok (.ifCond .ne 5, 3) := dz_154 (bX3_called_0 5 _ rfl) (bX3_called_0 6 _ rfl) (bX3_called_0 7 _ rfl)
theorem dX3_called_8 : decode cX3_called 8 = .ok (.iconst (-1), 1) := dz_2 (bX3_called_0 8 _ rfl)
theorem dX3_called_9 : decode cX3_called 9 = .ok (.ireturn, 1) := dz_172 (bX3_called_0 9 _ rfl)
theorem dX3_called_10 : decode cX3_called 10 = .ok (.aload_n 0, 1) := dz_42 (bX3_called_0 10 _ rfl)
theorem dX3_called_11 : decode cX3_called 11 = .ok (.getfield 356, 3) := dz_180 (bX3_called_0 11 _ rfl) (bX3_called_0 12 _ rfl) (bX3_called_0 13 _ rfl)
theorem dX3_called_14 : decode cX3_called 14 = .ok (.istore 4, 2) := dz_54 (bX3_called_0 14 _ rfl) (bX3_called_0 15 _ rfl)
theorem dX3_called_16 : decode cX3_called 16 = .ok (.aload_n 0, 1) := dz_42 (bX3_called_1 0 _ rfl)
theorem dX3_called_17 : decode cX3_called 17 = .ok (.bipush 41, 2) := dz_16 (bX3_called_1 1 _ rfl) (bX3_called_1 2 _ rfl)
theorem dX3_called_19 : decode cX3_called 19 = .ok (.invokevirtual 295, 3) := dz_182 (bX3_called_1 3 _ rfl) (bX3_called_1 4 _ rfl) (bX3_called_1 5 _ rfl)
theorem dX3_called_22 : decode cX3_called 22 = .ok (.ifCond .ne 7, 3) := dz_154 (bX3_called_1 6 _ rfl) (bX3_called_1 7 _ rfl) (bX3_called_1 8 _ rfl)
theorem dX3_called_25 : decode cX3_called 25 = .ok (.iconst 1, 1) := dz_4 (bX3_called_1 9 _ rfl)
theorem dX3_called_26 : decode cX3_called 26 = .ok (.goto 4, 3) := dz_167 (bX3_called_1 10 _ rfl) (bX3_called_1 11 _ rfl) (bX3_called_1 12 _ rfl)
theorem dX3_called_29 : decode cX3_called 29 = .ok (.iconst 0, 1) := dz_3 (bX3_called_1 13 _ rfl)
theorem dX3_called_30 : decode cX3_called 30 = .ok (.istore 5, 2) := dz_54 (bX3_called_1 14 _ rfl) (bX3_called_1 15 _ rfl)
theorem dX3_called_32 : decode cX3_called 32 = .ok (.iload 5, 2) := dz_21 (bX3_called_2 0 _ rfl) (bX3_called_2 1 _ rfl)
theorem dX3_called_34 : decode cX3_called 34 = .ok (.ifCond .eq 57, 3) := dz_153 (bX3_called_2 2 _ rfl) (bX3_called_2 3 _ rfl) (bX3_called_2 4 _ rfl)
theorem dX3_called_37 : decode cX3_called 37 = .ok (.aload_n 0, 1) := dz_42 (bX3_called_2 5 _ rfl)
theorem dX3_called_38 : decode cX3_called 38 = .ok (.getfield 283, 3) := dz_180 (bX3_called_2 6 _ rfl) (bX3_called_2 7 _ rfl) (bX3_called_2 8 _ rfl)
theorem dX3_called_41 : decode cX3_called 41 = .ok (.ifCond .ge 50, 3) := dz_156 (bX3_called_2 9 _ rfl) (bX3_called_2 10 _ rfl) (bX3_called_2 11 _ rfl)
theorem dX3_called_44 : decode cX3_called 44 = .ok (.aload_n 0, 1) := dz_42 (bX3_called_2 12 _ rfl)
theorem dX3_called_45 : decode cX3_called 45 = .ok (.invokevirtual 349, 3) := dz_182 (bX3_called_2 13 _ rfl) (bX3_called_2 14 _ rfl) (bX3_called_2 15 _ rfl)
theorem dX3_called_48 : decode cX3_called 48 = .ok (.istore 6, 2) := dz_54 (bX3_called_3 0 _ rfl) (bX3_called_3 1 _ rfl)
theorem dX3_called_50 : decode cX3_called 50 = .ok (.aload_n 0, 1) := dz_42 (bX3_called_3 2 _ rfl)
theorem dX3_called_51 : decode cX3_called 51 = .ok (.getfield 43, 3) := dz_180 (bX3_called_3 3 _ rfl) (bX3_called_3 4 _ rfl) (bX3_called_3 5 _ rfl)
theorem dX3_called_54 : decode cX3_called 54 = .ok (.aload_n 0, 1) := dz_42 (bX3_called_3 6 _ rfl)
theorem dX3_called_55 : decode cX3_called 55 = .ok (.getfield 356, 3) := dz_180 (bX3_called_3 7 _ rfl) (bX3_called_3 8 _ rfl) (bX3_called_3 9 _ rfl)
theorem dX3_called_58 : decode cX3_called 58 = .ok (.iload 6, 2) := dz_21 (bX3_called_3 10 _ rfl) (bX3_called_3 11 _ rfl)
theorem dX3_called_60 : decode cX3_called 60 = .ok (.iastore, 1) := dz_79 (bX3_called_3 12 _ rfl)
theorem dX3_called_61 : decode cX3_called 61 = .ok (.aload_n 0, 1) := dz_42 (bX3_called_3 13 _ rfl)
theorem dX3_called_62 : decode cX3_called 62 = .ok (.dup, 1) := dz_89 (bX3_called_3 14 _ rfl)
theorem dX3_called_63 : decode cX3_called 63 = .ok (.getfield 356, 3) := dz_180 (bX3_called_3 15 _ rfl) (bX3_called_4 0 _ rfl) (bX3_called_4 1 _ rfl)
theorem dX3_called_66 : decode cX3_called 66 = .ok (.iconst 1, 1) := dz_4 (bX3_called_4 2 _ rfl)
theorem dX3_called_67 : decode cX3_called 67 = .ok (.iadd, 1) := dz_96 (bX3_called_4 3 _ rfl)
theorem dX3_called_68 : decode cX3_called 68 = .ok (.putfield 356, 3) := dz_181 (bX3_called_4 4 _ rfl) (bX3_called_4 5 _ rfl) (bX3_called_4 6 _ rfl)
theorem dX3_called_71 : decode cX3_called 71 = .ok (.aload_n 0, 1) := dz_42 (bX3_called_4 7 _ rfl)
theorem dX3_called_72 : decode cX3_called 72 = .ok (.bipush 44, 2) := dz_16 (bX3_called_4 8 _ rfl) (bX3_called_4 9 _ rfl)
theorem dX3_called_74 : decode cX3_called 74 = .ok (.invokevirtual 295, 3) := dz_182 (bX3_called_4 10 _ rfl) (bX3_called_4 11 _ rfl) (bX3_called_4 12 _ rfl)
theorem dX3_called_77 : decode cX3_called 77 = .ok (.istore 5, 2) := dz_54 (bX3_called_4 13 _ rfl) (bX3_called_4 14 _ rfl)
theorem dX3_called_79 : decode cX3_called 79 = .ok (.iload 5, 2) := dz_21 (bX3_called_4 15 _ rfl) (bX3_called_5 0 _ rfl)
theorem dX3_called_81 : decode cX3_called 81 = .ok (.ifCond .eq 7, 3) := dz_153 (bX3_called_5 1 _ rfl) (bX3_called_5 2 _ rfl) (bX3_called_5 3 _ rfl)
theorem dX3_called_84 : decode cX3_called 84 = .ok (.aload_n 0, 1) := dz_42 (bX3_called_5 4 _ rfl)
theorem dX3_called_85 : decode cX3_called 85 = .ok (.invokevirtual 289, 3) := dz_182 (bX3_called_5 5 _ rfl) (bX3_called_5 6 _ rfl) (bX3_called_5 7 _ rfl)
theorem dX3_called_88 : decode cX3_called 88 = .ok (.goto (-56), 3) := dz_167 (bX3_called_5 8 _ rfl) (bX3_called_5 9 _ rfl) (bX3_called_5 10 _ rfl)
theorem dX3_called_91 : decode cX3_called 91 = .ok (.aload_n 0, 1) := dz_42 (bX3_called_5 11 _ rfl)
theorem dX3_called_92 : decode cX3_called 92 = .ok (.bipush 41, 2) := dz_16 (bX3_called_5 12 _ rfl) (bX3_called_5 13 _ rfl)
theorem dX3_called_94 : decode cX3_called 94 = .ok (.invokevirtual 352, 3) := dz_182 (bX3_called_5 14 _ rfl) (bX3_called_5 15 _ rfl) (bX3_called_6 0 _ rfl)
theorem dX3_called_97 : decode cX3_called 97 = .ok (.aload_n 0, 1) := dz_42 (bX3_called_6 1 _ rfl)
theorem dX3_called_98 : decode cX3_called 98 = .ok (.getfield 359, 3) := dz_180 (bX3_called_6 2 _ rfl) (bX3_called_6 3 _ rfl) (bX3_called_6 4 _ rfl)
theorem dX3_called_101 : decode cX3_called 101 = .ok (.istore 6, 2) := dz_54 (bX3_called_6 5 _ rfl) (bX3_called_6 6 _ rfl)
theorem dX3_called_103 : decode cX3_called 103 = .ok (.iload 4, 2) := dz_21 (bX3_called_6 7 _ rfl) (bX3_called_6 8 _ rfl)
theorem dX3_called_105 : decode cX3_called 105 = .ok (.istore 7, 2) := dz_54 (bX3_called_6 9 _ rfl) (bX3_called_6 10 _ rfl)
theorem dX3_called_107 : decode cX3_called 107 = .ok (.iload 7, 2) := dz_21 (bX3_called_6 11 _ rfl) (bX3_called_6 12 _ rfl)
theorem dX3_called_109 : decode cX3_called 109 = .ok (.aload_n 0, 1) := dz_42 (bX3_called_6 13 _ rfl)
theorem dX3_called_110 : decode cX3_called 110 = .ok (.getfield 356, 3) := dz_180 (bX3_called_6 14 _ rfl) (bX3_called_6 15 _ rfl) (bX3_called_7 0 _ rfl)
theorem dX3_called_113 : decode cX3_called 113 = .ok (.if_icmp .ge 35, 3) := dz_162 (bX3_called_7 1 _ rfl) (bX3_called_7 2 _ rfl) (bX3_called_7 3 _ rfl)
theorem dX3_called_116 : decode cX3_called 116 = .ok (.aload_n 0, 1) := dz_42 (bX3_called_7 4 _ rfl)
theorem dX3_called_117 : decode cX3_called 117 = .ok (.getfield 40, 3) := dz_180 (bX3_called_7 5 _ rfl) (bX3_called_7 6 _ rfl) (bX3_called_7 7 _ rfl)
theorem dX3_called_120 : decode cX3_called 120 = .ok (.aload_n 0, 1) := dz_42 (bX3_called_7 8 _ rfl)
theorem dX3_called_121 : decode cX3_called 121 = .ok (.getfield 359, 3) := dz_180 (bX3_called_7 9 _ rfl) (bX3_called_7 10 _ rfl) (bX3_called_7 11 _ rfl)
theorem dX3_called_124 : decode cX3_called 124 = .ok (.aload_n 0, 1) := dz_42 (bX3_called_7 12 _ rfl)
theorem dX3_called_125 : decode cX3_called 125 = .ok (.getfield 43, 3) := dz_180 (bX3_called_7 13 _ rfl) (bX3_called_7 14 _ rfl) (bX3_called_7 15 _ rfl)
theorem dX3_called_128 : decode cX3_called 128 = .ok (.iload 7, 2) := dz_21 (bX3_called_8 0 _ rfl) (bX3_called_8 1 _ rfl)
theorem dX3_called_130 : decode cX3_called 130 = .ok (.iaload, 1) := dz_46 (bX3_called_8 2 _ rfl)
theorem dX3_called_131 : decode cX3_called 131 = .ok (.iastore, 1) := dz_79 (bX3_called_8 3 _ rfl)
theorem dX3_called_132 : decode cX3_called 132 = .ok (.aload_n 0, 1) := dz_42 (bX3_called_8 4 _ rfl)
theorem dX3_called_133 : decode cX3_called 133 = .ok (.dup, 1) := dz_89 (bX3_called_8 5 _ rfl)
theorem dX3_called_134 : decode cX3_called 134 = .ok (.getfield 359, 3) := dz_180 (bX3_called_8 6 _ rfl) (bX3_called_8 7 _ rfl) (bX3_called_8 8 _ rfl)
theorem dX3_called_137 : decode cX3_called 137 = .ok (.iconst 1, 1) := dz_4 (bX3_called_8 9 _ rfl)
theorem dX3_called_138 : decode cX3_called 138 = .ok (.iadd, 1) := dz_96 (bX3_called_8 10 _ rfl)
theorem dX3_called_139 : decode cX3_called 139 = .ok (.putfield 359, 3) := dz_181 (bX3_called_8 11 _ rfl) (bX3_called_8 12 _ rfl) (bX3_called_8 13 _ rfl)
theorem dX3_called_142 : decode cX3_called 142 = .ok (.iinc 7 1, 3) := dz_132 (bX3_called_8 14 _ rfl) (bX3_called_8 15 _ rfl) (bX3_called_9 0 _ rfl)
theorem dX3_called_145 : decode cX3_called 145 = .ok (.goto (-38), 3) := dz_167 (bX3_called_9 1 _ rfl) (bX3_called_9 2 _ rfl) (bX3_called_9 3 _ rfl)
theorem dX3_called_148 : decode cX3_called 148 = .ok (.aload_n 0, 1) := dz_42 (bX3_called_9 4 _ rfl)
theorem dX3_called_149 : decode cX3_called 149 = .ok (.getfield 356, 3) := dz_180 (bX3_called_9 5 _ rfl) (bX3_called_9 6 _ rfl) (bX3_called_9 7 _ rfl)
theorem dX3_called_152 : decode cX3_called 152 = .ok (.iload 4, 2) := dz_21 (bX3_called_9 8 _ rfl) (bX3_called_9 9 _ rfl)
theorem dX3_called_154 : decode cX3_called 154 = .ok (.isub, 1) := dz_100 (bX3_called_9 10 _ rfl)
theorem dX3_called_155 : decode cX3_called 155 = .ok (.istore 7, 2) := dz_54 (bX3_called_9 11 _ rfl) (bX3_called_9 12 _ rfl)
theorem dX3_called_157 : decode cX3_called 157 = .ok (.aload_n 0, 1) := dz_42 (bX3_called_9 13 _ rfl)
theorem dX3_called_158 : decode cX3_called 158 = .ok (.iload 4, 2) := dz_21 (bX3_called_9 14 _ rfl) (bX3_called_9 15 _ rfl)
theorem dX3_called_160 : decode cX3_called 160 = .ok (.putfield 356, 3) := dz_181 (bX3_called_10 0 _ rfl) (bX3_called_10 1 _ rfl) (bX3_called_10 2 _ rfl)
theorem dX3_called_163 : decode cX3_called 163 = .ok (.aload_n 0, 1) := dz_42 (bX3_called_10 3 _ rfl)
theorem dX3_called_164 : decode cX3_called 164 = .ok (.iload_n 1, 1) := dz_27 (bX3_called_10 4 _ rfl)
theorem dX3_called_165 : decode cX3_called 165 = .ok (.iload_n 2, 1) := dz_28 (bX3_called_10 5 _ rfl)
theorem dX3_called_166 : decode cX3_called 166 = .ok (.iload 6, 2) := dz_21 (bX3_called_10 6 _ rfl) (bX3_called_10 7 _ rfl)
theorem dX3_called_168 : decode cX3_called 168 = .ok (.iload_n 3, 1) := dz_29 (bX3_called_10 8 _ rfl)
theorem dX3_called_169 : decode cX3_called 169 = .ok (.invokevirtual 308, 3) := dz_182 (bX3_called_10 9 _ rfl) (bX3_called_10 10 _ rfl) (bX3_called_10 11 _ rfl)
theorem dX3_called_172 : decode cX3_called 172 = .ok (.istore 8, 2) := dz_54 (bX3_called_10 12 _ rfl) (bX3_called_10 13 _ rfl)
theorem dX3_called_174 : decode cX3_called 174 = .ok (.aload_n 0, 1) := dz_42 (bX3_called_10 14 _ rfl)
theorem dX3_called_175 : decode cX3_called 175 = .ok (.getfield 37, 3) := dz_180 (bX3_called_10 15 _ rfl) (bX3_called_11 0 _ rfl) (bX3_called_11 1 _ rfl)
theorem dX3_called_178 : decode cX3_called 178 = .ok (.iload 8, 2) := dz_21 (bX3_called_11 2 _ rfl) (bX3_called_11 3 _ rfl)
theorem dX3_called_180 : decode cX3_called 180 = .ok (.iload 7, 2) := dz_21 (bX3_called_11 4 _ rfl) (bX3_called_11 5 _ rfl)
theorem dX3_called_182 : decode cX3_called 182 = .ok (.iastore, 1) := dz_79 (bX3_called_11 6 _ rfl)
theorem dX3_called_183 : decode cX3_called 183 = .ok (.iload 8, 2) := dz_21 (bX3_called_11 7 _ rfl) (bX3_called_11 8 _ rfl)
theorem dX3_called_185 : decode cX3_called 185 = .ok (.ireturn, 1) := dz_172 (bX3_called_11 9 _ rfl)
def m_X3_called_107 (rc : Nat → Int32 → Int32 → Int32 → ch_S → Option (Int32 × ch_S)) (x1 : Int32) (x2 : Int32) (x3 : Int32) (x4 : Int32) (x6 : Int32) (x7 : Int32)  (σ : ch_S) : Option ((Int32 × ch_S) ⊕ (Int32 × ch_S)) := if x7 < (σ.1 fX3_held) then ((ch_ma σ fX3_hold x7).bind fun v5 => (ch_mw σ fX3_list (σ.1 fX3_listed) v5).bind fun σ6 => (ch_mI σ6 fX3_listed ((σ6.1 fX3_listed) + 1)).bind fun σ7 => some (.inl (x7 + 1, σ7))) else ((ch_mI σ fX3_held x4).bind fun σ1 => (m_X3_node x1 x2 x6 x3 σ1).bind fun p2 => (ch_mw p2.2 fX3_typeOf p2.1 ((σ.1 fX3_held) - x4)).bind fun σ4 => some (.inr ((p2.1, σ4))))
theorem s_X3_called_107 {g : State} {d : Nat} {rc : Nat → Int32 → Int32 → Int32 → ch_S → Option (Int32 × ch_S)} {m : Nat} {w : ch_W} (hr0 : ∀ {σ : ch_S} {p : Int32 × ch_S} {Q : Outcome → ch_W → Prop}, rc 0 0 0 0 σ = some p → ch_eI Q (p.1, ch_put m w p.2) → ch_CT g false yX3_expression (d + 7) [.ref m] (ch_put m w σ) Q)  {x1 : Int32} {x2 : Int32} {x3 : Int32} {x4 : Int32} {x6 : Int32} {x7 : Int32} {σ : ch_S} {res : (Int32 × ch_S) ⊕ (Int32 × ch_S)} {Q : Outcome → ch_W → Prop} (h : m_X3_called_107 rc x1 x2 x3 x4 x6 x7 σ = some res) (hk : (ch_sm (fun s => ch_FT g false mX3_called (d + 8) 107 [some (va_rf (some m)), some (.int x1), some (.int x2), some (.int x3), some (.int x4), none, some (.int x6), some (.int s.1), none] [] (ch_put m w s.2) Q) (fun r => ch_eI Q (r.1, ch_put m w r.2))) res) : ch_FT g false mX3_called (d + 8) 107 [some (va_rf (some m)), some (.int x1), some (.int x2), some (.int x3), some (.int x4), none, some (.int x6), some (.int x7), none] [] (ch_put m w σ) Q := by
  unfold m_X3_called_107 at h
  refine ch_iload 7 _ dX3_called_107 rfl (ch_aload_n 0 (some m) dX3_called_109 rfl (mp_gI 23 dX3_called_110 fl_X3_356 rfl (cp_icmp_ge _ _ (tgt := 148) dX3_called_113 rfl h (fun h => ?_) (fun h => ?_))))
  · refine ch_aload_n 0 (some m) dX3_called_148 rfl (mp_gI 23 dX3_called_149 fl_X3_356 rfl (ch_iload 4 _ dX3_called_152 rfl (ch_isub _ _ dX3_called_154 (ch_istore 7 _ (ls1 := [some (va_rf (some m)), some (.int x1), some (.int x2), some (.int x3), some (.int x4), none, some (.int x6), some (.int ((σ.1 fX3_held) - x4)), none]) dX3_called_155 (Nat.le_of_ble_eq_true rfl) rfl (ch_aload_n 0 (some m) dX3_called_157 rfl (ch_iload 4 _ dX3_called_158 rfl (mp_pI (k := 23) dX3_called_160 fl_X3_356 rfl rfl rfl h (fun σ1 h => ?_))))))))
    obtain ⟨p2, hp3, h⟩ := ch_bd h
    refine ch_aload_n 0 (some m) dX3_called_163 rfl (ch_iload_n 1 _ dX3_called_164 rfl (ch_iload_n 2 _ dX3_called_165 rfl (ch_iload 6 _ dX3_called_166 rfl (ch_iload_n 3 _ dX3_called_168 rfl (ch_iv yX3_node prog_14_method_20_code 5 (some .int) (ci := 3) (q := (RX3, TX3, 109)) (b := m) (d' := 2) (av := [.int x1, .int x2, .int x6, .int x3]) (rest := []) rfl dX3_called_169 q2018 q2020 rfl qs134 q2021 can_X3_node (Nat.le_trans (Nat.le_of_ble_eq_true rfl) (Nat.le_add_left 8 d)) (Nat.le_of_ble_eq_true rfl) ch_put_tag (cp_kI (v := p2.1) (w1 := ch_put m w p2.2) (fun Q' hq => s_X3_node hp3 hq) ?_))))))
    refine ch_istore 8 _ (ls1 := [some (va_rf (some m)), some (.int x1), some (.int x2), some (.int x3), some (.int x4), none, some (.int x6), some (.int ((σ.1 fX3_held) - x4)), some (.int p2.1)]) dX3_called_172 (Nat.le_of_ble_eq_true rfl) rfl (ch_aload_n 0 (some m) dX3_called_174 rfl (mp_gA 20 dX3_called_175 fl_X3_37 rfl (ch_iload 8 _ dX3_called_178 rfl (ch_iload 7 _ dX3_called_180 rfl (mp_iast dX3_called_182 mk_20 rfl h (fun σ4 h => ?_))))))
    obtain rfl := Option.some.inj h
    exact ch_iload 8 _ dX3_called_183 rfl (ch_ireturn _ dX3_called_185 rfl rfl hk)
  · refine ch_aload_n 0 (some m) dX3_called_116 rfl (mp_gA 22 dX3_called_117 fl_X3_40 rfl (ch_aload_n 0 (some m) dX3_called_120 rfl (mp_gI 21 dX3_called_121 fl_X3_359 rfl (ch_aload_n 0 (some m) dX3_called_124 rfl (mp_gA 24 dX3_called_125 fl_X3_43 rfl (ch_iload 7 _ dX3_called_128 rfl (mp_iald dX3_called_130 mk_24 h (fun v5 h => ?_))))))))
    refine mp_iast dX3_called_131 mk_22 rfl h (fun σ6 h => ?_)
    refine ch_aload_n 0 (some m) dX3_called_132 rfl (ch_dup dX3_called_133 (ch_cat _) (mp_gI 21 dX3_called_134 fl_X3_359 rfl (ch_iconst _ 1 dX3_called_137 rfl (ch_iadd _ _ dX3_called_138 (mp_pI (k := 21) dX3_called_139 fl_X3_359 rfl rfl rfl h (fun σ7 h => ?_))))))
    refine ch_iinc 7 _ _ (x7 + 1) (ls1 := [some (va_rf (some m)), some (.int x1), some (.int x2), some (.int x3), some (.int x4), none, some (.int x6), some (.int (x7 + 1)), none]) dX3_called_142 rfl rfl (Nat.le_of_ble_eq_true rfl) rfl (ch_goto 107 dX3_called_145 rfl (ch_FT.wk (ch_wS (ch_wS (ch_wS (ch_wS (ch_wS (ch_wN (ch_wS (ch_wS (ch_wN ch_w0))))))))) ?_))
    obtain rfl := Option.some.inj h
    exact hk
theorem sl_X3_called_107 {g : State} {d : Nat} {rc : Nat → Int32 → Int32 → Int32 → ch_S → Option (Int32 × ch_S)} {m : Nat} {w : ch_W} (hr0 : ∀ {σ : ch_S} {p : Int32 × ch_S} {Q : Outcome → ch_W → Prop}, rc 0 0 0 0 σ = some p → ch_eI Q (p.1, ch_put m w p.2) → ch_CT g false yX3_expression (d + 7) [.ref m] (ch_put m w σ) Q)  {x1 : Int32} {x2 : Int32} {x3 : Int32} {x4 : Int32} {x6 : Int32} {a : Int32 × ch_S} {res : Int32 × ch_S} {Q : Outcome → ch_W → Prop} (h : ch_loop (fun (s : Int32 × ch_S) => m_X3_called_107 rc x1 x2 x3 x4 x6 s.1 s.2) a = some res) (hk : (fun r => ch_eI Q (r.1, ch_put m w r.2)) res) : ch_FT g false mX3_called (d + 8) 107 [some (va_rf (some m)), some (.int x1), some (.int x2), some (.int x3), some (.int x4), none, some (.int x6), some (.int a.1), none] [] (ch_put m w a.2) Q := by
  refine ch_loop_ind (fun (a : Int32 × ch_S) (r : Int32 × ch_S) => (fun r => ch_eI Q (r.1, ch_put m w r.2)) r → ch_FT g false mX3_called (d + 8) 107 [some (va_rf (some m)), some (.int x1), some (.int x2), some (.int x3), some (.int x4), none, some (.int x6), some (.int a.1), none] [] (ch_put m w a.2) Q) ?_ ?_ a res h hk
  · intro a a2 b h1 ih hk
    exact s_X3_called_107 hr0 h1 (ih hk)
  · intro a b h1 hk
    exact s_X3_called_107 hr0 h1 hk

def m_X3_called_91 (rc : Nat → Int32 → Int32 → Int32 → ch_S → Option (Int32 × ch_S)) (x1 : Int32) (x2 : Int32) (x3 : Int32) (x4 : Int32)  (σ : ch_S) : Option (Int32 × ch_S) := (m_X3_closes 41 σ).bind fun p1 => ch_loop (fun (s : Int32 × ch_S) => m_X3_called_107 rc x1 x2 x3 x4 (p1.1 fX3_listed) s.1 s.2) (x4, p1)
theorem s_X3_called_91 {g : State} {d : Nat} {rc : Nat → Int32 → Int32 → Int32 → ch_S → Option (Int32 × ch_S)} {m : Nat} {w : ch_W} (hr0 : ∀ {σ : ch_S} {p : Int32 × ch_S} {Q : Outcome → ch_W → Prop}, rc 0 0 0 0 σ = some p → ch_eI Q (p.1, ch_put m w p.2) → ch_CT g false yX3_expression (d + 7) [.ref m] (ch_put m w σ) Q)  {x1 : Int32} {x2 : Int32} {x3 : Int32} {x4 : Int32} {σ : ch_S} {res : Int32 × ch_S} {Q : Outcome → ch_W → Prop} (h : m_X3_called_91 rc x1 x2 x3 x4 σ = some res) (hk : (fun r => ch_eI Q (r.1, ch_put m w r.2)) res) : ch_FT g false mX3_called (d + 8) 91 [some (va_rf (some m)), some (.int x1), some (.int x2), some (.int x3), some (.int x4), none, none, none, none] [] (ch_put m w σ) Q := by
  unfold m_X3_called_91 at h
  obtain ⟨p1, hp2, h⟩ := ch_bd h
  refine ch_aload_n 0 (some m) dX3_called_91 rfl (ch_bipush _ 41 dX3_called_92 rfl (ch_iv yX3_closes prog_14_method_18_code 2 none (ci := 3) (q := (RX3, TX3, 109)) (b := m) (d' := 6) (av := [.int 41]) (rest := []) rfl dX3_called_94 q1962 q1964 rfl qs120 q1965 can_X3_closes (Nat.le_trans (Nat.le_of_ble_eq_true rfl) (Nat.le_add_left 8 d)) (Nat.le_of_ble_eq_true rfl) ch_put_tag (cp_kV (w1 := ch_put m w p1) (fun Q' hq => s_X3_closes hp2 hq) ?_)))
  exact ch_aload_n 0 (some m) dX3_called_97 rfl (mp_gI 21 dX3_called_98 fl_X3_359 rfl (ch_istore 6 _ (ls1 := [some (va_rf (some m)), some (.int x1), some (.int x2), some (.int x3), some (.int x4), none, some (.int (p1.1 fX3_listed)), none, none]) dX3_called_101 (Nat.le_of_ble_eq_true rfl) rfl (ch_iload 4 _ dX3_called_103 rfl (ch_istore 7 _ (ls1 := [some (va_rf (some m)), some (.int x1), some (.int x2), some (.int x3), some (.int x4), none, some (.int (p1.1 fX3_listed)), some (.int x4), none]) dX3_called_105 (Nat.le_of_ble_eq_true rfl) rfl (ch_FT.wk (ch_wS (ch_wS (ch_wS (ch_wS (ch_wS (ch_wN (ch_wS (ch_wS (ch_wN ch_w0))))))))) (sl_X3_called_107 hr0 h hk))))))

def m_X3_called_32 (rc : Nat → Int32 → Int32 → Int32 → ch_S → Option (Int32 × ch_S)) (x1 : Int32) (x2 : Int32) (x3 : Int32) (x4 : Int32) (x5 : Int32)  (σ : ch_S) : Option ((Int32 × ch_S) ⊕ (Int32 × ch_S)) := if x5 = 0 then ((m_X3_called_91 rc x1 x2 x3 x4 σ).bind fun r => some (.inr (r))) else (if (σ.1 fX3_wrong) < 0 then ((rc 0 0 0 0 σ).bind fun p1 => (ch_mw p1.2 fX3_hold (p1.2.1 fX3_held) p1.1).bind fun σ3 => (ch_mI σ3 fX3_held ((σ3.1 fX3_held) + 1)).bind fun σ4 => (m_X3_isSign 44 σ4).bind fun v5 => if v5 = 0 then (some (.inl (v5, σ4))) else ((m_X3_next σ4).bind fun p7 => some (.inl (v5, p7)))) else ((m_X3_called_91 rc x1 x2 x3 x4 σ).bind fun r => some (.inr (r))))
theorem s_X3_called_32 {g : State} {d : Nat} {rc : Nat → Int32 → Int32 → Int32 → ch_S → Option (Int32 × ch_S)} {m : Nat} {w : ch_W} (hr0 : ∀ {σ : ch_S} {p : Int32 × ch_S} {Q : Outcome → ch_W → Prop}, rc 0 0 0 0 σ = some p → ch_eI Q (p.1, ch_put m w p.2) → ch_CT g false yX3_expression (d + 7) [.ref m] (ch_put m w σ) Q)  {x1 : Int32} {x2 : Int32} {x3 : Int32} {x4 : Int32} {x5 : Int32} {σ : ch_S} {res : (Int32 × ch_S) ⊕ (Int32 × ch_S)} {Q : Outcome → ch_W → Prop} (h : m_X3_called_32 rc x1 x2 x3 x4 x5 σ = some res) (hk : (ch_sm (fun s => ch_FT g false mX3_called (d + 8) 32 [some (va_rf (some m)), some (.int x1), some (.int x2), some (.int x3), some (.int x4), some (.int s.1), none, none, none] [] (ch_put m w s.2) Q) (fun r => ch_eI Q (r.1, ch_put m w r.2))) res) : ch_FT g false mX3_called (d + 8) 32 [some (va_rf (some m)), some (.int x1), some (.int x2), some (.int x3), some (.int x4), some (.int x5), none, none, none] [] (ch_put m w σ) Q := by
  unfold m_X3_called_32 at h
  refine ch_iload 5 _ dX3_called_32 rfl (cp_if_eq _ (tgt := 91) dX3_called_34 rfl h (fun h => ?_) (fun h => ?_))
  · obtain ⟨r, hr, h⟩ := ch_bd h
    obtain rfl := Option.some.inj h
    exact ch_FT.wk (ch_wS (ch_wS (ch_wS (ch_wS (ch_wS (ch_wN (ch_wN (ch_wN (ch_wN ch_w0))))))))) (s_X3_called_91 hr0 hr hk)
  · refine ch_aload_n 0 (some m) dX3_called_37 rfl (mp_gI 9 dX3_called_38 fl_X3_283 rfl (cp_if_ge _ (tgt := 91) dX3_called_41 rfl h (fun h => ?_) (fun h => ?_)))
    · obtain ⟨r, hr, h⟩ := ch_bd h
      obtain rfl := Option.some.inj h
      exact ch_FT.wk (ch_wS (ch_wS (ch_wS (ch_wS (ch_wS (ch_wN (ch_wN (ch_wN (ch_wN ch_w0))))))))) (s_X3_called_91 hr0 hr hk)
    · obtain ⟨p1, hp2, h⟩ := ch_bd h
      refine ch_aload_n 0 (some m) dX3_called_44 rfl (ch_iv yX3_expression prog_14_method_21_code 3 (some .int) (ci := 3) (q := (RX3, TX3, 109)) (b := m) (d' := (d + 7)) (av := []) (rest := []) rfl dX3_called_45 q1982 q1984 rfl qs125 q1985 can_X3_expression (Nat.le_refl _) (Nat.le_of_ble_eq_true rfl) ch_put_tag (cp_kI (v := p1.1) (w1 := ch_put m w p1.2) (fun Q' hq => hr0 hp2 hq) ?_))
      refine ch_istore 6 _ (ls1 := [some (va_rf (some m)), some (.int x1), some (.int x2), some (.int x3), some (.int x4), some (.int x5), some (.int p1.1), none, none]) dX3_called_48 (Nat.le_of_ble_eq_true rfl) rfl (ch_aload_n 0 (some m) dX3_called_50 rfl (mp_gA 24 dX3_called_51 fl_X3_43 rfl (ch_aload_n 0 (some m) dX3_called_54 rfl (mp_gI 23 dX3_called_55 fl_X3_356 rfl (ch_iload 6 _ dX3_called_58 rfl (mp_iast dX3_called_60 mk_24 rfl h (fun σ3 h => ?_)))))))
      refine ch_aload_n 0 (some m) dX3_called_61 rfl (ch_dup dX3_called_62 (ch_cat _) (mp_gI 23 dX3_called_63 fl_X3_356 rfl (ch_iconst _ 1 dX3_called_66 rfl (ch_iadd _ _ dX3_called_67 (mp_pI (k := 23) dX3_called_68 fl_X3_356 rfl rfl rfl h (fun σ4 h => ?_))))))
      obtain ⟨v5, hp6, h⟩ := ch_bd h
      refine ch_aload_n 0 (some m) dX3_called_71 rfl (ch_bipush _ 44 dX3_called_72 rfl (ch_iv yX3_isSign prog_14_method_14_code 2 (some .boolean) (ci := 3) (q := (RX3, TX3, 109)) (b := m) (d' := 2) (av := [.int 44]) (rest := []) rfl dX3_called_74 q1942 q1944 rfl qs115 q1945 can_X3_isSign (Nat.le_trans (Nat.le_of_ble_eq_true rfl) (Nat.le_add_left 8 d)) (Nat.le_of_ble_eq_true rfl) ch_put_tag (cp_kI (v := v5) (w1 := ch_put m w σ4) (fun Q' hq => s_X3_isSign hp6 hq) ?_)))
      refine ch_istore 5 _ (ls1 := [some (va_rf (some m)), some (.int x1), some (.int x2), some (.int x3), some (.int x4), some (.int v5), some (.int p1.1), none, none]) dX3_called_77 (Nat.le_of_ble_eq_true rfl) rfl (ch_iload 5 _ dX3_called_79 rfl (cp_if_eq _ (tgt := 88) dX3_called_81 rfl h (fun h => ?_) (fun h => ?_)))
      · refine ch_goto 32 dX3_called_88 rfl (ch_FT.wk (ch_wS (ch_wS (ch_wS (ch_wS (ch_wS (ch_wS (ch_wN (ch_wN (ch_wN ch_w0))))))))) ?_)
        obtain rfl := Option.some.inj h
        exact hk
      · obtain ⟨p7, hp8, h⟩ := ch_bd h
        refine ch_aload_n 0 (some m) dX3_called_84 rfl (ch_iv yX3_next prog_14_method_12_code 4 none (ci := 3) (q := (RX3, TX3, 109)) (b := m) (d' := 4) (av := []) (rest := []) rfl dX3_called_85 q1884 q1886 rfl qs105 q1887 can_X3_next (Nat.le_trans (Nat.le_of_ble_eq_true rfl) (Nat.le_add_left 8 d)) (Nat.le_of_ble_eq_true rfl) ch_put_tag (cp_kV (w1 := ch_put m w p7) (fun Q' hq => s_X3_next hp8 hq) ?_))
        refine ch_goto 32 dX3_called_88 rfl (ch_FT.wk (ch_wS (ch_wS (ch_wS (ch_wS (ch_wS (ch_wS (ch_wN (ch_wN (ch_wN ch_w0))))))))) ?_)
        obtain rfl := Option.some.inj h
        exact hk
theorem sl_X3_called_32 {g : State} {d : Nat} {rc : Nat → Int32 → Int32 → Int32 → ch_S → Option (Int32 × ch_S)} {m : Nat} {w : ch_W} (hr0 : ∀ {σ : ch_S} {p : Int32 × ch_S} {Q : Outcome → ch_W → Prop}, rc 0 0 0 0 σ = some p → ch_eI Q (p.1, ch_put m w p.2) → ch_CT g false yX3_expression (d + 7) [.ref m] (ch_put m w σ) Q)  {x1 : Int32} {x2 : Int32} {x3 : Int32} {x4 : Int32} {a : Int32 × ch_S} {res : Int32 × ch_S} {Q : Outcome → ch_W → Prop} (h : ch_loop (fun (s : Int32 × ch_S) => m_X3_called_32 rc x1 x2 x3 x4 s.1 s.2) a = some res) (hk : (fun r => ch_eI Q (r.1, ch_put m w r.2)) res) : ch_FT g false mX3_called (d + 8) 32 [some (va_rf (some m)), some (.int x1), some (.int x2), some (.int x3), some (.int x4), some (.int a.1), none, none, none] [] (ch_put m w a.2) Q := by
  refine ch_loop_ind (fun (a : Int32 × ch_S) (r : Int32 × ch_S) => (fun r => ch_eI Q (r.1, ch_put m w r.2)) r → ch_FT g false mX3_called (d + 8) 32 [some (va_rf (some m)), some (.int x1), some (.int x2), some (.int x3), some (.int x4), some (.int a.1), none, none, none] [] (ch_put m w a.2) Q) ?_ ?_ a res h hk
  · intro a a2 b h1 ih hk
    exact s_X3_called_32 hr0 h1 (ih hk)
  · intro a b h1 hk
    exact s_X3_called_32 hr0 h1 hk

def m_X3_called (rc : Nat → Int32 → Int32 → Int32 → ch_S → Option (Int32 × ch_S)) (x1 : Int32) (x2 : Int32) (x3 : Int32) (σ : ch_S) : Option (Int32 × ch_S) := (m_X3_opens 1 σ).bind fun p1 => if p1.1 = 0 then (some (((-1), p1.2))) else ((m_X3_isSign 41 p1.2).bind fun v3 => if v3 = 0 then (ch_loop (fun (s : Int32 × ch_S) => m_X3_called_32 rc x1 x2 x3 (p1.2.1 fX3_held) s.1 s.2) (1, p1.2)) else (ch_loop (fun (s : Int32 × ch_S) => m_X3_called_32 rc x1 x2 x3 (p1.2.1 fX3_held) s.1 s.2) (0, p1.2)))
theorem s_X3_called {g : State} {d : Nat} {rc : Nat → Int32 → Int32 → Int32 → ch_S → Option (Int32 × ch_S)} {m : Nat} {w : ch_W} (hr0 : ∀ {σ : ch_S} {p : Int32 × ch_S} {Q : Outcome → ch_W → Prop}, rc 0 0 0 0 σ = some p → ch_eI Q (p.1, ch_put m w p.2) → ch_CT g false yX3_expression (d + 7) [.ref m] (ch_put m w σ) Q)  {x1 : Int32} {x2 : Int32} {x3 : Int32} {σ : ch_S} {res : Int32 × ch_S} {Q : Outcome → ch_W → Prop} (h : m_X3_called rc x1 x2 x3 σ = some res) (hk : (fun r => ch_eI Q (r.1, ch_put m w r.2)) res) : ch_CT g false yX3_called (d + 8) [.ref m, .int x1, .int x2, .int x3] (ch_put m w σ) Q := by
  unfold m_X3_called at h
  refine ch_ctL mX3_called (ls := [some (va_rf (some m)), some (.int x1), some (.int x2), some (.int x3), none, none, none, none, none]) q2025 rfl (ch_lyr (r := some m) (ch_lyi (ch_lyi (ch_lyi ch_ly0)))) (Nat.le_of_ble_eq_true rfl) rfl ?_
  obtain ⟨p1, hp2, h⟩ := ch_bd h
  refine ch_aload_n 0 (some m) dX3_called_0 rfl (ch_iconst _ 1 dX3_called_1 rfl (ch_iv yX3_opens prog_14_method_17_code 3 (some .boolean) (ci := 3) (q := (RX3, TX3, 109)) (b := m) (d' := 5) (av := [.int 1]) (rest := []) rfl dX3_called_2 q1946 q1948 rfl qs116 q1949 can_X3_opens (Nat.le_trans (Nat.le_of_ble_eq_true rfl) (Nat.le_add_left 8 d)) (Nat.le_of_ble_eq_true rfl) ch_put_tag (cp_kI (v := p1.1) (w1 := ch_put m w p1.2) (fun Q' hq => s_X3_opens hp2 hq) ?_)))
  refine cp_if_ne _ (tgt := 10) dX3_called_5 rfl h (fun h => ?_) (fun h => ?_)
  · obtain ⟨v3, hp4, h⟩ := ch_bd h
    refine ch_aload_n 0 (some m) dX3_called_10 rfl (mp_gI 23 dX3_called_11 fl_X3_356 rfl (ch_istore 4 _ (ls1 := [some (va_rf (some m)), some (.int x1), some (.int x2), some (.int x3), some (.int (p1.2.1 fX3_held)), none, none, none, none]) dX3_called_14 (Nat.le_of_ble_eq_true rfl) rfl (ch_aload_n 0 (some m) dX3_called_16 rfl (ch_bipush _ 41 dX3_called_17 rfl (ch_iv yX3_isSign prog_14_method_14_code 2 (some .boolean) (ci := 3) (q := (RX3, TX3, 109)) (b := m) (d' := 2) (av := [.int 41]) (rest := []) rfl dX3_called_19 q1942 q1944 rfl qs115 q1945 can_X3_isSign (Nat.le_trans (Nat.le_of_ble_eq_true rfl) (Nat.le_add_left 8 d)) (Nat.le_of_ble_eq_true rfl) ch_put_tag (cp_kI (v := v3) (w1 := ch_put m w p1.2) (fun Q' hq => s_X3_isSign hp4 hq) ?_))))))
    refine cp_if_ne _ (tgt := 29) dX3_called_22 rfl h (fun h => ?_) (fun h => ?_)
    · exact ch_iconst _ 0 dX3_called_29 rfl (ch_istore 5 _ (ls1 := [some (va_rf (some m)), some (.int x1), some (.int x2), some (.int x3), some (.int (p1.2.1 fX3_held)), some (.int 0), none, none, none]) dX3_called_30 (Nat.le_of_ble_eq_true rfl) rfl (ch_FT.wk (ch_wS (ch_wS (ch_wS (ch_wS (ch_wS (ch_wS (ch_wN (ch_wN (ch_wN ch_w0))))))))) (sl_X3_called_32 hr0 h hk)))
    · exact ch_iconst _ 1 dX3_called_25 rfl (ch_goto 30 dX3_called_26 rfl (ch_istore 5 _ (ls1 := [some (va_rf (some m)), some (.int x1), some (.int x2), some (.int x3), some (.int (p1.2.1 fX3_held)), some (.int 1), none, none, none]) dX3_called_30 (Nat.le_of_ble_eq_true rfl) rfl (ch_FT.wk (ch_wS (ch_wS (ch_wS (ch_wS (ch_wS (ch_wS (ch_wN (ch_wN (ch_wN ch_w0))))))))) (sl_X3_called_32 hr0 h hk))))
  · obtain rfl := Option.some.inj h
    exact ch_iconst _ (-1) dX3_called_8 rfl (ch_ireturn _ dX3_called_9 rfl rfl hk)

theorem bX3_first_0 : ch_ck cX3_first 0 [42, 180, 1, 27, 155, 0, 5, 2, 172, 42, 180, 1, 7, 6, 160, 0] := ch_ckof (by decide +kernel)
theorem bX3_first_1 : ch_ck cX3_first 16 [21, 42, 180, 1, 0, 60, 42, 182, 1, 33, 42, 3, 3, 3, 27, 182] := ch_ckof (by decide +kernel)
theorem bX3_first_2 : ch_ck cX3_first 32 [1, 52, 172, 42, 180, 1, 7, 5, 160, 0, 37, 42, 182, 1, 77, 60] := ch_ckof (by decide +kernel)
theorem bX3_first_3 : ch_ck cX3_first 48 [42, 16, 40, 182, 1, 39, 153, 0, 14, 42, 16, 9, 2, 27, 182, 1] := ch_ckof (by decide +kernel)
theorem bX3_first_4 : ch_ck cX3_first 64 [89, 167, 0, 11, 42, 7, 3, 3, 27, 182, 1, 52, 172, 42, 16, 40] := ch_ckof (by decide +kernel)
theorem bX3_first_5 : ch_ck cX3_first 80 [182, 1, 39, 153, 0, 26, 42, 4, 182, 1, 83, 154, 0, 5, 2, 172] := ch_ckof (by decide +kernel)
theorem bX3_first_6 : ch_ck cX3_first 96 [42, 182, 1, 93, 60, 42, 16, 41, 182, 1, 96, 27, 172, 42, 180, 1] := ch_ckof (by decide +kernel)
theorem bX3_first_7 : ch_ck cX3_first 112 [7, 8, 160, 0, 20, 42, 180, 1, 0, 133, 20, 1, 106, 20, 1, 108] := ch_ckof (by decide +kernel)
theorem bX3_first_8 : ch_ck cX3_first 128 [184, 0, 228, 154, 0, 12, 42, 42, 180, 0, 246, 182, 1, 30, 172, 42] := ch_ckof (by decide +kernel)
theorem bX3_first_9 : ch_ck cX3_first 144 [180, 1, 0, 60, 42, 182, 1, 33, 27, 16, 14, 160, 0, 67, 42, 7] := ch_ckof (by decide +kernel)
theorem bX3_first_10 : ch_ck cX3_first 160 [182, 1, 74, 154, 0, 17, 42, 182, 1, 77, 61, 42, 8, 3, 3, 28] := ch_ckof (by decide +kernel)
theorem bX3_first_11 : ch_ck cX3_first 176 [182, 1, 52, 172, 42, 182, 1, 33, 42, 42, 16, 91, 182, 1, 39, 182] := ch_ckof (by decide +kernel)
theorem bX3_first_12 : ch_ck cX3_first 192 [1, 83, 153, 0, 10, 42, 182, 1, 93, 167, 0, 4, 2, 61, 42, 16] := ch_ckof (by decide +kernel)
theorem bX3_first_13 : ch_ck cX3_first 208 [93, 182, 1, 96, 42, 16, 12, 28, 3, 3, 182, 1, 52, 172, 27, 16] := ch_ckof (by decide +kernel)
theorem bX3_first_14 : ch_ck cX3_first 224 [15, 160, 0, 14, 42, 4, 3, 3, 3, 182, 1, 52, 167, 0, 56, 27] := ch_ckof (by decide +kernel)
theorem bX3_first_15 : ch_ck cX3_first 240 [16, 18, 160, 0, 14, 42, 5, 3, 3, 3, 182, 1, 52, 167, 0, 39] := ch_ckof (by decide +kernel)
theorem bX3_first_16 : ch_ck cX3_first 256 [27, 16, 19, 160, 0, 14, 42, 6, 3, 3, 3, 182, 1, 52, 167, 0] := ch_ckof (by decide +kernel)
theorem bX3_first_17 : ch_ck cX3_first 272 [22, 42, 16, 21, 3, 3, 27, 16, 16, 160, 0, 7, 4, 167, 0, 4] := ch_ckof (by decide +kernel)
theorem bX3_first_18 : ch_ck cX3_first 288 [3, 182, 1, 52, 172] := ch_ckof (by decide +kernel)
theorem dX3_first_0 : decode cX3_first 0 = .ok (.aload_n 0, 1) := dz_42 (bX3_first_0 0 _ rfl)
theorem dX3_first_1 : decode cX3_first 1 = .ok (.getfield 283, 3) := dz_180 (bX3_first_0 1 _ rfl) (bX3_first_0 2 _ rfl) (bX3_first_0 3 _ rfl)
theorem dX3_first_4 : decode cX3_first 4 = .ok (.ifCond .lt 5, 3) := dz_155 (bX3_first_0 4 _ rfl) (bX3_first_0 5 _ rfl) (bX3_first_0 6 _ rfl)
theorem dX3_first_7 : decode cX3_first 7 = .ok (.iconst (-1), 1) := dz_2 (bX3_first_0 7 _ rfl)
theorem dX3_first_8 : decode cX3_first 8 = .ok (.ireturn, 1) := dz_172 (bX3_first_0 8 _ rfl)
theorem dX3_first_9 : decode cX3_first 9 = .ok (.aload_n 0, 1) := dz_42 (bX3_first_0 9 _ rfl)
theorem dX3_first_10 : decode cX3_first 10 = .ok (.getfield 263, 3) := dz_180 (bX3_first_0 10 _ rfl) (bX3_first_0 11 _ rfl) (bX3_first_0 12 _ rfl)
theorem dX3_first_13 : decode cX3_first 13 = .ok (.iconst 3, 1) := dz_6 (bX3_first_0 13 _ rfl)
theorem dX3_first_14 : decode cX3_first 14 = .ok (.if_icmp .ne 21, 3) := dz_160 (bX3_first_0 14 _ rfl) (bX3_first_0 15 _ rfl) (bX3_first_1 0 _ rfl)
theorem dX3_first_17 : decode cX3_first 17 = .ok (.aload_n 0, 1) := dz_42 (bX3_first_1 1 _ rfl)
theorem dX3_first_18 : decode cX3_first 18 = .ok (.getfield 256, 3) := dz_180 (bX3_first_1 2 _ rfl) (bX3_first_1 3 _ rfl) (bX3_first_1 4 _ rfl)
theorem dX3_first_21 : decode cX3_first 21 = .ok (.istore_n 1, 1) := dz_60 (bX3_first_1 5 _ rfl)
theorem dX3_first_22 : decode cX3_first 22 = .ok (.aload_n 0, 1) := dz_42 (bX3_first_1 6 _ rfl)
theorem dX3_first_23 : decode cX3_first 23 = .ok (.invokevirtual 289, 3) := dz_182 (bX3_first_1 7 _ rfl) (bX3_first_1 8 _ rfl) (bX3_first_1 9 _ rfl)
theorem dX3_first_26 : decode cX3_first 26 = .ok (.aload_n 0, 1) := dz_42 (bX3_first_1 10 _ rfl)
theorem dX3_first_27 : decode cX3_first 27 = .ok (.iconst 0, 1) := dz_3 (bX3_first_1 11 _ rfl)
theorem dX3_first_28 : decode cX3_first 28 = .ok (.iconst 0, 1) := dz_3 (bX3_first_1 12 _ rfl)
theorem dX3_first_29 : decode cX3_first 29 = .ok (.iconst 0, 1) := dz_3 (bX3_first_1 13 _ rfl)
theorem dX3_first_30 : decode cX3_first 30 = .ok (.iload_n 1, 1) := dz_27 (bX3_first_1 14 _ rfl)
theorem dX3_first_31 : decode cX3_first 31 = .ok (.invokevirtual 308, 3) := dz_182 (bX3_first_1 15 _ rfl) (bX3_first_2 0 _ rfl) (bX3_first_2 1 _ rfl)
theorem dX3_first_34 : decode cX3_first 34 = .ok (.ireturn, 1) := dz_172 (bX3_first_2 2 _ rfl)
theorem dX3_first_35 : decode cX3_first 35 = .ok (.aload_n 0, 1) := dz_42 (bX3_first_2 3 _ rfl)
theorem dX3_first_36 : decode cX3_first 36 = .ok (.getfield 263, 3) := dz_180 (bX3_first_2 4 _ rfl) (bX3_first_2 5 _ rfl) (bX3_first_2 6 _ rfl)
theorem dX3_first_39 : decode cX3_first 39 = .ok (.iconst 2, 1) := dz_5 (bX3_first_2 7 _ rfl)
theorem dX3_first_40 : decode cX3_first 40 = .ok (.if_icmp .ne 37, 3) := dz_160 (bX3_first_2 8 _ rfl) (bX3_first_2 9 _ rfl) (bX3_first_2 10 _ rfl)
theorem dX3_first_43 : decode cX3_first 43 = .ok (.aload_n 0, 1) := dz_42 (bX3_first_2 11 _ rfl)
theorem dX3_first_44 : decode cX3_first 44 = .ok (.invokevirtual 333, 3) := dz_182 (bX3_first_2 12 _ rfl) (bX3_first_2 13 _ rfl) (bX3_first_2 14 _ rfl)
theorem dX3_first_47 : decode cX3_first 47 = .ok (.istore_n 1, 1) := dz_60 (bX3_first_2 15 _ rfl)
theorem dX3_first_48 : decode cX3_first 48 = .ok (.aload_n 0, 1) := dz_42 (bX3_first_3 0 _ rfl)
theorem dX3_first_49 : decode cX3_first 49 = .ok (.bipush 40, 2) := dz_16 (bX3_first_3 1 _ rfl) (bX3_first_3 2 _ rfl)
theorem dX3_first_51 : decode cX3_first 51 = .ok (.invokevirtual 295, 3) := dz_182 (bX3_first_3 3 _ rfl) (bX3_first_3 4 _ rfl) (bX3_first_3 5 _ rfl)
theorem dX3_first_54 : decode cX3_first 54 = .ok (.ifCond .eq 14, 3) := dz_153 (bX3_first_3 6 _ rfl) (bX3_first_3 7 _ rfl) (bX3_first_3 8 _ rfl)
theorem dX3_first_57 : decode cX3_first 57 = .ok (.aload_n 0, 1) := dz_42 (bX3_first_3 9 _ rfl)
theorem dX3_first_58 : decode cX3_first 58 = .ok (.bipush 9, 2) := dz_16 (bX3_first_3 10 _ rfl) (bX3_first_3 11 _ rfl)
theorem dX3_first_60 : decode cX3_first 60 = .ok (.iconst (-1), 1) := dz_2 (bX3_first_3 12 _ rfl)
theorem dX3_first_61 : decode cX3_first 61 = .ok (.iload_n 1, 1) := dz_27 (bX3_first_3 13 _ rfl)
theorem dX3_first_62 : decode cX3_first 62 = .ok (.invokevirtual 345, 3) := dz_182 (bX3_first_3 14 _ rfl) (bX3_first_3 15 _ rfl) (bX3_first_4 0 _ rfl)
theorem dX3_first_65 : decode cX3_first 65 = .ok (.goto 11, 3) := dz_167 (bX3_first_4 1 _ rfl) (bX3_first_4 2 _ rfl) (bX3_first_4 3 _ rfl)
theorem dX3_first_68 : decode cX3_first 68 = .ok (.aload_n 0, 1) := dz_42 (bX3_first_4 4 _ rfl)
theorem dX3_first_69 : decode cX3_first 69 = .ok (.iconst 4, 1) := dz_7 (bX3_first_4 5 _ rfl)
theorem dX3_first_70 : decode cX3_first 70 = .ok (.iconst 0, 1) := dz_3 (bX3_first_4 6 _ rfl)
theorem dX3_first_71 : decode cX3_first 71 = .ok (.iconst 0, 1) := dz_3 (bX3_first_4 7 _ rfl)
theorem dX3_first_72 : decode cX3_first 72 = .ok (.iload_n 1, 1) := dz_27 (bX3_first_4 8 _ rfl)
theorem dX3_first_73 : decode cX3_first 73 = .ok (.invokevirtual 308, 3) := dz_182 (bX3_first_4 9 _ rfl) (bX3_first_4 10 _ rfl) (bX3_first_4 11 _ rfl)
theorem dX3_first_76 : decode cX3_first 76 = .ok (.ireturn, 1) := dz_172 (bX3_first_4 12 _ rfl)
theorem dX3_first_77 : decode cX3_first 77 = .ok (.aload_n 0, 1) := dz_42 (bX3_first_4 13 _ rfl)
theorem dX3_first_78 : decode cX3_first 78 = .ok (.bipush 40, 2) := dz_16 (bX3_first_4 14 _ rfl) (bX3_first_4 15 _ rfl)
theorem dX3_first_80 : decode cX3_first 80 = .ok (.invokevirtual 295, 3) := dz_182 (bX3_first_5 0 _ rfl) (bX3_first_5 1 _ rfl) (bX3_first_5 2 _ rfl)
theorem dX3_first_83 : decode cX3_first 83 = .ok (.ifCond .eq 26, 3) := dz_153 (bX3_first_5 3 _ rfl) (bX3_first_5 4 _ rfl) (bX3_first_5 5 _ rfl)
theorem dX3_first_86 : decode cX3_first 86 = .ok (.aload_n 0, 1) := dz_42 (bX3_first_5 6 _ rfl)
theorem dX3_first_87 : decode cX3_first 87 = .ok (.iconst 1, 1) := dz_4 (bX3_first_5 7 _ rfl)
theorem dX3_first_88 : decode cX3_first 88 = .ok (.invokevirtual 339, 3) := dz_182 (bX3_first_5 8 _ rfl) (bX3_first_5 9 _ rfl) (bX3_first_5 10 _ rfl)
theorem dX3_first_91 : decode cX3_first 91 = .ok (.ifCond .ne 5, 3) := dz_154 (bX3_first_5 11 _ rfl) (bX3_first_5 12 _ rfl) (bX3_first_5 13 _ rfl)
theorem dX3_first_94 : decode cX3_first 94 = .ok (.iconst (-1), 1) := dz_2 (bX3_first_5 14 _ rfl)
theorem dX3_first_95 : decode cX3_first 95 = .ok (.ireturn, 1) := dz_172 (bX3_first_5 15 _ rfl)
theorem dX3_first_96 : decode cX3_first 96 = .ok (.aload_n 0, 1) := dz_42 (bX3_first_6 0 _ rfl)
theorem dX3_first_97 : decode cX3_first 97 = .ok (.invokevirtual 349, 3) := dz_182 (bX3_first_6 1 _ rfl) (bX3_first_6 2 _ rfl) (bX3_first_6 3 _ rfl)
theorem dX3_first_100 : decode cX3_first 100 = .ok (.istore_n 1, 1) := dz_60 (bX3_first_6 4 _ rfl)
theorem dX3_first_101 : decode cX3_first 101 = .ok (.aload_n 0, 1) := dz_42 (bX3_first_6 5 _ rfl)
theorem dX3_first_102 : decode cX3_first 102 = .ok (.bipush 41, 2) := dz_16 (bX3_first_6 6 _ rfl) (bX3_first_6 7 _ rfl)
theorem dX3_first_104 : decode cX3_first 104 = .ok (.invokevirtual 352, 3) := dz_182 (bX3_first_6 8 _ rfl) (bX3_first_6 9 _ rfl) (bX3_first_6 10 _ rfl)
theorem dX3_first_107 : decode cX3_first 107 = .ok (.iload_n 1, 1) := dz_27 (bX3_first_6 11 _ rfl)
theorem dX3_first_108 : decode cX3_first 108 = .ok (.ireturn, 1) := dz_172 (bX3_first_6 12 _ rfl)
theorem dX3_first_109 : decode cX3_first 109 = .ok (.aload_n 0, 1) := dz_42 (bX3_first_6 13 _ rfl)
theorem dX3_first_110 : decode cX3_first 110 = .ok (.getfield 263, 3) := dz_180 (bX3_first_6 14 _ rfl) (bX3_first_6 15 _ rfl) (bX3_first_7 0 _ rfl)
theorem dX3_first_113 : decode cX3_first 113 = .ok (.iconst 5, 1) := dz_8 (bX3_first_7 1 _ rfl)
theorem dX3_first_114 : decode cX3_first 114 = .ok (.if_icmp .ne 20, 3) := dz_160 (bX3_first_7 2 _ rfl) (bX3_first_7 3 _ rfl) (bX3_first_7 4 _ rfl)
theorem dX3_first_117 : decode cX3_first 117 = .ok (.aload_n 0, 1) := dz_42 (bX3_first_7 5 _ rfl)
theorem dX3_first_118 : decode cX3_first 118 = .ok (.getfield 256, 3) := dz_180 (bX3_first_7 6 _ rfl) (bX3_first_7 7 _ rfl) (bX3_first_7 8 _ rfl)
theorem dX3_first_121 : decode cX3_first 121 = .ok (.i2l, 1) := dz_133 (bX3_first_7 9 _ rfl)
theorem dX3_first_122 : decode cX3_first 122 = .ok (.ldc2_w 362, 3) := dz_20 (bX3_first_7 10 _ rfl) (bX3_first_7 11 _ rfl) (bX3_first_7 12 _ rfl)
theorem dX3_first_125 : decode cX3_first 125 = .ok (.ldc2_w 364, 3) := dz_20 (bX3_first_7 13 _ rfl) (bX3_first_7 14 _ rfl) (bX3_first_7 15 _ rfl)
theorem dX3_first_128 : decode cX3_first 128 = .ok (.invokestatic 228, 3) := dz_184 (bX3_first_8 0 _ rfl) (bX3_first_8 1 _ rfl) (bX3_first_8 2 _ rfl)
theorem dX3_first_131 : decode cX3_first 131 = .ok (.ifCond .ne 12, 3) := dz_154 (bX3_first_8 3 _ rfl) (bX3_first_8 4 _ rfl) (bX3_first_8 5 _ rfl)
theorem dX3_first_134 : decode cX3_first 134 = .ok (.aload_n 0, 1) := dz_42 (bX3_first_8 6 _ rfl)
theorem dX3_first_135 : decode cX3_first 135 = .ok (.aload_n 0, 1) := dz_42 (bX3_first_8 7 _ rfl)
theorem dX3_first_136 : decode cX3_first 136 = .ok (.getfield 246, 3) := dz_180 (bX3_first_8 8 _ rfl) (bX3_first_8 9 _ rfl) (bX3_first_8 10 _ rfl)
theorem dX3_first_139 : decode cX3_first 139 = .ok (.invokevirtual 286, 3) := dz_182 (bX3_first_8 11 _ rfl) (bX3_first_8 12 _ rfl) (bX3_first_8 13 _ rfl)
theorem dX3_first_142 : decode cX3_first 142 = .ok (.ireturn, 1) := dz_172 (bX3_first_8 14 _ rfl)
theorem dX3_first_143 : decode cX3_first 143 = .ok (.aload_n 0, 1) := dz_42 (bX3_first_8 15 _ rfl)
theorem dX3_first_144 : decode cX3_first 144 = .ok (.getfield 256, 3) := dz_180 (bX3_first_9 0 _ rfl) (bX3_first_9 1 _ rfl) (bX3_first_9 2 _ rfl)
theorem dX3_first_147 : decode cX3_first 147 = .ok (.istore_n 1, 1) := dz_60 (bX3_first_9 3 _ rfl)
theorem dX3_first_148 : decode cX3_first 148 = .ok (.aload_n 0, 1) := dz_42 (bX3_first_9 4 _ rfl)
theorem dX3_first_149 : decode cX3_first 149 = .ok (.invokevirtual 289, 3) := dz_182 (bX3_first_9 5 _ rfl) (bX3_first_9 6 _ rfl) (bX3_first_9 7 _ rfl)
theorem dX3_first_152 : decode cX3_first 152 = .ok (.iload_n 1, 1) := dz_27 (bX3_first_9 8 _ rfl)
theorem dX3_first_153 : decode cX3_first 153 = .ok (.bipush 14, 2) := dz_16 (bX3_first_9 9 _ rfl) (bX3_first_9 10 _ rfl)
theorem dX3_first_155 : decode cX3_first 155 = .ok (.if_icmp .ne 67, 3) := dz_160 (bX3_first_9 11 _ rfl) (bX3_first_9 12 _ rfl) (bX3_first_9 13 _ rfl)
theorem dX3_first_158 : decode cX3_first 158 = .ok (.aload_n 0, 1) := dz_42 (bX3_first_9 14 _ rfl)
theorem dX3_first_159 : decode cX3_first 159 = .ok (.iconst 4, 1) := dz_7 (bX3_first_9 15 _ rfl)
theorem dX3_first_160 : decode cX3_first 160 = .ok (.invokevirtual 330, 3) := dz_182 (bX3_first_10 0 _ rfl) (bX3_first_10 1 _ rfl) (bX3_first_10 2 _ rfl)
theorem dX3_first_163 : decode cX3_first 163 = .ok (.ifCond .ne 17, 3) := dz_154 (bX3_first_10 3 _ rfl) (bX3_first_10 4 _ rfl) (bX3_first_10 5 _ rfl)
theorem dX3_first_166 : decode cX3_first 166 = .ok (.aload_n 0, 1) := dz_42 (bX3_first_10 6 _ rfl)
theorem dX3_first_167 : decode cX3_first 167 = .ok (.invokevirtual 333, 3) := dz_182 (bX3_first_10 7 _ rfl) (bX3_first_10 8 _ rfl) (bX3_first_10 9 _ rfl)
theorem dX3_first_170 : decode cX3_first 170 = .ok (.istore_n 2, 1) := dz_61 (bX3_first_10 10 _ rfl)
theorem dX3_first_171 : decode cX3_first 171 = .ok (.aload_n 0, 1) := dz_42 (bX3_first_10 11 _ rfl)
theorem dX3_first_172 : decode cX3_first 172 = .ok (.iconst 5, 1) := dz_8 (bX3_first_10 12 _ rfl)
theorem dX3_first_173 : decode cX3_first 173 = .ok (.iconst 0, 1) := dz_3 (bX3_first_10 13 _ rfl)
theorem dX3_first_174 : decode cX3_first 174 = .ok (.iconst 0, 1) := dz_3 (bX3_first_10 14 _ rfl)
theorem dX3_first_175 : decode cX3_first 175 = .ok (.iload_n 2, 1) := dz_28 (bX3_first_10 15 _ rfl)
theorem dX3_first_176 : decode cX3_first 176 = .ok (.invokevirtual 308, 3) := dz_182 (bX3_first_11 0 _ rfl) (bX3_first_11 1 _ rfl) (bX3_first_11 2 _ rfl)
theorem dX3_first_179 : decode cX3_first 179 = .ok (.ireturn, 1) := dz_172 (bX3_first_11 3 _ rfl)
theorem dX3_first_180 : decode cX3_first 180 = .ok (.aload_n 0, 1) := dz_42 (bX3_first_11 4 _ rfl)
theorem dX3_first_181 : decode cX3_first 181 = .ok (.invokevirtual 289, 3) := dz_182 (bX3_first_11 5 _ rfl) (bX3_first_11 6 _ rfl) (bX3_first_11 7 _ rfl)
theorem dX3_first_184 : decode cX3_first 184 = .ok (.aload_n 0, 1) := dz_42 (bX3_first_11 8 _ rfl)
theorem dX3_first_185 : decode cX3_first 185 = .ok (.aload_n 0, 1) := dz_42 (bX3_first_11 9 _ rfl)
theorem dX3_first_186 : decode cX3_first 186 = .ok (.bipush 91, 2) := dz_16 (bX3_first_11 10 _ rfl) (bX3_first_11 11 _ rfl)
theorem dX3_first_188 : decode cX3_first 188 = .ok (.invokevirtual 295, 3) := dz_182 (bX3_first_11 12 _ rfl) (bX3_first_11 13 _ rfl) (bX3_first_11 14 _ rfl)
theorem dX3_first_191 : decode cX3_first 191 = .ok (.invokevirtual 339, 3) := dz_182 (bX3_first_11 15 _ rfl) (bX3_first_12 0 _ rfl) (bX3_first_12 1 _ rfl)
theorem dX3_first_194 : decode cX3_first 194 = .ok (.ifCond .eq 10, 3) := dz_153 (bX3_first_12 2 _ rfl) (bX3_first_12 3 _ rfl) (bX3_first_12 4 _ rfl)
theorem dX3_first_197 : decode cX3_first 197 = .ok (.aload_n 0, 1) := dz_42 (bX3_first_12 5 _ rfl)
theorem dX3_first_198 : decode cX3_first 198 = .ok (.invokevirtual 349, 3) := dz_182 (bX3_first_12 6 _ rfl) (bX3_first_12 7 _ rfl) (bX3_first_12 8 _ rfl)
theorem dX3_first_201 : decode cX3_first 201 = .ok (.goto 4, 3) := dz_167 (bX3_first_12 9 _ rfl) (bX3_first_12 10 _ rfl) (bX3_first_12 11 _ rfl)
theorem dX3_first_204 : decode cX3_first 204 = .ok (.iconst (-1), 1) := dz_2 (bX3_first_12 12 _ rfl)
theorem dX3_first_205 : decode cX3_first 205 = .ok (.istore_n 2, 1) := dz_61 (bX3_first_12 13 _ rfl)
theorem dX3_first_206 : decode cX3_first 206 = .ok (.aload_n 0, 1) := dz_42 (bX3_first_12 14 _ rfl)
theorem dX3_first_207 : decode cX3_first 207 = .ok (.bipush 93, 2) := dz_16 (bX3_first_12 15 _ rfl) (bX3_first_13 0 _ rfl)
theorem dX3_first_209 : decode cX3_first 209 = .ok (.invokevirtual 352, 3) := dz_182 (bX3_first_13 1 _ rfl) (bX3_first_13 2 _ rfl) (bX3_first_13 3 _ rfl)
theorem dX3_first_212 : decode cX3_first 212 = .ok (.aload_n 0, 1) := dz_42 (bX3_first_13 4 _ rfl)
theorem dX3_first_213 : decode cX3_first 213 = .ok (.bipush 12, 2) := dz_16 (bX3_first_13 5 _ rfl) (bX3_first_13 6 _ rfl)
theorem dX3_first_215 : decode cX3_first 215 = .ok (.iload_n 2, 1) := dz_28 (bX3_first_13 7 _ rfl)
theorem dX3_first_216 : decode cX3_first 216 = .ok (.iconst 0, 1) := dz_3 (bX3_first_13 8 _ rfl)
theorem dX3_first_217 : decode cX3_first 217 = .ok (.iconst 0, 1) := dz_3 (bX3_first_13 9 _ rfl)
theorem dX3_first_218 : decode cX3_first 218 = .ok (.invokevirtual 308, 3) := dz_182 (bX3_first_13 10 _ rfl) (bX3_first_13 11 _ rfl) (bX3_first_13 12 _ rfl)
theorem dX3_first_221 : decode cX3_first 221 = .ok (.ireturn, 1) := dz_172 (bX3_first_13 13 _ rfl)
theorem dX3_first_222 : decode cX3_first 222 = .ok (.iload_n 1, 1) := dz_27 (bX3_first_13 14 _ rfl)
theorem dX3_first_223 : decode cX3_first 223 = .ok (.bipush 15, 2) := dz_16 (bX3_first_13 15 _ rfl) (bX3_first_14 0 _ rfl)
theorem dX3_first_225 : decode cX3_first 225 = .ok (.if_icmp .ne 14, 3) := dz_160 (bX3_first_14 1 _ rfl) (bX3_first_14 2 _ rfl) (bX3_first_14 3 _ rfl)
theorem dX3_first_228 : decode cX3_first 228 = .ok (.aload_n 0, 1) := dz_42 (bX3_first_14 4 _ rfl)
theorem dX3_first_229 : decode cX3_first 229 = .ok (.iconst 1, 1) := dz_4 (bX3_first_14 5 _ rfl)
theorem dX3_first_230 : decode cX3_first 230 = .ok (.iconst 0, 1) := dz_3 (bX3_first_14 6 _ rfl)
theorem dX3_first_231 : decode cX3_first 231 = .ok (.iconst 0, 1) := dz_3 (bX3_first_14 7 _ rfl)
theorem dX3_first_232 : decode cX3_first 232 = .ok (.iconst 0, 1) := dz_3 (bX3_first_14 8 _ rfl)
theorem dX3_first_233 : decode cX3_first 233 = .ok (.invokevirtual 308, 3) := dz_182 (bX3_first_14 9 _ rfl) (bX3_first_14 10 _ rfl) (bX3_first_14 11 _ rfl)
theorem dX3_first_236 : decode cX3_first 236 = .ok (.goto 56, 3) := dz_167 (bX3_first_14 12 _ rfl) (bX3_first_14 13 _ rfl) (bX3_first_14 14 _ rfl)
theorem dX3_first_239 : decode cX3_first 239 = .ok (.iload_n 1, 1) := dz_27 (bX3_first_14 15 _ rfl)
theorem dX3_first_240 : decode cX3_first 240 = .ok (.bipush 18, 2) := dz_16 (bX3_first_15 0 _ rfl) (bX3_first_15 1 _ rfl)
theorem dX3_first_242 : decode cX3_first 242 = .ok (.if_icmp .ne 14, 3) := dz_160 (bX3_first_15 2 _ rfl) (bX3_first_15 3 _ rfl) (bX3_first_15 4 _ rfl)
theorem dX3_first_245 : decode cX3_first 245 = .ok (.aload_n 0, 1) := dz_42 (bX3_first_15 5 _ rfl)
theorem dX3_first_246 : decode cX3_first 246 = .ok (.iconst 2, 1) := dz_5 (bX3_first_15 6 _ rfl)
theorem dX3_first_247 : decode cX3_first 247 = .ok (.iconst 0, 1) := dz_3 (bX3_first_15 7 _ rfl)
theorem dX3_first_248 : decode cX3_first 248 = .ok (.iconst 0, 1) := dz_3 (bX3_first_15 8 _ rfl)
theorem dX3_first_249 : decode cX3_first 249 = .ok (.iconst 0, 1) := dz_3 (bX3_first_15 9 _ rfl)
theorem dX3_first_250 : decode cX3_first 250 = .ok (.invokevirtual 308, 3) := dz_182 (bX3_first_15 10 _ rfl) (bX3_first_15 11 _ rfl) (bX3_first_15 12 _ rfl)
theorem dX3_first_253 : decode cX3_first 253 = .ok (.goto 39, 3) := dz_167 (bX3_first_15 13 _ rfl) (bX3_first_15 14 _ rfl) (bX3_first_15 15 _ rfl)
theorem dX3_first_256 : decode cX3_first 256 = .ok (.iload_n 1, 1) := dz_27 (bX3_first_16 0 _ rfl)
theorem dX3_first_257 : decode cX3_first 257 = .ok (.bipush 19, 2) := dz_16 (bX3_first_16 1 _ rfl) (bX3_first_16 2 _ rfl)
theorem dX3_first_259 : decode cX3_first 259 = .ok (.if_icmp .ne 14, 3) := dz_160 (bX3_first_16 3 _ rfl) (bX3_first_16 4 _ rfl) (bX3_first_16 5 _ rfl)
theorem dX3_first_262 : decode cX3_first 262 = .ok (.aload_n 0, 1) := dz_42 (bX3_first_16 6 _ rfl)
theorem dX3_first_263 : decode cX3_first 263 = .ok (.iconst 3, 1) := dz_6 (bX3_first_16 7 _ rfl)
theorem dX3_first_264 : decode cX3_first 264 = .ok (.iconst 0, 1) := dz_3 (bX3_first_16 8 _ rfl)
theorem dX3_first_265 : decode cX3_first 265 = .ok (.iconst 0, 1) := dz_3 (bX3_first_16 9 _ rfl)
theorem dX3_first_266 : decode cX3_first 266 = .ok (.iconst 0, 1) := dz_3 (bX3_first_16 10 _ rfl)
theorem dX3_first_267 : decode cX3_first 267 = .ok (.invokevirtual 308, 3) := dz_182 (bX3_first_16 11 _ rfl) (bX3_first_16 12 _ rfl) (bX3_first_16 13 _ rfl)
theorem dX3_first_270 : decode cX3_first 270 = .ok (.goto 22, 3) := dz_167 (bX3_first_16 14 _ rfl) (bX3_first_16 15 _ rfl) (bX3_first_17 0 _ rfl)
theorem dX3_first_273 : decode cX3_first 273 = .ok (.aload_n 0, 1) := dz_42 (bX3_first_17 1 _ rfl)
theorem dX3_first_274 : decode cX3_first 274 = .ok (.bipush 21, 2) := dz_16 (bX3_first_17 2 _ rfl) (bX3_first_17 3 _ rfl)
theorem dX3_first_276 : decode cX3_first 276 = .ok (.iconst 0, 1) := dz_3 (bX3_first_17 4 _ rfl)
theorem dX3_first_277 : decode cX3_first 277 = .ok (.iconst 0, 1) := dz_3 (bX3_first_17 5 _ rfl)
theorem dX3_first_278 : decode cX3_first 278 = .ok (.iload_n 1, 1) := dz_27 (bX3_first_17 6 _ rfl)
theorem dX3_first_279 : decode cX3_first 279 = .ok (.bipush 16, 2) := dz_16 (bX3_first_17 7 _ rfl) (bX3_first_17 8 _ rfl)
theorem dX3_first_281 : decode cX3_first 281 = .ok (.if_icmp .ne 7, 3) := dz_160 (bX3_first_17 9 _ rfl) (bX3_first_17 10 _ rfl) (bX3_first_17 11 _ rfl)
theorem dX3_first_284 : decode cX3_first 284 = .ok (.iconst 1, 1) := dz_4 (bX3_first_17 12 _ rfl)
theorem dX3_first_285 : decode cX3_first 285 = .ok (.goto 4, 3) := dz_167 (bX3_first_17 13 _ rfl) (bX3_first_17 14 _ rfl) (bX3_first_17 15 _ rfl)
theorem dX3_first_288 : decode cX3_first 288 = .ok (.iconst 0, 1) := dz_3 (bX3_first_18 0 _ rfl)
theorem dX3_first_289 : decode cX3_first 289 = .ok (.invokevirtual 308, 3) := dz_182 (bX3_first_18 1 _ rfl) (bX3_first_18 2 _ rfl) (bX3_first_18 3 _ rfl)
theorem dX3_first_292 : decode cX3_first 292 = .ok (.ireturn, 1) := dz_172 (bX3_first_18 4 _ rfl)
def m_X3_first_134 (rc : Nat → Int32 → Int32 → Int32 → ch_S → Option (Int32 × ch_S))   (σ : ch_S) : Option (Int32 × ch_S) := (m_X3_fails (σ.1 fX3_wordFrom) σ).bind fun p1 => some ((p1.1, p1.2))
theorem s_X3_first_134 {g : State} {d : Nat} {rc : Nat → Int32 → Int32 → Int32 → ch_S → Option (Int32 × ch_S)} {m : Nat} {w : ch_W} (hr0 : ∀ {σ : ch_S} {p : Int32 × ch_S} {Q : Outcome → ch_W → Prop}, rc 0 0 0 0 σ = some p → ch_eI Q (p.1, ch_put m w p.2) → ch_CT g false yX3_expression (d + 7) [.ref m] (ch_put m w σ) Q) (hr9 : ∀ {z0 : Int32} {z1 : Int32} {z2 : Int32} {σ : ch_S} {p : Int32 × ch_S} {Q : Outcome → ch_W → Prop}, rc 9 z0 z1 z2 σ = some p → ch_eI Q (p.1, ch_put m w p.2) → ch_CT g false yX3_called (d + 7) [.ref m, .int z0, .int z1, .int z2] (ch_put m w σ) Q)  {σ : ch_S} {res : Int32 × ch_S} {Q : Outcome → ch_W → Prop} (h : m_X3_first_134 rc σ = some res) (hk : (fun r => ch_eI Q (r.1, ch_put m w r.2)) res) : ch_FT g false mX3_first (d + 8) 134 [some (va_rf (some m)), none, none] [] (ch_put m w σ) Q := by
  unfold m_X3_first_134 at h
  obtain ⟨p1, hp2, h⟩ := ch_bd h
  refine ch_aload_n 0 (some m) dX3_first_134 rfl (ch_aload_n 0 (some m) dX3_first_135 rfl (mp_gI 6 dX3_first_136 fl_X3_246 rfl (ch_iv yX3_fails prog_14_method_13_code 2 (some .int) (ci := 3) (q := (RX3, TX3, 109)) (b := m) (d' := 2) (av := [.int (σ.1 fX3_wordFrom)]) (rest := []) rfl dX3_first_139 q1930 q1932 rfl qs112 q1933 can_X3_fails (Nat.le_trans (Nat.le_of_ble_eq_true rfl) (Nat.le_add_left 8 d)) (Nat.le_of_ble_eq_true rfl) ch_put_tag (cp_kI (v := p1.1) (w1 := ch_put m w p1.2) (fun Q' hq => s_X3_fails hp2 hq) ?_))))
  obtain rfl := Option.some.inj h
  exact ch_ireturn _ dX3_first_142 rfl rfl hk

def m_X3_first_289 (rc : Nat → Int32 → Int32 → Int32 → ch_S → Option (Int32 × ch_S))  (y0 : Int32) (y1 : Int32) (y2 : Int32) (y3 : Int32) (σ : ch_S) : Option (Int32 × ch_S) := (m_X3_node y3 y2 y1 y0 σ).bind fun p1 => some ((p1.1, p1.2))
theorem s_X3_first_289 {g : State} {d : Nat} {rc : Nat → Int32 → Int32 → Int32 → ch_S → Option (Int32 × ch_S)} {m : Nat} {w : ch_W} (hr0 : ∀ {σ : ch_S} {p : Int32 × ch_S} {Q : Outcome → ch_W → Prop}, rc 0 0 0 0 σ = some p → ch_eI Q (p.1, ch_put m w p.2) → ch_CT g false yX3_expression (d + 7) [.ref m] (ch_put m w σ) Q) (hr9 : ∀ {z0 : Int32} {z1 : Int32} {z2 : Int32} {σ : ch_S} {p : Int32 × ch_S} {Q : Outcome → ch_W → Prop}, rc 9 z0 z1 z2 σ = some p → ch_eI Q (p.1, ch_put m w p.2) → ch_CT g false yX3_called (d + 7) [.ref m, .int z0, .int z1, .int z2] (ch_put m w σ) Q)  {y0 : Int32} {y1 : Int32} {y2 : Int32} {y3 : Int32} {σ : ch_S} {res : Int32 × ch_S} {Q : Outcome → ch_W → Prop} (h : m_X3_first_289 rc y0 y1 y2 y3 σ = some res) (hk : (fun r => ch_eI Q (r.1, ch_put m w r.2)) res) : ch_FT g false mX3_first (d + 8) 289 [none, none, none] [.int y0, .int y1, .int y2, .int y3, va_rf (some m)] (ch_put m w σ) Q := by
  unfold m_X3_first_289 at h
  obtain ⟨p1, hp2, h⟩ := ch_bd h
  refine ch_iv yX3_node prog_14_method_20_code 5 (some .int) (ci := 3) (q := (RX3, TX3, 109)) (b := m) (d' := 2) (av := [.int y3, .int y2, .int y1, .int y0]) (rest := []) rfl dX3_first_289 q2018 q2020 rfl qs134 q2021 can_X3_node (Nat.le_trans (Nat.le_of_ble_eq_true rfl) (Nat.le_add_left 8 d)) (Nat.le_of_ble_eq_true rfl) ch_put_tag (cp_kI (v := p1.1) (w1 := ch_put m w p1.2) (fun Q' hq => s_X3_node hp2 hq) ?_)
  obtain rfl := Option.some.inj h
  exact ch_ireturn _ dX3_first_292 rfl rfl hk

def m_X3_first_205 (rc : Nat → Int32 → Int32 → Int32 → ch_S → Option (Int32 × ch_S))  (y0 : Int32) (σ : ch_S) : Option (Int32 × ch_S) := (m_X3_closes 93 σ).bind fun p1 => (m_X3_node 12 y0 0 0 p1).bind fun p3 => some ((p3.1, p3.2))
theorem s_X3_first_205 {g : State} {d : Nat} {rc : Nat → Int32 → Int32 → Int32 → ch_S → Option (Int32 × ch_S)} {m : Nat} {w : ch_W} (hr0 : ∀ {σ : ch_S} {p : Int32 × ch_S} {Q : Outcome → ch_W → Prop}, rc 0 0 0 0 σ = some p → ch_eI Q (p.1, ch_put m w p.2) → ch_CT g false yX3_expression (d + 7) [.ref m] (ch_put m w σ) Q) (hr9 : ∀ {z0 : Int32} {z1 : Int32} {z2 : Int32} {σ : ch_S} {p : Int32 × ch_S} {Q : Outcome → ch_W → Prop}, rc 9 z0 z1 z2 σ = some p → ch_eI Q (p.1, ch_put m w p.2) → ch_CT g false yX3_called (d + 7) [.ref m, .int z0, .int z1, .int z2] (ch_put m w σ) Q)  {y0 : Int32} {σ : ch_S} {res : Int32 × ch_S} {Q : Outcome → ch_W → Prop} (h : m_X3_first_205 rc y0 σ = some res) (hk : (fun r => ch_eI Q (r.1, ch_put m w r.2)) res) : ch_FT g false mX3_first (d + 8) 205 [some (va_rf (some m)), none, none] [.int y0] (ch_put m w σ) Q := by
  unfold m_X3_first_205 at h
  obtain ⟨p1, hp2, h⟩ := ch_bd h
  refine ch_istore_n 2 _ (ls1 := [some (va_rf (some m)), none, some (.int y0)]) dX3_first_205 (Nat.le_of_ble_eq_true rfl) rfl (ch_aload_n 0 (some m) dX3_first_206 rfl (ch_bipush _ 93 dX3_first_207 rfl (ch_iv yX3_closes prog_14_method_18_code 2 none (ci := 3) (q := (RX3, TX3, 109)) (b := m) (d' := 6) (av := [.int 93]) (rest := []) rfl dX3_first_209 q1962 q1964 rfl qs120 q1965 can_X3_closes (Nat.le_trans (Nat.le_of_ble_eq_true rfl) (Nat.le_add_left 8 d)) (Nat.le_of_ble_eq_true rfl) ch_put_tag (cp_kV (w1 := ch_put m w p1) (fun Q' hq => s_X3_closes hp2 hq) ?_))))
  obtain ⟨p3, hp4, h⟩ := ch_bd h
  refine ch_aload_n 0 (some m) dX3_first_212 rfl (ch_bipush _ 12 dX3_first_213 rfl (ch_iload_n 2 _ dX3_first_215 rfl (ch_iconst _ 0 dX3_first_216 rfl (ch_iconst _ 0 dX3_first_217 rfl (ch_iv yX3_node prog_14_method_20_code 5 (some .int) (ci := 3) (q := (RX3, TX3, 109)) (b := m) (d' := 2) (av := [.int 12, .int y0, .int 0, .int 0]) (rest := []) rfl dX3_first_218 q2018 q2020 rfl qs134 q2021 can_X3_node (Nat.le_trans (Nat.le_of_ble_eq_true rfl) (Nat.le_add_left 8 d)) (Nat.le_of_ble_eq_true rfl) ch_put_tag (cp_kI (v := p3.1) (w1 := ch_put m w p3.2) (fun Q' hq => s_X3_node hp4 hq) ?_))))))
  obtain rfl := Option.some.inj h
  exact ch_ireturn _ dX3_first_221 rfl rfl hk

def m_X3_first (rc : Nat → Int32 → Int32 → Int32 → ch_S → Option (Int32 × ch_S))  (σ : ch_S) : Option (Int32 × ch_S) := if (σ.1 fX3_wrong) < 0 then (if (σ.1 fX3_word) = 3 then ((m_X3_next σ).bind fun p41 => (m_X3_node 0 0 0 (σ.1 fX3_wordValue) p41).bind fun p43 => some ((p43.1, p43.2))) else (if (σ.1 fX3_word) = 2 then ((m_X3_name σ).bind fun p33 => (m_X3_isSign 40 p33.2).bind fun v35 => if v35 = 0 then ((m_X3_node 4 0 0 p33.1 p33.2).bind fun p37 => some ((p37.1, p37.2))) else ((rc 9 9 (-1) p33.1 p33.2).bind fun p39 => some ((p39.1, p39.2)))) else ((m_X3_isSign 40 σ).bind fun v1 => if v1 = 0 then (if (σ.1 fX3_word) = 5 then ((m_X3_isIn (Int32.toInt64 (σ.1 fX3_wordValue)) 14 19 σ).bind fun v3 => if v3 = 0 then (m_X3_first_134 rc σ) else ((m_X3_next σ).bind fun p5 => if (σ.1 fX3_wordValue) = 14 then ((m_X3_isKey 4 p5).bind fun v13 => if v13 = 0 then ((m_X3_name p5).bind fun p23 => (m_X3_node 5 0 0 p23.1 p23.2).bind fun p25 => some ((p25.1, p25.2))) else ((m_X3_next p5).bind fun p15 => (m_X3_isSign 91 p15).bind fun v17 => (m_X3_opens v17 p15).bind fun p19 => if p19.1 = 0 then (m_X3_first_205 rc (-1) p19.2) else ((rc 0 0 0 0 p19.2).bind fun p21 => m_X3_first_205 rc p21.1 p21.2))) else (if (σ.1 fX3_wordValue) = 15 then ((m_X3_node 1 0 0 0 p5).bind fun p11 => some ((p11.1, p11.2))) else (if (σ.1 fX3_wordValue) = 18 then ((m_X3_node 2 0 0 0 p5).bind fun p9 => some ((p9.1, p9.2))) else (if (σ.1 fX3_wordValue) = 19 then ((m_X3_node 3 0 0 0 p5).bind fun p7 => some ((p7.1, p7.2))) else (if (σ.1 fX3_wordValue) = 16 then (m_X3_first_289 rc 1 0 0 21 p5) else (m_X3_first_289 rc 0 0 0 21 p5))))))) else (m_X3_first_134 rc σ)) else ((m_X3_opens 1 σ).bind fun p27 => if p27.1 = 0 then (some (((-1), p27.2))) else ((rc 0 0 0 0 p27.2).bind fun p29 => (m_X3_closes 41 p29.2).bind fun p31 => some ((p29.1, p31))))))) else (some (((-1), σ)))
theorem s_X3_first {g : State} {d : Nat} {rc : Nat → Int32 → Int32 → Int32 → ch_S → Option (Int32 × ch_S)} {m : Nat} {w : ch_W} (hr0 : ∀ {σ : ch_S} {p : Int32 × ch_S} {Q : Outcome → ch_W → Prop}, rc 0 0 0 0 σ = some p → ch_eI Q (p.1, ch_put m w p.2) → ch_CT g false yX3_expression (d + 7) [.ref m] (ch_put m w σ) Q) (hr9 : ∀ {z0 : Int32} {z1 : Int32} {z2 : Int32} {σ : ch_S} {p : Int32 × ch_S} {Q : Outcome → ch_W → Prop}, rc 9 z0 z1 z2 σ = some p → ch_eI Q (p.1, ch_put m w p.2) → ch_CT g false yX3_called (d + 7) [.ref m, .int z0, .int z1, .int z2] (ch_put m w σ) Q)  {σ : ch_S} {res : Int32 × ch_S} {Q : Outcome → ch_W → Prop} (h : m_X3_first rc σ = some res) (hk : (fun r => ch_eI Q (r.1, ch_put m w r.2)) res) : ch_CT g false yX3_first (d + 8) [.ref m] (ch_put m w σ) Q := by
  unfold m_X3_first at h
  refine ch_ctL mX3_first (ls := [some (va_rf (some m)), none, none]) q2017 rfl (ch_lyr (r := some m) ch_ly0) (Nat.le_of_ble_eq_true rfl) rfl ?_
  refine ch_aload_n 0 (some m) dX3_first_0 rfl (mp_gI 9 dX3_first_1 fl_X3_283 rfl (cp_if_lt _ (tgt := 9) dX3_first_4 rfl h (fun h => ?_) (fun h => ?_)))
  · refine ch_aload_n 0 (some m) dX3_first_9 rfl (mp_gI 5 dX3_first_10 fl_X3_263 rfl (ch_iconst _ 3 dX3_first_13 rfl (cp_icmp_ne _ _ (tgt := 35) dX3_first_14 rfl h (fun h => ?_) (fun h => ?_))))
    · refine ch_aload_n 0 (some m) dX3_first_35 rfl (mp_gI 5 dX3_first_36 fl_X3_263 rfl (ch_iconst _ 2 dX3_first_39 rfl (cp_icmp_ne _ _ (tgt := 77) dX3_first_40 rfl h (fun h => ?_) (fun h => ?_))))
      · obtain ⟨v1, hp2, h⟩ := ch_bd h
        refine ch_aload_n 0 (some m) dX3_first_77 rfl (ch_bipush _ 40 dX3_first_78 rfl (ch_iv yX3_isSign prog_14_method_14_code 2 (some .boolean) (ci := 3) (q := (RX3, TX3, 109)) (b := m) (d' := 2) (av := [.int 40]) (rest := []) rfl dX3_first_80 q1942 q1944 rfl qs115 q1945 can_X3_isSign (Nat.le_trans (Nat.le_of_ble_eq_true rfl) (Nat.le_add_left 8 d)) (Nat.le_of_ble_eq_true rfl) ch_put_tag (cp_kI (v := v1) (w1 := ch_put m w σ) (fun Q' hq => s_X3_isSign hp2 hq) ?_)))
        refine cp_if_eq _ (tgt := 109) dX3_first_83 rfl h (fun h => ?_) (fun h => ?_)
        · refine ch_aload_n 0 (some m) dX3_first_109 rfl (mp_gI 5 dX3_first_110 fl_X3_263 rfl (ch_iconst _ 5 dX3_first_113 rfl (cp_icmp_ne _ _ (tgt := 134) dX3_first_114 rfl h (fun h => ?_) (fun h => ?_))))
          · exact ch_FT.wk (ch_wS (ch_wN (ch_wN ch_w0))) (s_X3_first_134 hr0 hr9 h hk)
          · obtain ⟨v3, hp4, h⟩ := ch_bd h
            refine ch_aload_n 0 (some m) dX3_first_117 rfl (mp_gI 8 dX3_first_118 fl_X3_256 rfl (ch_i2l _ dX3_first_121 (ch_ldc2 362 14 dX3_first_122 q2026 (ch_ldc2 364 19 dX3_first_125 q2027 (ch_is yX3_isIn prog_14_method_4_code 6 (some .boolean) (d' := 2) (av := [.long (Int32.toInt64 (σ.1 fX3_wordValue)), .long 14, .long 19]) (rest := []) rfl dX3_first_128 q1897 q1898 q206 q1899 can_X3_isIn (Nat.le_trans (Nat.le_of_ble_eq_true rfl) (Nat.le_add_left 8 d)) (Nat.le_of_ble_eq_true rfl) (cp_kI (v := v3) (w1 := ch_put m w σ) (fun Q' hq => s_X3_isIn hp4 hq) ?_))))))
            refine cp_if_ne _ (tgt := 143) dX3_first_131 rfl h (fun h => ?_) (fun h => ?_)
            · obtain ⟨p5, hp6, h⟩ := ch_bd h
              refine ch_aload_n 0 (some m) dX3_first_143 rfl (mp_gI 8 dX3_first_144 fl_X3_256 rfl (ch_istore_n 1 _ (ls1 := [some (va_rf (some m)), some (.int (σ.1 fX3_wordValue)), none]) dX3_first_147 (Nat.le_of_ble_eq_true rfl) rfl (ch_aload_n 0 (some m) dX3_first_148 rfl (ch_iv yX3_next prog_14_method_12_code 4 none (ci := 3) (q := (RX3, TX3, 109)) (b := m) (d' := 4) (av := []) (rest := []) rfl dX3_first_149 q1884 q1886 rfl qs105 q1887 can_X3_next (Nat.le_trans (Nat.le_of_ble_eq_true rfl) (Nat.le_add_left 8 d)) (Nat.le_of_ble_eq_true rfl) ch_put_tag (cp_kV (w1 := ch_put m w p5) (fun Q' hq => s_X3_next hp6 hq) ?_)))))
              refine ch_iload_n 1 _ dX3_first_152 rfl (ch_bipush _ 14 dX3_first_153 rfl (cp_icmp_ne _ _ (tgt := 222) dX3_first_155 rfl h (fun h => ?_) (fun h => ?_)))
              · refine ch_iload_n 1 _ dX3_first_222 rfl (ch_bipush _ 15 dX3_first_223 rfl (cp_icmp_ne _ _ (tgt := 239) dX3_first_225 rfl h (fun h => ?_) (fun h => ?_)))
                · refine ch_iload_n 1 _ dX3_first_239 rfl (ch_bipush _ 18 dX3_first_240 rfl (cp_icmp_ne _ _ (tgt := 256) dX3_first_242 rfl h (fun h => ?_) (fun h => ?_)))
                  · refine ch_iload_n 1 _ dX3_first_256 rfl (ch_bipush _ 19 dX3_first_257 rfl (cp_icmp_ne _ _ (tgt := 273) dX3_first_259 rfl h (fun h => ?_) (fun h => ?_)))
                    · refine ch_aload_n 0 (some m) dX3_first_273 rfl (ch_bipush _ 21 dX3_first_274 rfl (ch_iconst _ 0 dX3_first_276 rfl (ch_iconst _ 0 dX3_first_277 rfl (ch_iload_n 1 _ dX3_first_278 rfl (ch_bipush _ 16 dX3_first_279 rfl (cp_icmp_ne _ _ (tgt := 288) dX3_first_281 rfl h (fun h => ?_) (fun h => ?_)))))))
                      · exact ch_iconst _ 0 dX3_first_288 rfl (ch_FT.wk (ch_wN (ch_wN (ch_wN ch_w0))) (s_X3_first_289 hr0 hr9 h hk))
                      · exact ch_iconst _ 1 dX3_first_284 rfl (ch_goto 289 dX3_first_285 rfl (ch_FT.wk (ch_wN (ch_wN (ch_wN ch_w0))) (s_X3_first_289 hr0 hr9 h hk)))
                    · obtain ⟨p7, hp8, h⟩ := ch_bd h
                      refine ch_aload_n 0 (some m) dX3_first_262 rfl (ch_iconst _ 3 dX3_first_263 rfl (ch_iconst _ 0 dX3_first_264 rfl (ch_iconst _ 0 dX3_first_265 rfl (ch_iconst _ 0 dX3_first_266 rfl (ch_iv yX3_node prog_14_method_20_code 5 (some .int) (ci := 3) (q := (RX3, TX3, 109)) (b := m) (d' := 2) (av := [.int 3, .int 0, .int 0, .int 0]) (rest := []) rfl dX3_first_267 q2018 q2020 rfl qs134 q2021 can_X3_node (Nat.le_trans (Nat.le_of_ble_eq_true rfl) (Nat.le_add_left 8 d)) (Nat.le_of_ble_eq_true rfl) ch_put_tag (cp_kI (v := p7.1) (w1 := ch_put m w p7.2) (fun Q' hq => s_X3_node hp8 hq) ?_))))))
                      obtain rfl := Option.some.inj h
                      exact ch_goto 292 dX3_first_270 rfl (ch_ireturn _ dX3_first_292 rfl rfl hk)
                  · obtain ⟨p9, hp10, h⟩ := ch_bd h
                    refine ch_aload_n 0 (some m) dX3_first_245 rfl (ch_iconst _ 2 dX3_first_246 rfl (ch_iconst _ 0 dX3_first_247 rfl (ch_iconst _ 0 dX3_first_248 rfl (ch_iconst _ 0 dX3_first_249 rfl (ch_iv yX3_node prog_14_method_20_code 5 (some .int) (ci := 3) (q := (RX3, TX3, 109)) (b := m) (d' := 2) (av := [.int 2, .int 0, .int 0, .int 0]) (rest := []) rfl dX3_first_250 q2018 q2020 rfl qs134 q2021 can_X3_node (Nat.le_trans (Nat.le_of_ble_eq_true rfl) (Nat.le_add_left 8 d)) (Nat.le_of_ble_eq_true rfl) ch_put_tag (cp_kI (v := p9.1) (w1 := ch_put m w p9.2) (fun Q' hq => s_X3_node hp10 hq) ?_))))))
                    obtain rfl := Option.some.inj h
                    exact ch_goto 292 dX3_first_253 rfl (ch_ireturn _ dX3_first_292 rfl rfl hk)
                · obtain ⟨p11, hp12, h⟩ := ch_bd h
                  refine ch_aload_n 0 (some m) dX3_first_228 rfl (ch_iconst _ 1 dX3_first_229 rfl (ch_iconst _ 0 dX3_first_230 rfl (ch_iconst _ 0 dX3_first_231 rfl (ch_iconst _ 0 dX3_first_232 rfl (ch_iv yX3_node prog_14_method_20_code 5 (some .int) (ci := 3) (q := (RX3, TX3, 109)) (b := m) (d' := 2) (av := [.int 1, .int 0, .int 0, .int 0]) (rest := []) rfl dX3_first_233 q2018 q2020 rfl qs134 q2021 can_X3_node (Nat.le_trans (Nat.le_of_ble_eq_true rfl) (Nat.le_add_left 8 d)) (Nat.le_of_ble_eq_true rfl) ch_put_tag (cp_kI (v := p11.1) (w1 := ch_put m w p11.2) (fun Q' hq => s_X3_node hp12 hq) ?_))))))
                  obtain rfl := Option.some.inj h
                  exact ch_goto 292 dX3_first_236 rfl (ch_ireturn _ dX3_first_292 rfl rfl hk)
              · obtain ⟨v13, hp14, h⟩ := ch_bd h
                refine ch_aload_n 0 (some m) dX3_first_158 rfl (ch_iconst _ 4 dX3_first_159 rfl (ch_iv yX3_isKey prog_14_method_15_code 2 (some .boolean) (ci := 3) (q := (RX3, TX3, 109)) (b := m) (d' := 2) (av := [.int 4]) (rest := []) rfl dX3_first_160 q1922 q1924 rfl qs110 q1925 can_X3_isKey (Nat.le_trans (Nat.le_of_ble_eq_true rfl) (Nat.le_add_left 8 d)) (Nat.le_of_ble_eq_true rfl) ch_put_tag (cp_kI (v := v13) (w1 := ch_put m w p5) (fun Q' hq => s_X3_isKey hp14 hq) ?_)))
                refine cp_if_ne _ (tgt := 180) dX3_first_163 rfl h (fun h => ?_) (fun h => ?_)
                · obtain ⟨p15, hp16, h⟩ := ch_bd h
                  refine ch_aload_n 0 (some m) dX3_first_180 rfl (ch_iv yX3_next prog_14_method_12_code 4 none (ci := 3) (q := (RX3, TX3, 109)) (b := m) (d' := 4) (av := []) (rest := []) rfl dX3_first_181 q1884 q1886 rfl qs105 q1887 can_X3_next (Nat.le_trans (Nat.le_of_ble_eq_true rfl) (Nat.le_add_left 8 d)) (Nat.le_of_ble_eq_true rfl) ch_put_tag (cp_kV (w1 := ch_put m w p15) (fun Q' hq => s_X3_next hp16 hq) ?_))
                  obtain ⟨v17, hp18, h⟩ := ch_bd h
                  refine ch_aload_n 0 (some m) dX3_first_184 rfl (ch_aload_n 0 (some m) dX3_first_185 rfl (ch_bipush _ 91 dX3_first_186 rfl (ch_iv yX3_isSign prog_14_method_14_code 2 (some .boolean) (ci := 3) (q := (RX3, TX3, 109)) (b := m) (d' := 2) (av := [.int 91]) (rest := [va_rf (some m)]) rfl dX3_first_188 q1942 q1944 rfl qs115 q1945 can_X3_isSign (Nat.le_trans (Nat.le_of_ble_eq_true rfl) (Nat.le_add_left 8 d)) (ch_hw (Nat.le_of_ble_eq_true rfl)) ch_put_tag (cp_kI (v := v17) (w1 := ch_put m w p15) (fun Q' hq => s_X3_isSign hp18 hq) ?_))))
                  obtain ⟨p19, hp20, h⟩ := ch_bd h
                  refine ch_iv yX3_opens prog_14_method_17_code 3 (some .boolean) (ci := 3) (q := (RX3, TX3, 109)) (b := m) (d' := 5) (av := [.int v17]) (rest := []) rfl dX3_first_191 q1946 q1948 rfl qs116 q1949 can_X3_opens (Nat.le_trans (Nat.le_of_ble_eq_true rfl) (Nat.le_add_left 8 d)) (Nat.le_of_ble_eq_true rfl) ch_put_tag (cp_kI (v := p19.1) (w1 := ch_put m w p19.2) (fun Q' hq => s_X3_opens hp20 hq) ?_)
                  refine cp_if_eq _ (tgt := 204) dX3_first_194 rfl h (fun h => ?_) (fun h => ?_)
                  · exact ch_iconst _ (-1) dX3_first_204 rfl (ch_FT.wk (ch_wS (ch_wN (ch_wN ch_w0))) (s_X3_first_205 hr0 hr9 h hk))
                  · obtain ⟨p21, hp22, h⟩ := ch_bd h
                    refine ch_aload_n 0 (some m) dX3_first_197 rfl (ch_iv yX3_expression prog_14_method_21_code 3 (some .int) (ci := 3) (q := (RX3, TX3, 109)) (b := m) (d' := (d + 7)) (av := []) (rest := []) rfl dX3_first_198 q1982 q1984 rfl qs125 q1985 can_X3_expression (Nat.le_refl _) (Nat.le_of_ble_eq_true rfl) ch_put_tag (cp_kI (v := p21.1) (w1 := ch_put m w p21.2) (fun Q' hq => hr0 hp22 hq) ?_))
                    exact ch_goto 205 dX3_first_201 rfl (ch_FT.wk (ch_wS (ch_wN (ch_wN ch_w0))) (s_X3_first_205 hr0 hr9 h hk))
                · obtain ⟨p23, hp24, h⟩ := ch_bd h
                  refine ch_aload_n 0 (some m) dX3_first_166 rfl (ch_iv yX3_name prog_14_method_19_code 2 (some .int) (ci := 3) (q := (RX3, TX3, 109)) (b := m) (d' := 6) (av := []) (rest := []) rfl dX3_first_167 q1938 q1940 rfl qs114 q1941 can_X3_name (Nat.le_trans (Nat.le_of_ble_eq_true rfl) (Nat.le_add_left 8 d)) (Nat.le_of_ble_eq_true rfl) ch_put_tag (cp_kI (v := p23.1) (w1 := ch_put m w p23.2) (fun Q' hq => s_X3_name hp24 hq) ?_))
                  obtain ⟨p25, hp26, h⟩ := ch_bd h
                  refine ch_istore_n 2 _ (ls1 := [some (va_rf (some m)), some (.int (σ.1 fX3_wordValue)), some (.int p23.1)]) dX3_first_170 (Nat.le_of_ble_eq_true rfl) rfl (ch_aload_n 0 (some m) dX3_first_171 rfl (ch_iconst _ 5 dX3_first_172 rfl (ch_iconst _ 0 dX3_first_173 rfl (ch_iconst _ 0 dX3_first_174 rfl (ch_iload_n 2 _ dX3_first_175 rfl (ch_iv yX3_node prog_14_method_20_code 5 (some .int) (ci := 3) (q := (RX3, TX3, 109)) (b := m) (d' := 2) (av := [.int 5, .int 0, .int 0, .int p23.1]) (rest := []) rfl dX3_first_176 q2018 q2020 rfl qs134 q2021 can_X3_node (Nat.le_trans (Nat.le_of_ble_eq_true rfl) (Nat.le_add_left 8 d)) (Nat.le_of_ble_eq_true rfl) ch_put_tag (cp_kI (v := p25.1) (w1 := ch_put m w p25.2) (fun Q' hq => s_X3_node hp26 hq) ?_)))))))
                  obtain rfl := Option.some.inj h
                  exact ch_ireturn _ dX3_first_179 rfl rfl hk
            · exact ch_FT.wk (ch_wS (ch_wN (ch_wN ch_w0))) (s_X3_first_134 hr0 hr9 h hk)
        · obtain ⟨p27, hp28, h⟩ := ch_bd h
          refine ch_aload_n 0 (some m) dX3_first_86 rfl (ch_iconst _ 1 dX3_first_87 rfl (ch_iv yX3_opens prog_14_method_17_code 3 (some .boolean) (ci := 3) (q := (RX3, TX3, 109)) (b := m) (d' := 5) (av := [.int 1]) (rest := []) rfl dX3_first_88 q1946 q1948 rfl qs116 q1949 can_X3_opens (Nat.le_trans (Nat.le_of_ble_eq_true rfl) (Nat.le_add_left 8 d)) (Nat.le_of_ble_eq_true rfl) ch_put_tag (cp_kI (v := p27.1) (w1 := ch_put m w p27.2) (fun Q' hq => s_X3_opens hp28 hq) ?_)))
          refine cp_if_ne _ (tgt := 96) dX3_first_91 rfl h (fun h => ?_) (fun h => ?_)
          · obtain ⟨p29, hp30, h⟩ := ch_bd h
            refine ch_aload_n 0 (some m) dX3_first_96 rfl (ch_iv yX3_expression prog_14_method_21_code 3 (some .int) (ci := 3) (q := (RX3, TX3, 109)) (b := m) (d' := (d + 7)) (av := []) (rest := []) rfl dX3_first_97 q1982 q1984 rfl qs125 q1985 can_X3_expression (Nat.le_refl _) (Nat.le_of_ble_eq_true rfl) ch_put_tag (cp_kI (v := p29.1) (w1 := ch_put m w p29.2) (fun Q' hq => hr0 hp30 hq) ?_))
            obtain ⟨p31, hp32, h⟩ := ch_bd h
            refine ch_istore_n 1 _ (ls1 := [some (va_rf (some m)), some (.int p29.1), none]) dX3_first_100 (Nat.le_of_ble_eq_true rfl) rfl (ch_aload_n 0 (some m) dX3_first_101 rfl (ch_bipush _ 41 dX3_first_102 rfl (ch_iv yX3_closes prog_14_method_18_code 2 none (ci := 3) (q := (RX3, TX3, 109)) (b := m) (d' := 6) (av := [.int 41]) (rest := []) rfl dX3_first_104 q1962 q1964 rfl qs120 q1965 can_X3_closes (Nat.le_trans (Nat.le_of_ble_eq_true rfl) (Nat.le_add_left 8 d)) (Nat.le_of_ble_eq_true rfl) ch_put_tag (cp_kV (w1 := ch_put m w p31) (fun Q' hq => s_X3_closes hp32 hq) ?_))))
            obtain rfl := Option.some.inj h
            exact ch_iload_n 1 _ dX3_first_107 rfl (ch_ireturn _ dX3_first_108 rfl rfl hk)
          · obtain rfl := Option.some.inj h
            exact ch_iconst _ (-1) dX3_first_94 rfl (ch_ireturn _ dX3_first_95 rfl rfl hk)
      · obtain ⟨p33, hp34, h⟩ := ch_bd h
        refine ch_aload_n 0 (some m) dX3_first_43 rfl (ch_iv yX3_name prog_14_method_19_code 2 (some .int) (ci := 3) (q := (RX3, TX3, 109)) (b := m) (d' := 6) (av := []) (rest := []) rfl dX3_first_44 q1938 q1940 rfl qs114 q1941 can_X3_name (Nat.le_trans (Nat.le_of_ble_eq_true rfl) (Nat.le_add_left 8 d)) (Nat.le_of_ble_eq_true rfl) ch_put_tag (cp_kI (v := p33.1) (w1 := ch_put m w p33.2) (fun Q' hq => s_X3_name hp34 hq) ?_))
        obtain ⟨v35, hp36, h⟩ := ch_bd h
        refine ch_istore_n 1 _ (ls1 := [some (va_rf (some m)), some (.int p33.1), none]) dX3_first_47 (Nat.le_of_ble_eq_true rfl) rfl (ch_aload_n 0 (some m) dX3_first_48 rfl (ch_bipush _ 40 dX3_first_49 rfl (ch_iv yX3_isSign prog_14_method_14_code 2 (some .boolean) (ci := 3) (q := (RX3, TX3, 109)) (b := m) (d' := 2) (av := [.int 40]) (rest := []) rfl dX3_first_51 q1942 q1944 rfl qs115 q1945 can_X3_isSign (Nat.le_trans (Nat.le_of_ble_eq_true rfl) (Nat.le_add_left 8 d)) (Nat.le_of_ble_eq_true rfl) ch_put_tag (cp_kI (v := v35) (w1 := ch_put m w p33.2) (fun Q' hq => s_X3_isSign hp36 hq) ?_))))
        refine cp_if_eq _ (tgt := 68) dX3_first_54 rfl h (fun h => ?_) (fun h => ?_)
        · obtain ⟨p37, hp38, h⟩ := ch_bd h
          refine ch_aload_n 0 (some m) dX3_first_68 rfl (ch_iconst _ 4 dX3_first_69 rfl (ch_iconst _ 0 dX3_first_70 rfl (ch_iconst _ 0 dX3_first_71 rfl (ch_iload_n 1 _ dX3_first_72 rfl (ch_iv yX3_node prog_14_method_20_code 5 (some .int) (ci := 3) (q := (RX3, TX3, 109)) (b := m) (d' := 2) (av := [.int 4, .int 0, .int 0, .int p33.1]) (rest := []) rfl dX3_first_73 q2018 q2020 rfl qs134 q2021 can_X3_node (Nat.le_trans (Nat.le_of_ble_eq_true rfl) (Nat.le_add_left 8 d)) (Nat.le_of_ble_eq_true rfl) ch_put_tag (cp_kI (v := p37.1) (w1 := ch_put m w p37.2) (fun Q' hq => s_X3_node hp38 hq) ?_))))))
          obtain rfl := Option.some.inj h
          exact ch_ireturn _ dX3_first_76 rfl rfl hk
        · obtain ⟨p39, hp40, h⟩ := ch_bd h
          refine ch_aload_n 0 (some m) dX3_first_57 rfl (ch_bipush _ 9 dX3_first_58 rfl (ch_iconst _ (-1) dX3_first_60 rfl (ch_iload_n 1 _ dX3_first_61 rfl (ch_iv yX3_called prog_14_method_30_code 9 (some .int) (ci := 3) (q := (RX3, TX3, 109)) (b := m) (d' := (d + 7)) (av := [.int 9, .int (-1), .int p33.1]) (rest := []) rfl dX3_first_62 q2022 q2024 rfl qs135 q2025 can_X3_called (Nat.le_refl _) (Nat.le_of_ble_eq_true rfl) ch_put_tag (cp_kI (v := p39.1) (w1 := ch_put m w p39.2) (fun Q' hq => hr9 hp40 hq) ?_)))))
          obtain rfl := Option.some.inj h
          exact ch_goto 76 dX3_first_65 rfl (ch_ireturn _ dX3_first_76 rfl rfl hk)
    · obtain ⟨p41, hp42, h⟩ := ch_bd h
      refine ch_aload_n 0 (some m) dX3_first_17 rfl (mp_gI 8 dX3_first_18 fl_X3_256 rfl (ch_istore_n 1 _ (ls1 := [some (va_rf (some m)), some (.int (σ.1 fX3_wordValue)), none]) dX3_first_21 (Nat.le_of_ble_eq_true rfl) rfl (ch_aload_n 0 (some m) dX3_first_22 rfl (ch_iv yX3_next prog_14_method_12_code 4 none (ci := 3) (q := (RX3, TX3, 109)) (b := m) (d' := 4) (av := []) (rest := []) rfl dX3_first_23 q1884 q1886 rfl qs105 q1887 can_X3_next (Nat.le_trans (Nat.le_of_ble_eq_true rfl) (Nat.le_add_left 8 d)) (Nat.le_of_ble_eq_true rfl) ch_put_tag (cp_kV (w1 := ch_put m w p41) (fun Q' hq => s_X3_next hp42 hq) ?_)))))
      obtain ⟨p43, hp44, h⟩ := ch_bd h
      refine ch_aload_n 0 (some m) dX3_first_26 rfl (ch_iconst _ 0 dX3_first_27 rfl (ch_iconst _ 0 dX3_first_28 rfl (ch_iconst _ 0 dX3_first_29 rfl (ch_iload_n 1 _ dX3_first_30 rfl (ch_iv yX3_node prog_14_method_20_code 5 (some .int) (ci := 3) (q := (RX3, TX3, 109)) (b := m) (d' := 2) (av := [.int 0, .int 0, .int 0, .int (σ.1 fX3_wordValue)]) (rest := []) rfl dX3_first_31 q2018 q2020 rfl qs134 q2021 can_X3_node (Nat.le_trans (Nat.le_of_ble_eq_true rfl) (Nat.le_add_left 8 d)) (Nat.le_of_ble_eq_true rfl) ch_put_tag (cp_kI (v := p43.1) (w1 := ch_put m w p43.2) (fun Q' hq => s_X3_node hp44 hq) ?_))))))
      obtain rfl := Option.some.inj h
      exact ch_ireturn _ dX3_first_34 rfl rfl hk
  · obtain rfl := Option.some.inj h
    exact ch_iconst _ (-1) dX3_first_7 rfl (ch_ireturn _ dX3_first_8 rfl rfl hk)

def cr_ME : Nat → Nat → Int32 → Int32 → Int32 → ch_S → Option (Int32 × ch_S)
  | 0 => fun _ _ _ _ _ => none
  | d + 1 => fun k z0 z1 z2 σ => if k = 0 then m_X3_expression (cr_ME d) σ else if k = 1 then m_X3_both (cr_ME d) σ else if k = 2 then m_X3_equal (cr_ME d) σ else if k = 3 then m_X3_signed (cr_ME d) z0 σ else if k = 4 then m_X3_related (cr_ME d) σ else if k = 5 then m_X3_sum (cr_ME d) σ else if k = 6 then m_X3_product (cr_ME d) σ else if k = 7 then m_X3_single (cr_ME d) σ else if k = 8 then m_X3_chain (cr_ME d) σ else if k = 9 then m_X3_called (cr_ME d) z0 z1 z2 σ else m_X3_first (cr_ME d) σ
theorem sr_ME {g : State} {m : Nat} {w : ch_W} : ∀ d : Nat, (∀ {σ : ch_S} {p : Int32 × ch_S} {Q : Outcome → ch_W → Prop}, cr_ME d 0 0 0 0 σ = some p → ch_eI Q (p.1, ch_put m w p.2) → ch_CT g false yX3_expression (d + 7) [.ref m] (ch_put m w σ) Q) ∧ (∀ {σ : ch_S} {p : Int32 × ch_S} {Q : Outcome → ch_W → Prop}, cr_ME d 1 0 0 0 σ = some p → ch_eI Q (p.1, ch_put m w p.2) → ch_CT g false yX3_both (d + 7) [.ref m] (ch_put m w σ) Q) ∧ (∀ {σ : ch_S} {p : Int32 × ch_S} {Q : Outcome → ch_W → Prop}, cr_ME d 2 0 0 0 σ = some p → ch_eI Q (p.1, ch_put m w p.2) → ch_CT g false yX3_equal (d + 7) [.ref m] (ch_put m w σ) Q) ∧ (∀ {z0 : Int32} {σ : ch_S} {p : Int32 × ch_S} {Q : Outcome → ch_W → Prop}, cr_ME d 3 z0 0 0 σ = some p → ch_eI Q (p.1, ch_put m w p.2) → ch_CT g false yX3_signed (d + 7) [.ref m, .int z0] (ch_put m w σ) Q) ∧ (∀ {σ : ch_S} {p : Int32 × ch_S} {Q : Outcome → ch_W → Prop}, cr_ME d 4 0 0 0 σ = some p → ch_eI Q (p.1, ch_put m w p.2) → ch_CT g false yX3_related (d + 7) [.ref m] (ch_put m w σ) Q) ∧ (∀ {σ : ch_S} {p : Int32 × ch_S} {Q : Outcome → ch_W → Prop}, cr_ME d 5 0 0 0 σ = some p → ch_eI Q (p.1, ch_put m w p.2) → ch_CT g false yX3_sum (d + 7) [.ref m] (ch_put m w σ) Q) ∧ (∀ {σ : ch_S} {p : Int32 × ch_S} {Q : Outcome → ch_W → Prop}, cr_ME d 6 0 0 0 σ = some p → ch_eI Q (p.1, ch_put m w p.2) → ch_CT g false yX3_product (d + 7) [.ref m] (ch_put m w σ) Q) ∧ (∀ {σ : ch_S} {p : Int32 × ch_S} {Q : Outcome → ch_W → Prop}, cr_ME d 7 0 0 0 σ = some p → ch_eI Q (p.1, ch_put m w p.2) → ch_CT g false yX3_single (d + 7) [.ref m] (ch_put m w σ) Q) ∧ (∀ {σ : ch_S} {p : Int32 × ch_S} {Q : Outcome → ch_W → Prop}, cr_ME d 8 0 0 0 σ = some p → ch_eI Q (p.1, ch_put m w p.2) → ch_CT g false yX3_chain (d + 7) [.ref m] (ch_put m w σ) Q) ∧ (∀ {z0 : Int32} {z1 : Int32} {z2 : Int32} {σ : ch_S} {p : Int32 × ch_S} {Q : Outcome → ch_W → Prop}, cr_ME d 9 z0 z1 z2 σ = some p → ch_eI Q (p.1, ch_put m w p.2) → ch_CT g false yX3_called (d + 7) [.ref m, .int z0, .int z1, .int z2] (ch_put m w σ) Q) ∧ (∀ {σ : ch_S} {p : Int32 × ch_S} {Q : Outcome → ch_W → Prop}, cr_ME d 10 0 0 0 σ = some p → ch_eI Q (p.1, ch_put m w p.2) → ch_CT g false yX3_first (d + 7) [.ref m] (ch_put m w σ) Q) := by
  intro d
  induction d with
  | zero => exact ⟨fun h _ => (by cases h), fun h _ => (by cases h), fun h _ => (by cases h), fun h _ => (by cases h), fun h _ => (by cases h), fun h _ => (by cases h), fun h _ => (by cases h), fun h _ => (by cases h), fun h _ => (by cases h), fun h _ => (by cases h), fun h _ => (by cases h)⟩
  | succ d ih =>
    exact ⟨fun {σ p Q} h hk => s_X3_expression ih.2.1 h hk,
      fun {σ p Q} h hk => s_X3_both ih.2.2.1 h hk,
      fun {σ p Q} h hk => s_X3_equal ih.2.2.2.1 ih.2.2.2.2.1 h hk,
      fun {z0 σ p Q} h hk => s_X3_signed ih.2.2.2.2.1 ih.2.2.2.2.2.1 ih.2.2.2.2.2.2.1 ih.2.2.2.2.2.2.2.1 h hk,
      fun {σ p Q} h hk => s_X3_related ih.2.2.2.1 ih.2.2.2.2.2.1 h hk,
      fun {σ p Q} h hk => s_X3_sum ih.2.2.2.1 ih.2.2.2.2.2.2.1 h hk,
      fun {σ p Q} h hk => s_X3_product ih.2.2.2.1 ih.2.2.2.2.2.2.2.1 h hk,
      fun {σ p Q} h hk => s_X3_single ih.2.2.2.2.2.2.2.1 ih.2.2.2.2.2.2.2.2.1 h hk,
      fun {σ p Q} h hk => s_X3_chain ih.1 ih.2.2.2.2.2.2.2.2.2.1 ih.2.2.2.2.2.2.2.2.2.2 h hk,
      fun {z0 z1 z2 σ p Q} h hk => s_X3_called ih.1 h hk,
      fun {σ p Q} h hk => s_X3_first ih.1 ih.2.2.2.2.2.2.2.2.2.1 h hk⟩
theorem sr_X3_expression {g : State} {m : Nat} {w : ch_W} {σ : ch_S} {p : Int32 × ch_S} {Q : Outcome → ch_W → Prop} (h : cr_ME 450 0 0 0 0 σ = some p) (hk : ch_eI Q (p.1, ch_put m w p.2)) : ch_CT g false yX3_expression 457 [.ref m] (ch_put m w σ) Q := (sr_ME 450).1 h hk
theorem sr_X3_both {g : State} {m : Nat} {w : ch_W} {σ : ch_S} {p : Int32 × ch_S} {Q : Outcome → ch_W → Prop} (h : cr_ME 450 1 0 0 0 σ = some p) (hk : ch_eI Q (p.1, ch_put m w p.2)) : ch_CT g false yX3_both 457 [.ref m] (ch_put m w σ) Q := (sr_ME 450).2.1 h hk
theorem sr_X3_equal {g : State} {m : Nat} {w : ch_W} {σ : ch_S} {p : Int32 × ch_S} {Q : Outcome → ch_W → Prop} (h : cr_ME 450 2 0 0 0 σ = some p) (hk : ch_eI Q (p.1, ch_put m w p.2)) : ch_CT g false yX3_equal 457 [.ref m] (ch_put m w σ) Q := (sr_ME 450).2.2.1 h hk
theorem sr_X3_signed {g : State} {m : Nat} {w : ch_W} {z0 : Int32} {σ : ch_S} {p : Int32 × ch_S} {Q : Outcome → ch_W → Prop} (h : cr_ME 450 3 z0 0 0 σ = some p) (hk : ch_eI Q (p.1, ch_put m w p.2)) : ch_CT g false yX3_signed 457 [.ref m, .int z0] (ch_put m w σ) Q := (sr_ME 450).2.2.2.1 h hk
theorem sr_X3_related {g : State} {m : Nat} {w : ch_W} {σ : ch_S} {p : Int32 × ch_S} {Q : Outcome → ch_W → Prop} (h : cr_ME 450 4 0 0 0 σ = some p) (hk : ch_eI Q (p.1, ch_put m w p.2)) : ch_CT g false yX3_related 457 [.ref m] (ch_put m w σ) Q := (sr_ME 450).2.2.2.2.1 h hk
theorem sr_X3_sum {g : State} {m : Nat} {w : ch_W} {σ : ch_S} {p : Int32 × ch_S} {Q : Outcome → ch_W → Prop} (h : cr_ME 450 5 0 0 0 σ = some p) (hk : ch_eI Q (p.1, ch_put m w p.2)) : ch_CT g false yX3_sum 457 [.ref m] (ch_put m w σ) Q := (sr_ME 450).2.2.2.2.2.1 h hk
theorem sr_X3_product {g : State} {m : Nat} {w : ch_W} {σ : ch_S} {p : Int32 × ch_S} {Q : Outcome → ch_W → Prop} (h : cr_ME 450 6 0 0 0 σ = some p) (hk : ch_eI Q (p.1, ch_put m w p.2)) : ch_CT g false yX3_product 457 [.ref m] (ch_put m w σ) Q := (sr_ME 450).2.2.2.2.2.2.1 h hk
theorem sr_X3_single {g : State} {m : Nat} {w : ch_W} {σ : ch_S} {p : Int32 × ch_S} {Q : Outcome → ch_W → Prop} (h : cr_ME 450 7 0 0 0 σ = some p) (hk : ch_eI Q (p.1, ch_put m w p.2)) : ch_CT g false yX3_single 457 [.ref m] (ch_put m w σ) Q := (sr_ME 450).2.2.2.2.2.2.2.1 h hk
theorem sr_X3_chain {g : State} {m : Nat} {w : ch_W} {σ : ch_S} {p : Int32 × ch_S} {Q : Outcome → ch_W → Prop} (h : cr_ME 450 8 0 0 0 σ = some p) (hk : ch_eI Q (p.1, ch_put m w p.2)) : ch_CT g false yX3_chain 457 [.ref m] (ch_put m w σ) Q := (sr_ME 450).2.2.2.2.2.2.2.2.1 h hk
theorem sr_X3_called {g : State} {m : Nat} {w : ch_W} {z0 : Int32} {z1 : Int32} {z2 : Int32} {σ : ch_S} {p : Int32 × ch_S} {Q : Outcome → ch_W → Prop} (h : cr_ME 450 9 z0 z1 z2 σ = some p) (hk : ch_eI Q (p.1, ch_put m w p.2)) : ch_CT g false yX3_called 457 [.ref m, .int z0, .int z1, .int z2] (ch_put m w σ) Q := (sr_ME 450).2.2.2.2.2.2.2.2.2.1 h hk
theorem sr_X3_first {g : State} {m : Nat} {w : ch_W} {σ : ch_S} {p : Int32 × ch_S} {Q : Outcome → ch_W → Prop} (h : cr_ME 450 10 0 0 0 σ = some p) (hk : ch_eI Q (p.1, ch_put m w p.2)) : ch_CT g false yX3_first 457 [.ref m] (ch_put m w σ) Q := (sr_ME 450).2.2.2.2.2.2.2.2.2.2 h hk

theorem bX3_inParentheses_0 : ch_ck cX3_inParentheses 0 [42, 42, 16, 40, 182, 1, 39, 182, 1, 83, 153, 0, 10, 42, 182, 1] := ch_ckof (by decide +kernel)
theorem bX3_inParentheses_1 : ch_ck cX3_inParentheses 16 [93, 167, 0, 4, 2, 60, 42, 16, 41, 182, 1, 96, 27, 172] := ch_ckof (by decide +kernel)
theorem dX3_inParentheses_0 : decode cX3_inParentheses 0 = .ok (.aload_n 0, 1) := dz_42 (bX3_inParentheses_0 0 _ rfl)
theorem dX3_inParentheses_1 : decode cX3_inParentheses 1 = .ok (.aload_n 0, 1) := dz_42 (bX3_inParentheses_0 1 _ rfl)
theorem dX3_inParentheses_2 : decode cX3_inParentheses 2 = .ok (.bipush 40, 2) := dz_16 (bX3_inParentheses_0 2 _ rfl) (bX3_inParentheses_0 3 _ rfl)
theorem dX3_inParentheses_4 : decode cX3_inParentheses 4 = .ok (.invokevirtual 295, 3) := dz_182 (bX3_inParentheses_0 4 _ rfl) (bX3_inParentheses_0 5 _ rfl) (bX3_inParentheses_0 6 _ rfl)
theorem dX3_inParentheses_7 : decode cX3_inParentheses 7 = .ok (.invokevirtual 339, 3) := dz_182 (bX3_inParentheses_0 7 _ rfl) (bX3_inParentheses_0 8 _ rfl) (bX3_inParentheses_0 9 _ rfl)
theorem dX3_inParentheses_10 : decode cX3_inParentheses 10 = .ok (.ifCond .eq 10, 3) := dz_153 (bX3_inParentheses_0 10 _ rfl) (bX3_inParentheses_0 11 _ rfl) (bX3_inParentheses_0 12 _ rfl)
theorem dX3_inParentheses_13 : decode cX3_inParentheses 13 = .ok (.aload_n 0, 1) := dz_42 (bX3_inParentheses_0 13 _ rfl)
theorem dX3_inParentheses_14 : decode cX3_inParentheses 14 = .ok (.invokevirtual 349, 3) := dz_182 (bX3_inParentheses_0 14 _ rfl) (bX3_inParentheses_0 15 _ rfl) (bX3_inParentheses_1 0 _ rfl)
theorem dX3_inParentheses_17 : decode cX3_inParentheses 17 = .ok (.goto 4, 3) := dz_167 (bX3_inParentheses_1 1 _ rfl) (bX3_inParentheses_1 2 _ rfl) (bX3_inParentheses_1 3 _ rfl)
theorem dX3_inParentheses_20 : decode cX3_inParentheses 20 = .ok (.iconst (-1), 1) := dz_2 (bX3_inParentheses_1 4 _ rfl)
theorem dX3_inParentheses_21 : decode cX3_inParentheses 21 = .ok (.istore_n 1, 1) := dz_60 (bX3_inParentheses_1 5 _ rfl)
theorem dX3_inParentheses_22 : decode cX3_inParentheses 22 = .ok (.aload_n 0, 1) := dz_42 (bX3_inParentheses_1 6 _ rfl)
theorem dX3_inParentheses_23 : decode cX3_inParentheses 23 = .ok (.bipush 41, 2) := dz_16 (bX3_inParentheses_1 7 _ rfl) (bX3_inParentheses_1 8 _ rfl)
theorem dX3_inParentheses_25 : decode cX3_inParentheses 25 = .ok (.invokevirtual 352, 3) := dz_182 (bX3_inParentheses_1 9 _ rfl) (bX3_inParentheses_1 10 _ rfl) (bX3_inParentheses_1 11 _ rfl)
theorem dX3_inParentheses_28 : decode cX3_inParentheses 28 = .ok (.iload_n 1, 1) := dz_27 (bX3_inParentheses_1 12 _ rfl)
theorem dX3_inParentheses_29 : decode cX3_inParentheses 29 = .ok (.ireturn, 1) := dz_172 (bX3_inParentheses_1 13 _ rfl)
def m_X3_inParentheses_21  (y0 : Int32) (σ : ch_S) : Option (Int32 × ch_S) := (m_X3_closes 41 σ).bind fun p1 => some ((y0, p1))
theorem s_X3_inParentheses_21 {g : State} {m : Nat} {w : ch_W} {y0 : Int32} {σ : ch_S} {res : Int32 × ch_S} {Q : Outcome → ch_W → Prop} (h : m_X3_inParentheses_21 y0 σ = some res) (hk : (fun r => ch_eI Q (r.1, ch_put m w r.2)) res) : ch_FT g false mX3_inParentheses 458 21 [some (va_rf (some m)), none] [.int y0] (ch_put m w σ) Q := by
  unfold m_X3_inParentheses_21 at h
  obtain ⟨p1, hp2, h⟩ := ch_bd h
  refine ch_istore_n 1 _ (ls1 := [some (va_rf (some m)), some (.int y0)]) dX3_inParentheses_21 (Nat.le_of_ble_eq_true rfl) rfl (ch_aload_n 0 (some m) dX3_inParentheses_22 rfl (ch_bipush _ 41 dX3_inParentheses_23 rfl (ch_iv yX3_closes prog_14_method_18_code 2 none (ci := 3) (q := (RX3, TX3, 109)) (b := m) (d' := 6) (av := [.int 41]) (rest := []) rfl dX3_inParentheses_25 q1962 q1964 rfl qs120 q1965 can_X3_closes (Nat.le_of_ble_eq_true rfl) (Nat.le_of_ble_eq_true rfl) ch_put_tag (cp_kV (w1 := ch_put m w p1) (fun Q' hq => s_X3_closes hp2 hq) ?_))))
  obtain rfl := Option.some.inj h
  exact ch_iload_n 1 _ dX3_inParentheses_28 rfl (ch_ireturn _ dX3_inParentheses_29 rfl rfl hk)

def m_X3_inParentheses  (σ : ch_S) : Option (Int32 × ch_S) := (m_X3_isSign 40 σ).bind fun v1 => (m_X3_opens v1 σ).bind fun p3 => if p3.1 = 0 then (m_X3_inParentheses_21 (-1) p3.2) else ((cr_ME 450 0 0 0 0 p3.2).bind fun p5 => m_X3_inParentheses_21 p5.1 p5.2)
theorem s_X3_inParentheses {g : State} {m : Nat} {w : ch_W} {σ : ch_S} {res : Int32 × ch_S} {Q : Outcome → ch_W → Prop} (h : m_X3_inParentheses  σ = some res) (hk : (fun r => ch_eI Q (r.1, ch_put m w r.2)) res) : ch_CT g false yX3_inParentheses 458 [.ref m] (ch_put m w σ) Q := by
  unfold m_X3_inParentheses at h
  refine ch_ctL mX3_inParentheses (ls := [some (va_rf (some m)), none]) q2035 rfl (ch_lyr (r := some m) ch_ly0) (Nat.le_of_ble_eq_true rfl) rfl ?_
  obtain ⟨v1, hp2, h⟩ := ch_bd h
  refine ch_aload_n 0 (some m) dX3_inParentheses_0 rfl (ch_aload_n 0 (some m) dX3_inParentheses_1 rfl (ch_bipush _ 40 dX3_inParentheses_2 rfl (ch_iv yX3_isSign prog_14_method_14_code 2 (some .boolean) (ci := 3) (q := (RX3, TX3, 109)) (b := m) (d' := 2) (av := [.int 40]) (rest := [va_rf (some m)]) rfl dX3_inParentheses_4 q1942 q1944 rfl qs115 q1945 can_X3_isSign (Nat.le_of_ble_eq_true rfl) (ch_hw (Nat.le_of_ble_eq_true rfl)) ch_put_tag (cp_kI (v := v1) (w1 := ch_put m w σ) (fun Q' hq => s_X3_isSign hp2 hq) ?_))))
  obtain ⟨p3, hp4, h⟩ := ch_bd h
  refine ch_iv yX3_opens prog_14_method_17_code 3 (some .boolean) (ci := 3) (q := (RX3, TX3, 109)) (b := m) (d' := 5) (av := [.int v1]) (rest := []) rfl dX3_inParentheses_7 q1946 q1948 rfl qs116 q1949 can_X3_opens (Nat.le_of_ble_eq_true rfl) (Nat.le_of_ble_eq_true rfl) ch_put_tag (cp_kI (v := p3.1) (w1 := ch_put m w p3.2) (fun Q' hq => s_X3_opens hp4 hq) ?_)
  refine cp_if_eq _ (tgt := 20) dX3_inParentheses_10 rfl h (fun h => ?_) (fun h => ?_)
  · exact ch_iconst _ (-1) dX3_inParentheses_20 rfl (ch_FT.wk (ch_wS (ch_wN ch_w0)) (s_X3_inParentheses_21  h hk))
  · obtain ⟨p5, hp6, h⟩ := ch_bd h
    refine ch_aload_n 0 (some m) dX3_inParentheses_13 rfl (ch_iv yX3_expression prog_14_method_21_code 3 (some .int) (ci := 3) (q := (RX3, TX3, 109)) (b := m) (d' := 457) (av := []) (rest := []) rfl dX3_inParentheses_14 q1982 q1984 rfl qs125 q1985 can_X3_expression (Nat.le_of_ble_eq_true rfl) (Nat.le_of_ble_eq_true rfl) ch_put_tag (cp_kI (v := p5.1) (w1 := ch_put m w p5.2) (fun Q' hq => sr_X3_expression hp6 hq) ?_))
    exact ch_goto 21 dX3_inParentheses_17 rfl (ch_FT.wk (ch_wS (ch_wN ch_w0)) (s_X3_inParentheses_21  h hk))

theorem bX3_placed_0 : ch_ck cX3_placed 0 [42, 16, 7, 182, 1, 126, 60, 42, 182, 1, 93, 61, 42, 180, 1, 27] := ch_ckof (by decide +kernel)
theorem bX3_placed_1 : ch_ck cX3_placed 16 [155, 0, 5, 27, 172, 42, 180, 0, 55, 27, 28, 79, 42, 16, 61, 182] := ch_ckof (by decide +kernel)
theorem bX3_placed_2 : ch_ck cX3_placed 32 [1, 39, 153, 0, 67, 42, 180, 0, 25, 28, 46, 7, 159, 0, 25, 42] := ch_ckof (by decide +kernel)
theorem bX3_placed_3 : ch_ck cX3_placed 48 [180, 0, 25, 28, 46, 16, 6, 159, 0, 14, 42, 180, 0, 25, 28, 46] := ch_ckof (by decide +kernel)
theorem bX3_placed_4 : ch_ck cX3_placed 64 [16, 7, 160, 0, 35, 42, 182, 1, 33, 42, 180, 0, 46, 27, 16, 8] := ch_ckof (by decide +kernel)
theorem bX3_placed_5 : ch_ck cX3_placed 80 [79, 42, 180, 0, 58, 27, 28, 79, 42, 180, 0, 55, 27, 42, 182, 1] := ch_ckof (by decide +kernel)
theorem bX3_placed_6 : ch_ck cX3_placed 96 [93, 79, 167, 0, 43, 42, 16, 59, 182, 1, 39, 153, 0, 25, 42, 180] := ch_ckof (by decide +kernel)
theorem bX3_placed_7 : ch_ck cX3_placed 112 [0, 25, 28, 46, 16, 8, 159, 0, 23, 42, 180, 0, 25, 28, 46, 16] := ch_ckof (by decide +kernel)
theorem bX3_placed_8 : ch_ck cX3_placed 128 [9, 159, 0, 12, 42, 42, 180, 0, 246, 182, 1, 30, 172, 42, 42, 16] := ch_ckof (by decide +kernel)
theorem bX3_placed_9 : ch_ck cX3_placed 144 [59, 182, 1, 39, 182, 1, 42, 62, 27, 172] := ch_ckof (by decide +kernel)
theorem dX3_placed_0 : decode cX3_placed 0 = .ok (.aload_n 0, 1) := dz_42 (bX3_placed_0 0 _ rfl)
theorem dX3_placed_1 : decode cX3_placed 1 = .ok (.bipush 7, 2) := dz_16 (bX3_placed_0 1 _ rfl) (bX3_placed_0 2 _ rfl)
theorem dX3_placed_3 : decode cX3_placed 3 = .ok (.invokevirtual 382, 3) := dz_182 (bX3_placed_0 3 _ rfl) (bX3_placed_0 4 _ rfl) (bX3_placed_0 5 _ rfl)
theorem dX3_placed_6 : decode cX3_placed 6 = .ok (.istore_n 1, 1) := dz_60 (bX3_placed_0 6 _ rfl)
theorem dX3_placed_7 : decode cX3_placed 7 = .ok (.aload_n 0, 1) := dz_42 (bX3_placed_0 7 _ rfl)
theorem dX3_placed_8 : decode cX3_placed 8 = .ok (.invokevirtual 349, 3) := dz_182 (bX3_placed_0 8 _ rfl) (bX3_placed_0 9 _ rfl) (bX3_placed_0 10 _ rfl)
theorem dX3_placed_11 : decode cX3_placed 11 = .ok (.istore_n 2, 1) := dz_61 (bX3_placed_0 11 _ rfl)
theorem dX3_placed_12 : decode cX3_placed 12 = .ok (.aload_n 0, 1) := dz_42 (bX3_placed_0 12 _ rfl)
theorem dX3_placed_13 : decode cX3_placed 13 = .ok (.getfield 283, 3) := dz_180 (bX3_placed_0 13 _ rfl) (bX3_placed_0 14 _ rfl) (bX3_placed_0 15 _ rfl)
theorem dX3_placed_16 : decode cX3_placed 16 = .ok (.ifCond .lt 5, 3) := dz_155 (bX3_placed_1 0 _ rfl) (bX3_placed_1 1 _ rfl) (bX3_placed_1 2 _ rfl)
theorem dX3_placed_19 : decode cX3_placed 19 = .ok (.iload_n 1, 1) := dz_27 (bX3_placed_1 3 _ rfl)
theorem dX3_placed_20 : decode cX3_placed 20 = .ok (.ireturn, 1) := dz_172 (bX3_placed_1 4 _ rfl)
theorem dX3_placed_21 : decode cX3_placed 21 = .ok (.aload_n 0, 1) := dz_42 (bX3_placed_1 5 _ rfl)
theorem dX3_placed_22 : decode cX3_placed 22 = .ok (.getfield 55, 3) := dz_180 (bX3_placed_1 6 _ rfl) (bX3_placed_1 7 _ rfl) (bX3_placed_1 8 _ rfl)
theorem dX3_placed_25 : decode cX3_placed 25 = .ok (.iload_n 1, 1) := dz_27 (bX3_placed_1 9 _ rfl)
theorem dX3_placed_26 : decode cX3_placed 26 = .ok (.iload_n 2, 1) := dz_28 (bX3_placed_1 10 _ rfl)
theorem dX3_placed_27 : decode cX3_placed 27 = .ok (.iastore, 1) := dz_79 (bX3_placed_1 11 _ rfl)
theorem dX3_placed_28 : decode cX3_placed 28 = .ok (.aload_n 0, 1) := dz_42 (bX3_placed_1 12 _ rfl)
theorem dX3_placed_29 : decode cX3_placed 29 = .ok (.bipush 61, 2) := dz_16 (bX3_placed_1 13 _ rfl) (bX3_placed_1 14 _ rfl)
theorem dX3_placed_31 : decode cX3_placed 31 = .ok (.invokevirtual 295, 3) := dz_182 (bX3_placed_1 15 _ rfl) (bX3_placed_2 0 _ rfl) (bX3_placed_2 1 _ rfl)
theorem dX3_placed_34 : decode cX3_placed 34 = .ok (.ifCond .eq 67, 3) := dz_153 (bX3_placed_2 2 _ rfl) (bX3_placed_2 3 _ rfl) (bX3_placed_2 4 _ rfl)
theorem dX3_placed_37 : decode cX3_placed 37 = .ok (.aload_n 0, 1) := dz_42 (bX3_placed_2 5 _ rfl)
theorem dX3_placed_38 : decode cX3_placed 38 = .ok (.getfield 25, 3) := dz_180 (bX3_placed_2 6 _ rfl) (bX3_placed_2 7 _ rfl) (bX3_placed_2 8 _ rfl)
theorem dX3_placed_41 : decode cX3_placed 41 = .ok (.iload_n 2, 1) := dz_28 (bX3_placed_2 9 _ rfl)
theorem dX3_placed_42 : decode cX3_placed 42 = .ok (.iaload, 1) := dz_46 (bX3_placed_2 10 _ rfl)
theorem dX3_placed_43 : decode cX3_placed 43 = .ok (.iconst 4, 1) := dz_7 (bX3_placed_2 11 _ rfl)
theorem dX3_placed_44 : decode cX3_placed 44 = .ok (.if_icmp .eq 25, 3) := dz_159 (bX3_placed_2 12 _ rfl) (bX3_placed_2 13 _ rfl) (bX3_placed_2 14 _ rfl)
theorem dX3_placed_47 : decode cX3_placed 47 = .ok (.aload_n 0, 1) := dz_42 (bX3_placed_2 15 _ rfl)
theorem dX3_placed_48 : decode cX3_placed 48 = .ok (.getfield 25, 3) := dz_180 (bX3_placed_3 0 _ rfl) (bX3_placed_3 1 _ rfl) (bX3_placed_3 2 _ rfl)
theorem dX3_placed_51 : decode cX3_placed 51 = .ok (.iload_n 2, 1) := dz_28 (bX3_placed_3 3 _ rfl)
theorem dX3_placed_52 : decode cX3_placed 52 = .ok (.iaload, 1) := dz_46 (bX3_placed_3 4 _ rfl)
theorem dX3_placed_53 : decode cX3_placed 53 = .ok (.bipush 6, 2) := dz_16 (bX3_placed_3 5 _ rfl) (bX3_placed_3 6 _ rfl)
theorem dX3_placed_55 : decode cX3_placed 55 = .ok (.if_icmp .eq 14, 3) := dz_159 (bX3_placed_3 7 _ rfl) (bX3_placed_3 8 _ rfl) (bX3_placed_3 9 _ rfl)
theorem dX3_placed_58 : decode cX3_placed 58 = .ok (.aload_n 0, 1) := dz_42 (bX3_placed_3 10 _ rfl)
theorem dX3_placed_59 : decode cX3_placed 59 = .ok (.getfield 25, 3) := dz_180 (bX3_placed_3 11 _ rfl) (bX3_placed_3 12 _ rfl) (bX3_placed_3 13 _ rfl)
theorem dX3_placed_62 : decode cX3_placed 62 = .ok (.iload_n 2, 1) := dz_28 (bX3_placed_3 14 _ rfl)
theorem dX3_placed_63 : decode cX3_placed 63 = .ok (.iaload, 1) := dz_46 (bX3_placed_3 15 _ rfl)
theorem dX3_placed_64 : decode cX3_placed 64 = .ok (.bipush 7, 2) := dz_16 (bX3_placed_4 0 _ rfl) (bX3_placed_4 1 _ rfl)
theorem dX3_placed_66 : decode cX3_placed 66 = .ok (.if_icmp .ne 35, 3) := dz_160 (bX3_placed_4 2 _ rfl) (bX3_placed_4 3 _ rfl) (bX3_placed_4 4 _ rfl)
theorem dX3_placed_69 : decode cX3_placed 69 = .ok (.aload_n 0, 1) := dz_42 (bX3_placed_4 5 _ rfl)
theorem dX3_placed_70 : decode cX3_placed 70 = .ok (.invokevirtual 289, 3) := dz_182 (bX3_placed_4 6 _ rfl) (bX3_placed_4 7 _ rfl) (bX3_placed_4 8 _ rfl)
theorem dX3_placed_73 : decode cX3_placed 73 = .ok (.aload_n 0, 1) := dz_42 (bX3_placed_4 9 _ rfl)
theorem dX3_placed_74 : decode cX3_placed 74 = .ok (.getfield 46, 3) := dz_180 (bX3_placed_4 10 _ rfl) (bX3_placed_4 11 _ rfl) (bX3_placed_4 12 _ rfl)
theorem dX3_placed_77 : decode cX3_placed 77 = .ok (.iload_n 1, 1) := dz_27 (bX3_placed_4 13 _ rfl)
theorem dX3_placed_78 : decode cX3_placed 78 = .ok (.bipush 8, 2) := dz_16 (bX3_placed_4 14 _ rfl) (bX3_placed_4 15 _ rfl)
theorem dX3_placed_80 : decode cX3_placed 80 = .ok (.iastore, 1) := dz_79 (bX3_placed_5 0 _ rfl)
theorem dX3_placed_81 : decode cX3_placed 81 = .ok (.aload_n 0, 1) := dz_42 (bX3_placed_5 1 _ rfl)
theorem dX3_placed_82 : decode cX3_placed 82 = .ok (.getfield 58, 3) := dz_180 (bX3_placed_5 2 _ rfl) (bX3_placed_5 3 _ rfl) (bX3_placed_5 4 _ rfl)
theorem dX3_placed_85 : decode cX3_placed 85 = .ok (.iload_n 1, 1) := dz_27 (bX3_placed_5 5 _ rfl)
theorem dX3_placed_86 : decode cX3_placed 86 = .ok (.iload_n 2, 1) := dz_28 (bX3_placed_5 6 _ rfl)
theorem dX3_placed_87 : decode cX3_placed 87 = .ok (.iastore, 1) := dz_79 (bX3_placed_5 7 _ rfl)
theorem dX3_placed_88 : decode cX3_placed 88 = .ok (.aload_n 0, 1) := dz_42 (bX3_placed_5 8 _ rfl)
theorem dX3_placed_89 : decode cX3_placed 89 = .ok (.getfield 55, 3) := dz_180 (bX3_placed_5 9 _ rfl) (bX3_placed_5 10 _ rfl) (bX3_placed_5 11 _ rfl)
theorem dX3_placed_92 : decode cX3_placed 92 = .ok (.iload_n 1, 1) := dz_27 (bX3_placed_5 12 _ rfl)
theorem dX3_placed_93 : decode cX3_placed 93 = .ok (.aload_n 0, 1) := dz_42 (bX3_placed_5 13 _ rfl)
theorem dX3_placed_94 : decode cX3_placed 94 = .ok (.invokevirtual 349, 3) := dz_182 (bX3_placed_5 14 _ rfl) (bX3_placed_5 15 _ rfl) (bX3_placed_6 0 _ rfl)
theorem dX3_placed_97 : decode cX3_placed 97 = .ok (.iastore, 1) := dz_79 (bX3_placed_6 1 _ rfl)
theorem dX3_placed_98 : decode cX3_placed 98 = .ok (.goto 43, 3) := dz_167 (bX3_placed_6 2 _ rfl) (bX3_placed_6 3 _ rfl) (bX3_placed_6 4 _ rfl)
theorem dX3_placed_101 : decode cX3_placed 101 = .ok (.aload_n 0, 1) := dz_42 (bX3_placed_6 5 _ rfl)
theorem dX3_placed_102 : decode cX3_placed 102 = .ok (.bipush 59, 2) := dz_16 (bX3_placed_6 6 _ rfl) (bX3_placed_6 7 _ rfl)
theorem dX3_placed_104 : decode cX3_placed 104 = .ok (.invokevirtual 295, 3) := dz_182 (bX3_placed_6 8 _ rfl) (bX3_placed_6 9 _ rfl) (bX3_placed_6 10 _ rfl)
theorem dX3_placed_107 : decode cX3_placed 107 = .ok (.ifCond .eq 25, 3) := dz_153 (bX3_placed_6 11 _ rfl) (bX3_placed_6 12 _ rfl) (bX3_placed_6 13 _ rfl)
theorem dX3_placed_110 : decode cX3_placed 110 = .ok (.aload_n 0, 1) := dz_42 (bX3_placed_6 14 _ rfl)
theorem dX3_placed_111 : decode cX3_placed 111 = .ok (.getfield 25, 3) := dz_180 (bX3_placed_6 15 _ rfl) (bX3_placed_7 0 _ rfl) (bX3_placed_7 1 _ rfl)
theorem dX3_placed_114 : decode cX3_placed 114 = .ok (.iload_n 2, 1) := dz_28 (bX3_placed_7 2 _ rfl)
theorem dX3_placed_115 : decode cX3_placed 115 = .ok (.iaload, 1) := dz_46 (bX3_placed_7 3 _ rfl)
theorem dX3_placed_116 : decode cX3_placed 116 = .ok (.bipush 8, 2) := dz_16 (bX3_placed_7 4 _ rfl) (bX3_placed_7 5 _ rfl)
theorem dX3_placed_118 : decode cX3_placed 118 = .ok (.if_icmp .eq 23, 3) := dz_159 (bX3_placed_7 6 _ rfl) (bX3_placed_7 7 _ rfl) (bX3_placed_7 8 _ rfl)
theorem dX3_placed_121 : decode cX3_placed 121 = .ok (.aload_n 0, 1) := dz_42 (bX3_placed_7 9 _ rfl)
theorem dX3_placed_122 : decode cX3_placed 122 = .ok (.getfield 25, 3) := dz_180 (bX3_placed_7 10 _ rfl) (bX3_placed_7 11 _ rfl) (bX3_placed_7 12 _ rfl)
theorem dX3_placed_125 : decode cX3_placed 125 = .ok (.iload_n 2, 1) := dz_28 (bX3_placed_7 13 _ rfl)
theorem dX3_placed_126 : decode cX3_placed 126 = .ok (.iaload, 1) := dz_46 (bX3_placed_7 14 _ rfl)
theorem dX3_placed_127 : decode cX3_placed 127 = .ok (.bipush 9, 2) := dz_16 (bX3_placed_7 15 _ rfl) (bX3_placed_8 0 _ rfl)
theorem dX3_placed_129 : decode cX3_placed 129 = .ok (.if_icmp .eq 12, 3) := dz_159 (bX3_placed_8 1 _ rfl) (bX3_placed_8 2 _ rfl) (bX3_placed_8 3 _ rfl)
theorem dX3_placed_132 : decode cX3_placed 132 = .ok (.aload_n 0, 1) := dz_42 (bX3_placed_8 4 _ rfl)
theorem dX3_placed_133 : decode cX3_placed 133 = .ok (.aload_n 0, 1) := dz_42 (bX3_placed_8 5 _ rfl)
theorem dX3_placed_134 : decode cX3_placed 134 = .ok (.getfield 246, 3) := dz_180 (bX3_placed_8 6 _ rfl) (bX3_placed_8 7 _ rfl) (bX3_placed_8 8 _ rfl)
theorem dX3_placed_137 : decode cX3_placed 137 = .ok (.invokevirtual 286, 3) := dz_182 (bX3_placed_8 9 _ rfl) (bX3_placed_8 10 _ rfl) (bX3_placed_8 11 _ rfl)
theorem dX3_placed_140 : decode cX3_placed 140 = .ok (.ireturn, 1) := dz_172 (bX3_placed_8 12 _ rfl)
theorem dX3_placed_141 : decode cX3_placed 141 = .ok (.aload_n 0, 1) := dz_42 (bX3_placed_8 13 _ rfl)
theorem dX3_placed_142 : decode cX3_placed 142 = .ok (.aload_n 0, 1) := dz_42 (bX3_placed_8 14 _ rfl)
theorem dX3_placed_143 : decode cX3_placed 143 = .ok (.bipush 59, 2) := dz_16 (bX3_placed_8 15 _ rfl) (bX3_placed_9 0 _ rfl)
theorem dX3_placed_145 : decode cX3_placed 145 = .ok (.invokevirtual 295, 3) := dz_182 (bX3_placed_9 1 _ rfl) (bX3_placed_9 2 _ rfl) (bX3_placed_9 3 _ rfl)
theorem dX3_placed_148 : decode cX3_placed 148 = .ok (.invokevirtual 298, 3) := dz_182 (bX3_placed_9 4 _ rfl) (bX3_placed_9 5 _ rfl) (bX3_placed_9 6 _ rfl)
theorem dX3_placed_151 : decode cX3_placed 151 = .ok (.istore_n 3, 1) := dz_62 (bX3_placed_9 7 _ rfl)
theorem dX3_placed_152 : decode cX3_placed 152 = .ok (.iload_n 1, 1) := dz_27 (bX3_placed_9 8 _ rfl)
theorem dX3_placed_153 : decode cX3_placed 153 = .ok (.ireturn, 1) := dz_172 (bX3_placed_9 9 _ rfl)
def m_X3_placed_132   (σ : ch_S) : Option (Int32 × ch_S) := (m_X3_fails (σ.1 fX3_wordFrom) σ).bind fun p1 => some ((p1.1, p1.2))
theorem s_X3_placed_132 {g : State} {m : Nat} {w : ch_W} {σ : ch_S} {res : Int32 × ch_S} {Q : Outcome → ch_W → Prop} (h : m_X3_placed_132  σ = some res) (hk : (fun r => ch_eI Q (r.1, ch_put m w r.2)) res) : ch_FT g false mX3_placed 458 132 [some (va_rf (some m)), none, none, none] [] (ch_put m w σ) Q := by
  unfold m_X3_placed_132 at h
  obtain ⟨p1, hp2, h⟩ := ch_bd h
  refine ch_aload_n 0 (some m) dX3_placed_132 rfl (ch_aload_n 0 (some m) dX3_placed_133 rfl (mp_gI 6 dX3_placed_134 fl_X3_246 rfl (ch_iv yX3_fails prog_14_method_13_code 2 (some .int) (ci := 3) (q := (RX3, TX3, 109)) (b := m) (d' := 2) (av := [.int (σ.1 fX3_wordFrom)]) (rest := []) rfl dX3_placed_137 q1930 q1932 rfl qs112 q1933 can_X3_fails (Nat.le_of_ble_eq_true rfl) (Nat.le_of_ble_eq_true rfl) ch_put_tag (cp_kI (v := p1.1) (w1 := ch_put m w p1.2) (fun Q' hq => s_X3_fails hp2 hq) ?_))))
  obtain rfl := Option.some.inj h
  exact ch_ireturn _ dX3_placed_140 rfl rfl hk

def m_X3_placed_141 (x1 : Int32)  (σ : ch_S) : Option (Int32 × ch_S) := (m_X3_isSign 59 σ).bind fun v1 => (m_X3_passes v1 σ).bind fun p3 => some ((x1, p3.2))
theorem s_X3_placed_141 {g : State} {m : Nat} {w : ch_W} {x1 : Int32} {σ : ch_S} {res : Int32 × ch_S} {Q : Outcome → ch_W → Prop} (h : m_X3_placed_141 x1 σ = some res) (hk : (fun r => ch_eI Q (r.1, ch_put m w r.2)) res) : ch_FT g false mX3_placed 458 141 [some (va_rf (some m)), some (.int x1), none, none] [] (ch_put m w σ) Q := by
  unfold m_X3_placed_141 at h
  obtain ⟨v1, hp2, h⟩ := ch_bd h
  refine ch_aload_n 0 (some m) dX3_placed_141 rfl (ch_aload_n 0 (some m) dX3_placed_142 rfl (ch_bipush _ 59 dX3_placed_143 rfl (ch_iv yX3_isSign prog_14_method_14_code 2 (some .boolean) (ci := 3) (q := (RX3, TX3, 109)) (b := m) (d' := 2) (av := [.int 59]) (rest := [va_rf (some m)]) rfl dX3_placed_145 q1942 q1944 rfl qs115 q1945 can_X3_isSign (Nat.le_of_ble_eq_true rfl) (ch_hw (Nat.le_of_ble_eq_true rfl)) ch_put_tag (cp_kI (v := v1) (w1 := ch_put m w σ) (fun Q' hq => s_X3_isSign hp2 hq) ?_))))
  obtain ⟨p3, hp4, h⟩ := ch_bd h
  refine ch_iv yX3_passes prog_14_method_16_code 3 (some .boolean) (ci := 3) (q := (RX3, TX3, 109)) (b := m) (d' := 5) (av := [.int v1]) (rest := []) rfl dX3_placed_148 q1926 q1928 rfl qs111 q1929 can_X3_passes (Nat.le_of_ble_eq_true rfl) (Nat.le_of_ble_eq_true rfl) ch_put_tag (cp_kI (v := p3.1) (w1 := ch_put m w p3.2) (fun Q' hq => s_X3_passes hp4 hq) ?_)
  obtain rfl := Option.some.inj h
  exact ch_istore_n 3 _ (ls1 := [some (va_rf (some m)), some (.int x1), none, some (.int p3.1)]) dX3_placed_151 (Nat.le_of_ble_eq_true rfl) rfl (ch_iload_n 1 _ dX3_placed_152 rfl (ch_ireturn _ dX3_placed_153 rfl rfl hk))

def m_X3_placed_101 (x1 : Int32) (x2 : Int32)  (σ : ch_S) : Option (Int32 × ch_S) := (m_X3_isSign 59 σ).bind fun v1 => if v1 = 0 then (m_X3_placed_132 σ) else ((ch_ma σ fX3_is x2).bind fun v3 => if v3 = 8 then (m_X3_placed_141 x1 σ) else ((ch_ma σ fX3_is x2).bind fun v4 => if v4 = 9 then (m_X3_placed_141 x1 σ) else (m_X3_placed_132 σ)))
theorem s_X3_placed_101 {g : State} {m : Nat} {w : ch_W} {x1 : Int32} {x2 : Int32} {σ : ch_S} {res : Int32 × ch_S} {Q : Outcome → ch_W → Prop} (h : m_X3_placed_101 x1 x2 σ = some res) (hk : (fun r => ch_eI Q (r.1, ch_put m w r.2)) res) : ch_FT g false mX3_placed 458 101 [some (va_rf (some m)), some (.int x1), some (.int x2), none] [] (ch_put m w σ) Q := by
  unfold m_X3_placed_101 at h
  obtain ⟨v1, hp2, h⟩ := ch_bd h
  refine ch_aload_n 0 (some m) dX3_placed_101 rfl (ch_bipush _ 59 dX3_placed_102 rfl (ch_iv yX3_isSign prog_14_method_14_code 2 (some .boolean) (ci := 3) (q := (RX3, TX3, 109)) (b := m) (d' := 2) (av := [.int 59]) (rest := []) rfl dX3_placed_104 q1942 q1944 rfl qs115 q1945 can_X3_isSign (Nat.le_of_ble_eq_true rfl) (Nat.le_of_ble_eq_true rfl) ch_put_tag (cp_kI (v := v1) (w1 := ch_put m w σ) (fun Q' hq => s_X3_isSign hp2 hq) ?_)))
  refine cp_if_eq _ (tgt := 132) dX3_placed_107 rfl h (fun h => ?_) (fun h => ?_)
  · exact ch_FT.wk (ch_wS (ch_wN (ch_wN (ch_wN ch_w0)))) (s_X3_placed_132  h hk)
  · refine ch_aload_n 0 (some m) dX3_placed_110 rfl (mp_gA 16 dX3_placed_111 fl_X3_25 rfl (ch_iload_n 2 _ dX3_placed_114 rfl (mp_iald dX3_placed_115 mk_16 h (fun v3 h => ?_))))
    refine ch_bipush _ 8 dX3_placed_116 rfl (cp_icmp_eq _ _ (tgt := 141) dX3_placed_118 rfl h (fun h => ?_) (fun h => ?_))
    · exact ch_FT.wk (ch_wS (ch_wS (ch_wN (ch_wN ch_w0)))) (s_X3_placed_141  h hk)
    · refine ch_aload_n 0 (some m) dX3_placed_121 rfl (mp_gA 16 dX3_placed_122 fl_X3_25 rfl (ch_iload_n 2 _ dX3_placed_125 rfl (mp_iald dX3_placed_126 mk_16 h (fun v4 h => ?_))))
      refine ch_bipush _ 9 dX3_placed_127 rfl (cp_icmp_eq _ _ (tgt := 141) dX3_placed_129 rfl h (fun h => ?_) (fun h => ?_))
      · exact ch_FT.wk (ch_wS (ch_wS (ch_wN (ch_wN ch_w0)))) (s_X3_placed_141  h hk)
      · exact ch_FT.wk (ch_wS (ch_wN (ch_wN (ch_wN ch_w0)))) (s_X3_placed_132  h hk)

def m_X3_placed_69 (x1 : Int32) (x2 : Int32)  (σ : ch_S) : Option (Int32 × ch_S) := (m_X3_next σ).bind fun p1 => (ch_mw p1 fX3_statementIs x1 8).bind fun σ3 => (ch_mw σ3 fX3_target x1 x2).bind fun σ4 => (cr_ME 450 0 0 0 0 σ4).bind fun p5 => (ch_mw p5.2 fX3_value x1 p5.1).bind fun σ7 => m_X3_placed_141 x1 σ7
theorem s_X3_placed_69 {g : State} {m : Nat} {w : ch_W} {x1 : Int32} {x2 : Int32} {σ : ch_S} {res : Int32 × ch_S} {Q : Outcome → ch_W → Prop} (h : m_X3_placed_69 x1 x2 σ = some res) (hk : (fun r => ch_eI Q (r.1, ch_put m w r.2)) res) : ch_FT g false mX3_placed 458 69 [some (va_rf (some m)), some (.int x1), some (.int x2), none] [] (ch_put m w σ) Q := by
  unfold m_X3_placed_69 at h
  obtain ⟨p1, hp2, h⟩ := ch_bd h
  refine ch_aload_n 0 (some m) dX3_placed_69 rfl (ch_iv yX3_next prog_14_method_12_code 4 none (ci := 3) (q := (RX3, TX3, 109)) (b := m) (d' := 4) (av := []) (rest := []) rfl dX3_placed_70 q1884 q1886 rfl qs105 q1887 can_X3_next (Nat.le_of_ble_eq_true rfl) (Nat.le_of_ble_eq_true rfl) ch_put_tag (cp_kV (w1 := ch_put m w p1) (fun Q' hq => s_X3_next hp2 hq) ?_))
  refine ch_aload_n 0 (some m) dX3_placed_73 rfl (mp_gA 26 dX3_placed_74 fl_X3_46 rfl (ch_iload_n 1 _ dX3_placed_77 rfl (ch_bipush _ 8 dX3_placed_78 rfl (mp_iast dX3_placed_80 mk_26 rfl h (fun σ3 h => ?_)))))
  refine ch_aload_n 0 (some m) dX3_placed_81 rfl (mp_gA 30 dX3_placed_82 fl_X3_58 rfl (ch_iload_n 1 _ dX3_placed_85 rfl (ch_iload_n 2 _ dX3_placed_86 rfl (mp_iast dX3_placed_87 mk_30 rfl h (fun σ4 h => ?_)))))
  obtain ⟨p5, hp6, h⟩ := ch_bd h
  refine ch_aload_n 0 (some m) dX3_placed_88 rfl (mp_gA 29 dX3_placed_89 fl_X3_55 rfl (ch_iload_n 1 _ dX3_placed_92 rfl (ch_aload_n 0 (some m) dX3_placed_93 rfl (ch_iv yX3_expression prog_14_method_21_code 3 (some .int) (ci := 3) (q := (RX3, TX3, 109)) (b := m) (d' := 457) (av := []) (rest := [.int x1, va_rf (ch_mr m fX3_value)]) rfl dX3_placed_94 q1982 q1984 rfl qs125 q1985 can_X3_expression (Nat.le_of_ble_eq_true rfl) (ch_hw (Nat.le_of_ble_eq_true rfl)) ch_put_tag (cp_kI (v := p5.1) (w1 := ch_put m w p5.2) (fun Q' hq => sr_X3_expression hp6 hq) ?_)))))
  refine mp_iast dX3_placed_97 mk_29 rfl h (fun σ7 h => ?_)
  exact ch_goto 141 dX3_placed_98 rfl (ch_FT.wk (ch_wS (ch_wS (ch_wN (ch_wN ch_w0)))) (s_X3_placed_141  h hk))

def m_X3_placed  (σ : ch_S) : Option (Int32 × ch_S) := (m_X3_begun 7 σ).bind fun p1 => (cr_ME 450 0 0 0 0 p1.2).bind fun p3 => if (p3.2.1 fX3_wrong) < 0 then ((ch_mw p3.2 fX3_value p1.1 p3.1).bind fun σ5 => (m_X3_isSign 61 σ5).bind fun v6 => if v6 = 0 then (m_X3_placed_101 p1.1 p3.1 σ5) else ((ch_ma σ5 fX3_is p3.1).bind fun v8 => if v8 = 4 then (m_X3_placed_69 p1.1 p3.1 σ5) else ((ch_ma σ5 fX3_is p3.1).bind fun v9 => if v9 = 6 then (m_X3_placed_69 p1.1 p3.1 σ5) else ((ch_ma σ5 fX3_is p3.1).bind fun v10 => if v10 = 7 then (m_X3_placed_69 p1.1 p3.1 σ5) else (m_X3_placed_101 p1.1 p3.1 σ5))))) else (some ((p1.1, p3.2)))
theorem s_X3_placed {g : State} {m : Nat} {w : ch_W} {σ : ch_S} {res : Int32 × ch_S} {Q : Outcome → ch_W → Prop} (h : m_X3_placed  σ = some res) (hk : (fun r => ch_eI Q (r.1, ch_put m w r.2)) res) : ch_CT g false yX3_placed 458 [.ref m] (ch_put m w σ) Q := by
  unfold m_X3_placed at h
  refine ch_ctL mX3_placed (ls := [some (va_rf (some m)), none, none, none]) q2039 rfl (ch_lyr (r := some m) ch_ly0) (Nat.le_of_ble_eq_true rfl) rfl ?_
  obtain ⟨p1, hp2, h⟩ := ch_bd h
  refine ch_aload_n 0 (some m) dX3_placed_0 rfl (ch_bipush _ 7 dX3_placed_1 rfl (ch_iv yX3_begun prog_14_method_32_code 3 (some .int) (ci := 3) (q := (RX3, TX3, 109)) (b := m) (d' := 2) (av := [.int 7]) (rest := []) rfl dX3_placed_3 q1978 q1980 rfl qs124 q1981 can_X3_begun (Nat.le_of_ble_eq_true rfl) (Nat.le_of_ble_eq_true rfl) ch_put_tag (cp_kI (v := p1.1) (w1 := ch_put m w p1.2) (fun Q' hq => s_X3_begun hp2 hq) ?_)))
  obtain ⟨p3, hp4, h⟩ := ch_bd h
  refine ch_istore_n 1 _ (ls1 := [some (va_rf (some m)), some (.int p1.1), none, none]) dX3_placed_6 (Nat.le_of_ble_eq_true rfl) rfl (ch_aload_n 0 (some m) dX3_placed_7 rfl (ch_iv yX3_expression prog_14_method_21_code 3 (some .int) (ci := 3) (q := (RX3, TX3, 109)) (b := m) (d' := 457) (av := []) (rest := []) rfl dX3_placed_8 q1982 q1984 rfl qs125 q1985 can_X3_expression (Nat.le_of_ble_eq_true rfl) (Nat.le_of_ble_eq_true rfl) ch_put_tag (cp_kI (v := p3.1) (w1 := ch_put m w p3.2) (fun Q' hq => sr_X3_expression hp4 hq) ?_)))
  refine ch_istore_n 2 _ (ls1 := [some (va_rf (some m)), some (.int p1.1), some (.int p3.1), none]) dX3_placed_11 (Nat.le_of_ble_eq_true rfl) rfl (ch_aload_n 0 (some m) dX3_placed_12 rfl (mp_gI 9 dX3_placed_13 fl_X3_283 rfl (cp_if_lt _ (tgt := 21) dX3_placed_16 rfl h (fun h => ?_) (fun h => ?_))))
  · refine ch_aload_n 0 (some m) dX3_placed_21 rfl (mp_gA 29 dX3_placed_22 fl_X3_55 rfl (ch_iload_n 1 _ dX3_placed_25 rfl (ch_iload_n 2 _ dX3_placed_26 rfl (mp_iast dX3_placed_27 mk_29 rfl h (fun σ5 h => ?_)))))
    obtain ⟨v6, hp7, h⟩ := ch_bd h
    refine ch_aload_n 0 (some m) dX3_placed_28 rfl (ch_bipush _ 61 dX3_placed_29 rfl (ch_iv yX3_isSign prog_14_method_14_code 2 (some .boolean) (ci := 3) (q := (RX3, TX3, 109)) (b := m) (d' := 2) (av := [.int 61]) (rest := []) rfl dX3_placed_31 q1942 q1944 rfl qs115 q1945 can_X3_isSign (Nat.le_of_ble_eq_true rfl) (Nat.le_of_ble_eq_true rfl) ch_put_tag (cp_kI (v := v6) (w1 := ch_put m w σ5) (fun Q' hq => s_X3_isSign hp7 hq) ?_)))
    refine cp_if_eq _ (tgt := 101) dX3_placed_34 rfl h (fun h => ?_) (fun h => ?_)
    · exact ch_FT.wk (ch_wS (ch_wS (ch_wS (ch_wN ch_w0)))) (s_X3_placed_101  h hk)
    · refine ch_aload_n 0 (some m) dX3_placed_37 rfl (mp_gA 16 dX3_placed_38 fl_X3_25 rfl (ch_iload_n 2 _ dX3_placed_41 rfl (mp_iald dX3_placed_42 mk_16 h (fun v8 h => ?_))))
      refine ch_iconst _ 4 dX3_placed_43 rfl (cp_icmp_eq _ _ (tgt := 69) dX3_placed_44 rfl h (fun h => ?_) (fun h => ?_))
      · exact ch_FT.wk (ch_wS (ch_wS (ch_wS (ch_wN ch_w0)))) (s_X3_placed_69  h hk)
      · refine ch_aload_n 0 (some m) dX3_placed_47 rfl (mp_gA 16 dX3_placed_48 fl_X3_25 rfl (ch_iload_n 2 _ dX3_placed_51 rfl (mp_iald dX3_placed_52 mk_16 h (fun v9 h => ?_))))
        refine ch_bipush _ 6 dX3_placed_53 rfl (cp_icmp_eq _ _ (tgt := 69) dX3_placed_55 rfl h (fun h => ?_) (fun h => ?_))
        · exact ch_FT.wk (ch_wS (ch_wS (ch_wS (ch_wN ch_w0)))) (s_X3_placed_69  h hk)
        · refine ch_aload_n 0 (some m) dX3_placed_58 rfl (mp_gA 16 dX3_placed_59 fl_X3_25 rfl (ch_iload_n 2 _ dX3_placed_62 rfl (mp_iald dX3_placed_63 mk_16 h (fun v10 h => ?_))))
          refine ch_bipush _ 7 dX3_placed_64 rfl (cp_icmp_ne _ _ (tgt := 101) dX3_placed_66 rfl h (fun h => ?_) (fun h => ?_))
          · exact ch_FT.wk (ch_wS (ch_wS (ch_wS (ch_wN ch_w0)))) (s_X3_placed_101  h hk)
          · exact ch_FT.wk (ch_wS (ch_wS (ch_wS (ch_wN ch_w0)))) (s_X3_placed_69  h hk)
  · obtain rfl := Option.some.inj h
    exact ch_iload_n 1 _ dX3_placed_19 rfl (ch_ireturn _ dX3_placed_20 rfl rfl hk)

theorem bX3_block_0 : ch_ck cX3_block 0 [42, 42, 16, 123, 182, 1, 39, 182, 1, 83, 154, 0, 5, 2, 172, 2] := ch_ckof (by decide +kernel)
theorem bX3_block_1 : ch_ck cX3_block 16 [60, 2, 61, 42, 180, 1, 27, 156, 0, 43, 42, 16, 125, 182, 1, 39] := ch_ckof (by decide +kernel)
theorem bX3_block_2 : ch_ck cX3_block 32 [154, 0, 34, 42, 182, 1, 113, 62, 28, 155, 0, 10, 42, 180, 0, 76] := ch_ckof (by decide +kernel)
theorem bX3_block_3 : ch_ck cX3_block 48 [28, 29, 79, 27, 156, 0, 7, 29, 167, 0, 4, 27, 60, 29, 61, 167] := ch_ckof (by decide +kernel)
theorem bX3_block_4 : ch_ck cX3_block 64 [255, 212, 42, 42, 180, 0, 246, 181, 1, 116, 42, 16, 125, 182, 1, 96] := ch_ckof (by decide +kernel)
theorem bX3_block_5 : ch_ck cX3_block 80 [27, 172] := ch_ckof (by decide +kernel)
theorem dX3_block_0 : decode cX3_block 0 = .ok (.aload_n 0, 1) := dz_42 (bX3_block_0 0 _ rfl)
theorem dX3_block_1 : decode cX3_block 1 = .ok (.aload_n 0, 1) := dz_42 (bX3_block_0 1 _ rfl)
theorem dX3_block_2 : decode cX3_block 2 = .ok (.bipush 123, 2) := dz_16 (bX3_block_0 2 _ rfl) (bX3_block_0 3 _ rfl)
theorem dX3_block_4 : decode cX3_block 4 = .ok (.invokevirtual 295, 3) := dz_182 (bX3_block_0 4 _ rfl) (bX3_block_0 5 _ rfl) (bX3_block_0 6 _ rfl)
theorem dX3_block_7 : decode cX3_block 7 = .ok (.invokevirtual 339, 3) := dz_182 (bX3_block_0 7 _ rfl) (bX3_block_0 8 _ rfl) (bX3_block_0 9 _ rfl)
theorem dX3_block_10 : decode cX3_block 10 = .ok (.ifCond .ne 5, 3) := dz_154 (bX3_block_0 10 _ rfl) (bX3_block_0 11 _ rfl) (bX3_block_0 12 _ rfl)
theorem dX3_block_13 : decode cX3_block 13 = .ok (.iconst (-1), 1) := dz_2 (bX3_block_0 13 _ rfl)
theorem dX3_block_14 : decode cX3_block 14 = .ok (.ireturn, 1) := dz_172 (bX3_block_0 14 _ rfl)
theorem dX3_block_15 : decode cX3_block 15 = .ok (.iconst (-1), 1) := dz_2 (bX3_block_0 15 _ rfl)
theorem dX3_block_16 : decode cX3_block 16 = .ok (.istore_n 1, 1) := dz_60 (bX3_block_1 0 _ rfl)
theorem dX3_block_17 : decode cX3_block 17 = .ok (.iconst (-1), 1) := dz_2 (bX3_block_1 1 _ rfl)
theorem dX3_block_18 : decode cX3_block 18 = .ok (.istore_n 2, 1) := dz_61 (bX3_block_1 2 _ rfl)
theorem dX3_block_19 : decode cX3_block 19 = .ok (.aload_n 0, 1) := dz_42 (bX3_block_1 3 _ rfl)
theorem dX3_block_20 : decode cX3_block 20 = .ok (.getfield 283, 3) := dz_180 (bX3_block_1 4 _ rfl) (bX3_block_1 5 _ rfl) (bX3_block_1 6 _ rfl)
theorem dX3_block_23 : decode cX3_block 23 = .ok (.ifCond .ge 43, 3) := dz_156 (bX3_block_1 7 _ rfl) (bX3_block_1 8 _ rfl) (bX3_block_1 9 _ rfl)
theorem dX3_block_26 : decode cX3_block 26 = .ok (.aload_n 0, 1) := dz_42 (bX3_block_1 10 _ rfl)
theorem dX3_block_27 : decode cX3_block 27 = .ok (.bipush 125, 2) := dz_16 (bX3_block_1 11 _ rfl) (bX3_block_1 12 _ rfl)
theorem dX3_block_29 : decode cX3_block 29 = .ok (.invokevirtual 295, 3) := dz_182 (bX3_block_1 13 _ rfl) (bX3_block_1 14 _ rfl) (bX3_block_1 15 _ rfl)
theorem dX3_block_32 : decode cX3_block 32 = .ok (.ifCond .ne 34, 3) := dz_154 (bX3_block_2 0 _ rfl) (bX3_block_2 1 _ rfl) (bX3_block_2 2 _ rfl)
theorem dX3_block_35 : decode cX3_block 35 = .ok (.aload_n 0, 1) := dz_42 (bX3_block_2 3 _ rfl)
theorem dX3_block_36 : decode cX3_block 36 = .ok (.invokevirtual 369, 3) := dz_182 (bX3_block_2 4 _ rfl) (bX3_block_2 5 _ rfl) (bX3_block_2 6 _ rfl)
theorem dX3_block_39 : decode cX3_block 39 = .ok (.istore_n 3, 1) := dz_62 (bX3_block_2 7 _ rfl)
theorem dX3_block_40 : decode cX3_block 40 = .ok (.iload_n 2, 1) := dz_28 (bX3_block_2 8 _ rfl)
theorem dX3_block_41 : decode cX3_block 41 = .ok (.ifCond .lt 10, 3) := dz_155 (bX3_block_2 9 _ rfl) (bX3_block_2 10 _ rfl) (bX3_block_2 11 _ rfl)
theorem dX3_block_44 : decode cX3_block 44 = .ok (.aload_n 0, 1) := dz_42 (bX3_block_2 12 _ rfl)
theorem dX3_block_45 : decode cX3_block 45 = .ok (.getfield 76, 3) := dz_180 (bX3_block_2 13 _ rfl) (bX3_block_2 14 _ rfl) (bX3_block_2 15 _ rfl)
theorem dX3_block_48 : decode cX3_block 48 = .ok (.iload_n 2, 1) := dz_28 (bX3_block_3 0 _ rfl)
theorem dX3_block_49 : decode cX3_block 49 = .ok (.iload_n 3, 1) := dz_29 (bX3_block_3 1 _ rfl)
theorem dX3_block_50 : decode cX3_block 50 = .ok (.iastore, 1) := dz_79 (bX3_block_3 2 _ rfl)
theorem dX3_block_51 : decode cX3_block 51 = .ok (.iload_n 1, 1) := dz_27 (bX3_block_3 3 _ rfl)
theorem dX3_block_52 : decode cX3_block 52 = .ok (.ifCond .ge 7, 3) := dz_156 (bX3_block_3 4 _ rfl) (bX3_block_3 5 _ rfl) (bX3_block_3 6 _ rfl)
theorem dX3_block_55 : decode cX3_block 55 = .ok (.iload_n 3, 1) := dz_29 (bX3_block_3 7 _ rfl)
theorem dX3_block_56 : decode cX3_block 56 = .ok (.goto 4, 3) := dz_167 (bX3_block_3 8 _ rfl) (bX3_block_3 9 _ rfl) (bX3_block_3 10 _ rfl)
theorem dX3_block_59 : decode cX3_block 59 = .ok (.iload_n 1, 1) := dz_27 (bX3_block_3 11 _ rfl)
theorem dX3_block_60 : decode cX3_block 60 = .ok (.istore_n 1, 1) := dz_60 (bX3_block_3 12 _ rfl)
theorem dX3_block_61 : decode cX3_block 61 = .ok (.iload_n 3, 1) := dz_29 (bX3_block_3 13 _ rfl)
theorem dX3_block_62 : decode cX3_block 62 = .ok (.istore_n 2, 1) := dz_61 (bX3_block_3 14 _ rfl)
theorem dX3_block_63 : decode cX3_block 63 = .ok (.goto (-44), 3) := dz_167 (bX3_block_3 15 _ rfl) (bX3_block_4 0 _ rfl) (bX3_block_4 1 _ rfl)
theorem dX3_block_66 : decode cX3_block 66 = .ok (.aload_n 0, 1) := dz_42 (bX3_block_4 2 _ rfl)
theorem dX3_block_67 : decode cX3_block 67 = .ok (.aload_n 0, 1) := dz_42 (bX3_block_4 3 _ rfl)
theorem dX3_block_68 : decode cX3_block 68 = .ok (.getfield 246, 3) := dz_180 (bX3_block_4 4 _ rfl) (bX3_block_4 5 _ rfl) (bX3_block_4 6 _ rfl)
theorem dX3_block_71 : decode cX3_block 71 = .ok (.putfield 372, 3) := dz_181 (bX3_block_4 7 _ rfl) (bX3_block_4 8 _ rfl) (bX3_block_4 9 _ rfl)
theorem dX3_block_74 : decode cX3_block 74 = .ok (.aload_n 0, 1) := dz_42 (bX3_block_4 10 _ rfl)
theorem dX3_block_75 : decode cX3_block 75 = .ok (.bipush 125, 2) := dz_16 (bX3_block_4 11 _ rfl) (bX3_block_4 12 _ rfl)
theorem dX3_block_77 : decode cX3_block 77 = .ok (.invokevirtual 352, 3) := dz_182 (bX3_block_4 13 _ rfl) (bX3_block_4 14 _ rfl) (bX3_block_4 15 _ rfl)
theorem dX3_block_80 : decode cX3_block 80 = .ok (.iload_n 1, 1) := dz_27 (bX3_block_5 0 _ rfl)
theorem dX3_block_81 : decode cX3_block 81 = .ok (.ireturn, 1) := dz_172 (bX3_block_5 1 _ rfl)
def m_X3_block_66 (rc : Nat → ch_S → Option (Int32 × ch_S)) (x1 : Int32)  (σ : ch_S) : Option (Int32 × ch_S) := (ch_mI σ fX3_blockEnd (σ.1 fX3_wordFrom)).bind fun σ1 => (m_X3_closes 125 σ1).bind fun p2 => some ((x1, p2))
theorem s_X3_block_66 {g : State} {d : Nat} {rc : Nat → ch_S → Option (Int32 × ch_S)} {m : Nat} {w : ch_W} (hr1 : ∀ {σ : ch_S} {p : Int32 × ch_S} {Q : Outcome → ch_W → Prop}, rc 1  σ = some p → ch_eI Q (p.1, ch_put m w p.2) → ch_CT g false yX3_statement (d + 459) [.ref m] (ch_put m w σ) Q)  {x1 : Int32} {σ : ch_S} {res : Int32 × ch_S} {Q : Outcome → ch_W → Prop} (h : m_X3_block_66 rc x1 σ = some res) (hk : (fun r => ch_eI Q (r.1, ch_put m w r.2)) res) : ch_FT g false mX3_block (d + 460) 66 [some (va_rf (some m)), some (.int x1), none, none] [] (ch_put m w σ) Q := by
  unfold m_X3_block_66 at h
  refine ch_aload_n 0 (some m) dX3_block_66 rfl (ch_aload_n 0 (some m) dX3_block_67 rfl (mp_gI 6 dX3_block_68 fl_X3_246 rfl (mp_pI (k := 57) dX3_block_71 fl_X3_372 rfl rfl rfl h (fun σ1 h => ?_))))
  obtain ⟨p2, hp3, h⟩ := ch_bd h
  refine ch_aload_n 0 (some m) dX3_block_74 rfl (ch_bipush _ 125 dX3_block_75 rfl (ch_iv yX3_closes prog_14_method_18_code 2 none (ci := 3) (q := (RX3, TX3, 109)) (b := m) (d' := 6) (av := [.int 125]) (rest := []) rfl dX3_block_77 q1962 q1964 rfl qs120 q1965 can_X3_closes (Nat.le_trans (Nat.le_of_ble_eq_true rfl) (Nat.le_add_left 460 d)) (Nat.le_of_ble_eq_true rfl) ch_put_tag (cp_kV (w1 := ch_put m w p2) (fun Q' hq => s_X3_closes hp3 hq) ?_)))
  obtain rfl := Option.some.inj h
  exact ch_iload_n 1 _ dX3_block_80 rfl (ch_ireturn _ dX3_block_81 rfl rfl hk)

def m_X3_block_51 (rc : Nat → ch_S → Option (Int32 × ch_S)) (x1 : Int32) (x3 : Int32)  (σ : ch_S) : Option ((Int32 × Int32 × ch_S) ⊕ (Int32 × ch_S)) := if x1 < 0 then (some (.inl (x3, x3, σ))) else (some (.inl (x1, x3, σ)))
theorem s_X3_block_51 {g : State} {d : Nat} {rc : Nat → ch_S → Option (Int32 × ch_S)} {m : Nat} {w : ch_W} (hr1 : ∀ {σ : ch_S} {p : Int32 × ch_S} {Q : Outcome → ch_W → Prop}, rc 1  σ = some p → ch_eI Q (p.1, ch_put m w p.2) → ch_CT g false yX3_statement (d + 459) [.ref m] (ch_put m w σ) Q)  {x1 : Int32} {x3 : Int32} {σ : ch_S} {res : (Int32 × Int32 × ch_S) ⊕ (Int32 × ch_S)} {Q : Outcome → ch_W → Prop} (h : m_X3_block_51 rc x1 x3 σ = some res) (hk : (ch_sm (fun s => ch_FT g false mX3_block (d + 460) 19 [some (va_rf (some m)), some (.int s.1), some (.int s.2.1), none] [] (ch_put m w s.2.2) Q) (fun r => ch_eI Q (r.1, ch_put m w r.2))) res) : ch_FT g false mX3_block (d + 460) 51 [some (va_rf (some m)), some (.int x1), none, some (.int x3)] [] (ch_put m w σ) Q := by
  unfold m_X3_block_51 at h
  refine ch_iload_n 1 _ dX3_block_51 rfl (cp_if_ge _ (tgt := 59) dX3_block_52 rfl h (fun h => ?_) (fun h => ?_))
  · refine ch_iload_n 1 _ dX3_block_59 rfl (ch_istore_n 1 _ (ls1 := [some (va_rf (some m)), some (.int x1), none, some (.int x3)]) dX3_block_60 (Nat.le_of_ble_eq_true rfl) rfl (ch_iload_n 3 _ dX3_block_61 rfl (ch_istore_n 2 _ (ls1 := [some (va_rf (some m)), some (.int x1), some (.int x3), some (.int x3)]) dX3_block_62 (Nat.le_of_ble_eq_true rfl) rfl (ch_goto 19 dX3_block_63 rfl (ch_FT.wk (ch_wS (ch_wS (ch_wS (ch_wN ch_w0)))) ?_)))))
    obtain rfl := Option.some.inj h
    exact hk
  · refine ch_iload_n 3 _ dX3_block_55 rfl (ch_goto 60 dX3_block_56 rfl (ch_istore_n 1 _ (ls1 := [some (va_rf (some m)), some (.int x3), none, some (.int x3)]) dX3_block_60 (Nat.le_of_ble_eq_true rfl) rfl (ch_iload_n 3 _ dX3_block_61 rfl (ch_istore_n 2 _ (ls1 := [some (va_rf (some m)), some (.int x3), some (.int x3), some (.int x3)]) dX3_block_62 (Nat.le_of_ble_eq_true rfl) rfl (ch_goto 19 dX3_block_63 rfl (ch_FT.wk (ch_wS (ch_wS (ch_wS (ch_wN ch_w0)))) ?_))))))
    obtain rfl := Option.some.inj h
    exact hk

def m_X3_block_19 (rc : Nat → ch_S → Option (Int32 × ch_S)) (x1 : Int32) (x2 : Int32)  (σ : ch_S) : Option ((Int32 × Int32 × ch_S) ⊕ (Int32 × ch_S)) := if (σ.1 fX3_wrong) < 0 then ((m_X3_isSign 125 σ).bind fun v1 => if v1 = 0 then ((rc 1 σ).bind fun p3 => if x2 < 0 then (m_X3_block_51 rc x1 p3.1 p3.2) else ((ch_mw p3.2 fX3_nextOf x2 p3.1).bind fun σ5 => m_X3_block_51 rc x1 p3.1 σ5)) else ((m_X3_block_66 rc x1 σ).bind fun r => some (.inr (r)))) else ((m_X3_block_66 rc x1 σ).bind fun r => some (.inr (r)))
theorem s_X3_block_19 {g : State} {d : Nat} {rc : Nat → ch_S → Option (Int32 × ch_S)} {m : Nat} {w : ch_W} (hr1 : ∀ {σ : ch_S} {p : Int32 × ch_S} {Q : Outcome → ch_W → Prop}, rc 1  σ = some p → ch_eI Q (p.1, ch_put m w p.2) → ch_CT g false yX3_statement (d + 459) [.ref m] (ch_put m w σ) Q)  {x1 : Int32} {x2 : Int32} {σ : ch_S} {res : (Int32 × Int32 × ch_S) ⊕ (Int32 × ch_S)} {Q : Outcome → ch_W → Prop} (h : m_X3_block_19 rc x1 x2 σ = some res) (hk : (ch_sm (fun s => ch_FT g false mX3_block (d + 460) 19 [some (va_rf (some m)), some (.int s.1), some (.int s.2.1), none] [] (ch_put m w s.2.2) Q) (fun r => ch_eI Q (r.1, ch_put m w r.2))) res) : ch_FT g false mX3_block (d + 460) 19 [some (va_rf (some m)), some (.int x1), some (.int x2), none] [] (ch_put m w σ) Q := by
  unfold m_X3_block_19 at h
  refine ch_aload_n 0 (some m) dX3_block_19 rfl (mp_gI 9 dX3_block_20 fl_X3_283 rfl (cp_if_ge _ (tgt := 66) dX3_block_23 rfl h (fun h => ?_) (fun h => ?_)))
  · obtain ⟨r, hr, h⟩ := ch_bd h
    obtain rfl := Option.some.inj h
    exact ch_FT.wk (ch_wS (ch_wS (ch_wN (ch_wN ch_w0)))) (s_X3_block_66 hr1 hr hk)
  · obtain ⟨v1, hp2, h⟩ := ch_bd h
    refine ch_aload_n 0 (some m) dX3_block_26 rfl (ch_bipush _ 125 dX3_block_27 rfl (ch_iv yX3_isSign prog_14_method_14_code 2 (some .boolean) (ci := 3) (q := (RX3, TX3, 109)) (b := m) (d' := 2) (av := [.int 125]) (rest := []) rfl dX3_block_29 q1942 q1944 rfl qs115 q1945 can_X3_isSign (Nat.le_trans (Nat.le_of_ble_eq_true rfl) (Nat.le_add_left 460 d)) (Nat.le_of_ble_eq_true rfl) ch_put_tag (cp_kI (v := v1) (w1 := ch_put m w σ) (fun Q' hq => s_X3_isSign hp2 hq) ?_)))
    refine cp_if_ne _ (tgt := 66) dX3_block_32 rfl h (fun h => ?_) (fun h => ?_)
    · obtain ⟨r, hr, h⟩ := ch_bd h
      obtain rfl := Option.some.inj h
      exact ch_FT.wk (ch_wS (ch_wS (ch_wN (ch_wN ch_w0)))) (s_X3_block_66 hr1 hr hk)
    · obtain ⟨p3, hp4, h⟩ := ch_bd h
      refine ch_aload_n 0 (some m) dX3_block_35 rfl (ch_iv yX3_statement prog_14_method_38_code 4 (some .int) (ci := 3) (q := (RX3, TX3, 109)) (b := m) (d' := (d + 459)) (av := []) (rest := []) rfl dX3_block_36 q1970 q1972 rfl qs122 q1973 can_X3_statement (Nat.le_refl _) (Nat.le_of_ble_eq_true rfl) ch_put_tag (cp_kI (v := p3.1) (w1 := ch_put m w p3.2) (fun Q' hq => hr1 hp4 hq) ?_))
      refine ch_istore_n 3 _ (ls1 := [some (va_rf (some m)), some (.int x1), some (.int x2), some (.int p3.1)]) dX3_block_39 (Nat.le_of_ble_eq_true rfl) rfl (ch_iload_n 2 _ dX3_block_40 rfl (cp_if_lt _ (tgt := 51) dX3_block_41 rfl h (fun h => ?_) (fun h => ?_)))
      · exact ch_FT.wk (ch_wS (ch_wS (ch_wN (ch_wS ch_w0)))) (s_X3_block_51 hr1 h hk)
      · refine ch_aload_n 0 (some m) dX3_block_44 rfl (mp_gA 36 dX3_block_45 fl_X3_76 rfl (ch_iload_n 2 _ dX3_block_48 rfl (ch_iload_n 3 _ dX3_block_49 rfl (mp_iast dX3_block_50 mk_36 rfl h (fun σ5 h => ?_)))))
        exact ch_FT.wk (ch_wS (ch_wS (ch_wN (ch_wS ch_w0)))) (s_X3_block_51 hr1 h hk)
theorem sl_X3_block_19 {g : State} {d : Nat} {rc : Nat → ch_S → Option (Int32 × ch_S)} {m : Nat} {w : ch_W} (hr1 : ∀ {σ : ch_S} {p : Int32 × ch_S} {Q : Outcome → ch_W → Prop}, rc 1  σ = some p → ch_eI Q (p.1, ch_put m w p.2) → ch_CT g false yX3_statement (d + 459) [.ref m] (ch_put m w σ) Q)  {a : Int32 × Int32 × ch_S} {res : Int32 × ch_S} {Q : Outcome → ch_W → Prop} (h : ch_loop (fun (s : Int32 × Int32 × ch_S) => m_X3_block_19 rc s.1 s.2.1 s.2.2) a = some res) (hk : (fun r => ch_eI Q (r.1, ch_put m w r.2)) res) : ch_FT g false mX3_block (d + 460) 19 [some (va_rf (some m)), some (.int a.1), some (.int a.2.1), none] [] (ch_put m w a.2.2) Q := by
  refine ch_loop_ind (fun (a : Int32 × Int32 × ch_S) (r : Int32 × ch_S) => (fun r => ch_eI Q (r.1, ch_put m w r.2)) r → ch_FT g false mX3_block (d + 460) 19 [some (va_rf (some m)), some (.int a.1), some (.int a.2.1), none] [] (ch_put m w a.2.2) Q) ?_ ?_ a res h hk
  · intro a a2 b h1 ih hk
    exact s_X3_block_19 hr1 h1 (ih hk)
  · intro a b h1 hk
    exact s_X3_block_19 hr1 h1 hk

def m_X3_block (rc : Nat → ch_S → Option (Int32 × ch_S))  (σ : ch_S) : Option (Int32 × ch_S) := (m_X3_isSign 123 σ).bind fun v1 => (m_X3_opens v1 σ).bind fun p3 => if p3.1 = 0 then (some (((-1), p3.2))) else (ch_loop (fun (s : Int32 × Int32 × ch_S) => m_X3_block_19 rc s.1 s.2.1 s.2.2) ((-1), (-1), p3.2))
theorem s_X3_block {g : State} {d : Nat} {rc : Nat → ch_S → Option (Int32 × ch_S)} {m : Nat} {w : ch_W} (hr1 : ∀ {σ : ch_S} {p : Int32 × ch_S} {Q : Outcome → ch_W → Prop}, rc 1  σ = some p → ch_eI Q (p.1, ch_put m w p.2) → ch_CT g false yX3_statement (d + 459) [.ref m] (ch_put m w σ) Q)  {σ : ch_S} {res : Int32 × ch_S} {Q : Outcome → ch_W → Prop} (h : m_X3_block rc σ = some res) (hk : (fun r => ch_eI Q (r.1, ch_put m w r.2)) res) : ch_CT g false yX3_block (d + 460) [.ref m] (ch_put m w σ) Q := by
  unfold m_X3_block at h
  refine ch_ctL mX3_block (ls := [some (va_rf (some m)), none, none, none]) q1969 rfl (ch_lyr (r := some m) ch_ly0) (Nat.le_of_ble_eq_true rfl) rfl ?_
  obtain ⟨v1, hp2, h⟩ := ch_bd h
  refine ch_aload_n 0 (some m) dX3_block_0 rfl (ch_aload_n 0 (some m) dX3_block_1 rfl (ch_bipush _ 123 dX3_block_2 rfl (ch_iv yX3_isSign prog_14_method_14_code 2 (some .boolean) (ci := 3) (q := (RX3, TX3, 109)) (b := m) (d' := 2) (av := [.int 123]) (rest := [va_rf (some m)]) rfl dX3_block_4 q1942 q1944 rfl qs115 q1945 can_X3_isSign (Nat.le_trans (Nat.le_of_ble_eq_true rfl) (Nat.le_add_left 460 d)) (ch_hw (Nat.le_of_ble_eq_true rfl)) ch_put_tag (cp_kI (v := v1) (w1 := ch_put m w σ) (fun Q' hq => s_X3_isSign hp2 hq) ?_))))
  obtain ⟨p3, hp4, h⟩ := ch_bd h
  refine ch_iv yX3_opens prog_14_method_17_code 3 (some .boolean) (ci := 3) (q := (RX3, TX3, 109)) (b := m) (d' := 5) (av := [.int v1]) (rest := []) rfl dX3_block_7 q1946 q1948 rfl qs116 q1949 can_X3_opens (Nat.le_trans (Nat.le_of_ble_eq_true rfl) (Nat.le_add_left 460 d)) (Nat.le_of_ble_eq_true rfl) ch_put_tag (cp_kI (v := p3.1) (w1 := ch_put m w p3.2) (fun Q' hq => s_X3_opens hp4 hq) ?_)
  refine cp_if_ne _ (tgt := 15) dX3_block_10 rfl h (fun h => ?_) (fun h => ?_)
  · exact ch_iconst _ (-1) dX3_block_15 rfl (ch_istore_n 1 _ (ls1 := [some (va_rf (some m)), some (.int (-1)), none, none]) dX3_block_16 (Nat.le_of_ble_eq_true rfl) rfl (ch_iconst _ (-1) dX3_block_17 rfl (ch_istore_n 2 _ (ls1 := [some (va_rf (some m)), some (.int (-1)), some (.int (-1)), none]) dX3_block_18 (Nat.le_of_ble_eq_true rfl) rfl (ch_FT.wk (ch_wS (ch_wS (ch_wS (ch_wN ch_w0)))) (sl_X3_block_19 hr1 h hk)))))
  · obtain rfl := Option.some.inj h
    exact ch_iconst _ (-1) dX3_block_13 rfl (ch_ireturn _ dX3_block_14 rfl rfl hk)

theorem bX3_statement_0 : ch_ck cX3_statement 0 [42, 182, 1, 119, 154, 0, 25, 42, 180, 1, 7, 5, 160, 0, 79, 42] := ch_ckof (by decide +kernel)
theorem bX3_statement_1 : ch_ck cX3_statement 16 [180, 1, 27, 156, 0, 72, 42, 182, 1, 123, 153, 0, 65, 42, 3, 182] := ch_ckof (by decide +kernel)
theorem bX3_statement_2 : ch_ck cX3_statement 32 [1, 126, 60, 42, 180, 0, 61, 27, 42, 182, 1, 129, 79, 42, 180, 0] := ch_ckof (by decide +kernel)
theorem bX3_statement_3 : ch_ck cX3_statement 48 [64, 27, 42, 182, 1, 77, 79, 42, 16, 61, 182, 1, 39, 153, 0, 17] := ch_ckof (by decide +kernel)
theorem bX3_statement_4 : ch_ck cX3_statement 64 [42, 182, 1, 33, 42, 180, 0, 55, 27, 42, 182, 1, 93, 79, 42, 42] := ch_ckof (by decide +kernel)
theorem bX3_statement_5 : ch_ck cX3_statement 80 [16, 59, 182, 1, 39, 182, 1, 42, 61, 27, 172, 42, 180, 1, 7, 8] := ch_ckof (by decide +kernel)
theorem bX3_statement_6 : ch_ck cX3_statement 96 [160, 0, 10, 42, 180, 1, 0, 167, 0, 4, 3, 60, 27, 170, 0, 0] := ch_ckof (by decide +kernel)
theorem bX3_statement_7 : ch_ck cX3_statement 112 [0, 0, 1, 61, 0, 0, 0, 6, 0, 0, 0, 13, 0, 0, 0, 47] := ch_ckof (by decide +kernel)
theorem bX3_statement_8 : ch_ck cX3_statement 128 [0, 0, 1, 61, 0, 0, 0, 122, 0, 0, 0, 248, 0, 0, 0, 248] := ch_ckof (by decide +kernel)
theorem bX3_statement_9 : ch_ck cX3_statement 144 [0, 0, 0, 154, 0, 0, 1, 61, 0, 0, 0, 248, 42, 4, 182, 1] := ch_ckof (by decide +kernel)
theorem bX3_statement_10 : ch_ck cX3_statement 160 [126, 61, 42, 182, 1, 33, 42, 180, 0, 55, 28, 42, 182, 1, 132, 79] := ch_ckof (by decide +kernel)
theorem bX3_statement_11 : ch_ck cX3_statement 176 [42, 180, 0, 70, 28, 42, 182, 1, 135, 79, 42, 180, 0, 58, 28, 42] := ch_ckof (by decide +kernel)
theorem bX3_statement_12 : ch_ck cX3_statement 192 [16, 7, 182, 1, 74, 153, 0, 7, 4, 167, 0, 4, 3, 79, 42, 16] := ch_ckof (by decide +kernel)
theorem bX3_statement_13 : ch_ck cX3_statement 208 [7, 182, 1, 74, 153, 0, 17, 42, 182, 1, 33, 42, 180, 0, 73, 28] := ch_ckof (by decide +kernel)
theorem bX3_statement_14 : ch_ck cX3_statement 224 [42, 182, 1, 135, 79, 28, 172, 42, 5, 182, 1, 126, 61, 42, 182, 1] := ch_ckof (by decide +kernel)
theorem bX3_statement_15 : ch_ck cX3_statement 240 [33, 42, 180, 0, 55, 28, 42, 182, 1, 132, 79, 42, 180, 0, 70, 28] := ch_ckof (by decide +kernel)
theorem bX3_statement_16 : ch_ck cX3_statement 256 [42, 182, 1, 135, 79, 28, 172, 42, 8, 182, 1, 126, 61, 42, 182, 1] := ch_ckof (by decide +kernel)
theorem bX3_statement_17 : ch_ck cX3_statement 272 [33, 42, 180, 0, 70, 28, 42, 182, 1, 135, 79, 42, 42, 16, 12, 182] := ch_ckof (by decide +kernel)
theorem bX3_statement_18 : ch_ck cX3_statement 288 [1, 74, 182, 1, 42, 153, 0, 16, 42, 42, 16, 40, 182, 1, 39, 182] := ch_ckof (by decide +kernel)
theorem bX3_statement_19 : ch_ck cX3_statement 304 [1, 83, 154, 0, 5, 28, 172, 42, 180, 0, 61, 28, 16, 10, 42, 180] := ch_ckof (by decide +kernel)
theorem bX3_statement_20 : ch_ck cX3_statement 320 [1, 0, 96, 79, 42, 182, 1, 77, 62, 42, 180, 0, 64, 28, 42, 182] := ch_ckof (by decide +kernel)
theorem bX3_statement_21 : ch_ck cX3_statement 336 [1, 77, 79, 42, 16, 41, 182, 1, 96, 42, 180, 0, 73, 28, 42, 182] := ch_ckof (by decide +kernel)
theorem bX3_statement_22 : ch_ck cX3_statement 352 [1, 135, 79, 28, 172, 42, 27, 16, 9, 160, 0, 7, 6, 167, 0, 15] := ch_ckof (by decide +kernel)
theorem bX3_statement_23 : ch_ck cX3_statement 368 [27, 16, 10, 160, 0, 7, 7, 167, 0, 5, 16, 6, 182, 1, 126, 61] := ch_ckof (by decide +kernel)
theorem bX3_statement_24 : ch_ck cX3_statement 384 [42, 182, 1, 33, 27, 16, 9, 160, 0, 12, 42, 16, 59, 182, 1, 39] := ch_ckof (by decide +kernel)
theorem bX3_statement_25 : ch_ck cX3_statement 400 [154, 0, 13, 42, 180, 0, 55, 28, 42, 182, 1, 93, 79, 42, 42, 16] := ch_ckof (by decide +kernel)
theorem bX3_statement_26 : ch_ck cX3_statement 416 [59, 182, 1, 39, 182, 1, 42, 62, 28, 172, 42, 182, 1, 138, 172] := ch_ckof (by decide +kernel)
theorem dX3_statement_0 : decode cX3_statement 0 = .ok (.aload_n 0, 1) := dz_42 (bX3_statement_0 0 _ rfl)
theorem dX3_statement_1 : decode cX3_statement 1 = .ok (.invokevirtual 375, 3) := dz_182 (bX3_statement_0 1 _ rfl) (bX3_statement_0 2 _ rfl) (bX3_statement_0 3 _ rfl)
theorem dX3_statement_4 : decode cX3_statement 4 = .ok (.ifCond .ne 25, 3) := dz_154 (bX3_statement_0 4 _ rfl) (bX3_statement_0 5 _ rfl) (bX3_statement_0 6 _ rfl)
theorem dX3_statement_7 : decode cX3_statement 7 = .ok (.aload_n 0, 1) := dz_42 (bX3_statement_0 7 _ rfl)
theorem dX3_statement_8 : decode cX3_statement 8 = .ok (.getfield 263, 3) := dz_180 (bX3_statement_0 8 _ rfl) (bX3_statement_0 9 _ rfl) (bX3_statement_0 10 _ rfl)
theorem dX3_statement_11 : decode cX3_statement 11 = .ok (.iconst 2, 1) := dz_5 (bX3_statement_0 11 _ rfl)
theorem dX3_statement_12 : decode cX3_statement 12 = .ok (.if_icmp .ne 79, 3) := dz_160 (bX3_statement_0 12 _ rfl) (bX3_statement_0 13 _ rfl) (bX3_statement_0 14 _ rfl)
theorem dX3_statement_15 : decode cX3_statement 15 = .ok (.aload_n 0, 1) := dz_42 (bX3_statement_0 15 _ rfl)
theorem dX3_statement_16 : decode cX3_statement 16 = .ok (.getfield 283, 3) := dz_180 (bX3_statement_1 0 _ rfl) (bX3_statement_1 1 _ rfl) (bX3_statement_1 2 _ rfl)
theorem dX3_statement_19 : decode cX3_statement 19 = .ok (.ifCond .ge 72, 3) := dz_156 (bX3_statement_1 3 _ rfl) (bX3_statement_1 4 _ rfl) (bX3_statement_1 5 _ rfl)
theorem dX3_statement_22 : decode cX3_statement 22 = .ok (.aload_n 0, 1) := dz_42 (bX3_statement_1 6 _ rfl)
theorem dX3_statement_23 : decode cX3_statement 23 = .ok (.invokevirtual 379, 3) := dz_182 (bX3_statement_1 7 _ rfl) (bX3_statement_1 8 _ rfl) (bX3_statement_1 9 _ rfl)
theorem dX3_statement_26 : decode cX3_statement 26 = .ok (.ifCond .eq 65, 3) := dz_153 (bX3_statement_1 10 _ rfl) (bX3_statement_1 11 _ rfl) (bX3_statement_1 12 _ rfl)
theorem dX3_statement_29 : decode cX3_statement 29 = .ok (.aload_n 0, 1) := dz_42 (bX3_statement_1 13 _ rfl)
theorem dX3_statement_30 : decode cX3_statement 30 = .ok (.iconst 0, 1) := dz_3 (bX3_statement_1 14 _ rfl)
theorem dX3_statement_31 : decode cX3_statement 31 = .ok (.invokevirtual 382, 3) := dz_182 (bX3_statement_1 15 _ rfl) (bX3_statement_2 0 _ rfl) (bX3_statement_2 1 _ rfl)
theorem dX3_statement_34 : decode cX3_statement 34 = .ok (.istore_n 1, 1) := dz_60 (bX3_statement_2 2 _ rfl)
theorem dX3_statement_35 : decode cX3_statement 35 = .ok (.aload_n 0, 1) := dz_42 (bX3_statement_2 3 _ rfl)
theorem dX3_statement_36 : decode cX3_statement 36 = .ok (.getfield 61, 3) := dz_180 (bX3_statement_2 4 _ rfl) (bX3_statement_2 5 _ rfl) (bX3_statement_2 6 _ rfl)
theorem dX3_statement_39 : decode cX3_statement 39 = .ok (.iload_n 1, 1) := dz_27 (bX3_statement_2 7 _ rfl)
theorem dX3_statement_40 : decode cX3_statement 40 = .ok (.aload_n 0, 1) := dz_42 (bX3_statement_2 8 _ rfl)
theorem dX3_statement_41 : decode cX3_statement 41 = .ok (.invokevirtual 385, 3) := dz_182 (bX3_statement_2 9 _ rfl) (bX3_statement_2 10 _ rfl) (bX3_statement_2 11 _ rfl)
theorem dX3_statement_44 : decode cX3_statement 44 = .ok (.iastore, 1) := dz_79 (bX3_statement_2 12 _ rfl)
theorem dX3_statement_45 : decode cX3_statement 45 = .ok (.aload_n 0, 1) := dz_42 (bX3_statement_2 13 _ rfl)
theorem dX3_statement_46 : decode cX3_statement 46 = .ok (.getfield 64, 3) := dz_180 (bX3_statement_2 14 _ rfl) (bX3_statement_2 15 _ rfl) (bX3_statement_3 0 _ rfl)
theorem dX3_statement_49 : decode cX3_statement 49 = .ok (.iload_n 1, 1) := dz_27 (bX3_statement_3 1 _ rfl)
theorem dX3_statement_50 : decode cX3_statement 50 = .ok (.aload_n 0, 1) := dz_42 (bX3_statement_3 2 _ rfl)
theorem dX3_statement_51 : decode cX3_statement 51 = .ok (.invokevirtual 333, 3) := dz_182 (bX3_statement_3 3 _ rfl) (bX3_statement_3 4 _ rfl) (bX3_statement_3 5 _ rfl)
theorem dX3_statement_54 : decode cX3_statement 54 = .ok (.iastore, 1) := dz_79 (bX3_statement_3 6 _ rfl)
theorem dX3_statement_55 : decode cX3_statement 55 = .ok (.aload_n 0, 1) := dz_42 (bX3_statement_3 7 _ rfl)
theorem dX3_statement_56 : decode cX3_statement 56 = .ok (.bipush 61, 2) := dz_16 (bX3_statement_3 8 _ rfl) (bX3_statement_3 9 _ rfl)
theorem dX3_statement_58 : decode cX3_statement 58 = .ok (.invokevirtual 295, 3) := dz_182 (bX3_statement_3 10 _ rfl) (bX3_statement_3 11 _ rfl) (bX3_statement_3 12 _ rfl)
theorem dX3_statement_61 : decode cX3_statement 61 = .ok (.ifCond .eq 17, 3) := dz_153 (bX3_statement_3 13 _ rfl) (bX3_statement_3 14 _ rfl) (bX3_statement_3 15 _ rfl)
theorem dX3_statement_64 : decode cX3_statement 64 = .ok (.aload_n 0, 1) := dz_42 (bX3_statement_4 0 _ rfl)
theorem dX3_statement_65 : decode cX3_statement 65 = .ok (.invokevirtual 289, 3) := dz_182 (bX3_statement_4 1 _ rfl) (bX3_statement_4 2 _ rfl) (bX3_statement_4 3 _ rfl)
theorem dX3_statement_68 : decode cX3_statement 68 = .ok (.aload_n 0, 1) := dz_42 (bX3_statement_4 4 _ rfl)
theorem dX3_statement_69 : decode cX3_statement 69 = .ok (.getfield 55, 3) := dz_180 (bX3_statement_4 5 _ rfl) (bX3_statement_4 6 _ rfl) (bX3_statement_4 7 _ rfl)
theorem dX3_statement_72 : decode cX3_statement 72 = .ok (.iload_n 1, 1) := dz_27 (bX3_statement_4 8 _ rfl)
theorem dX3_statement_73 : decode cX3_statement 73 = .ok (.aload_n 0, 1) := dz_42 (bX3_statement_4 9 _ rfl)
theorem dX3_statement_74 : decode cX3_statement 74 = .ok (.invokevirtual 349, 3) := dz_182 (bX3_statement_4 10 _ rfl) (bX3_statement_4 11 _ rfl) (bX3_statement_4 12 _ rfl)
theorem dX3_statement_77 : decode cX3_statement 77 = .ok (.iastore, 1) := dz_79 (bX3_statement_4 13 _ rfl)
theorem dX3_statement_78 : decode cX3_statement 78 = .ok (.aload_n 0, 1) := dz_42 (bX3_statement_4 14 _ rfl)
theorem dX3_statement_79 : decode cX3_statement 79 = .ok (.aload_n 0, 1) := dz_42 (bX3_statement_4 15 _ rfl)
theorem dX3_statement_80 : decode cX3_statement 80 = .ok (.bipush 59, 2) := dz_16 (bX3_statement_5 0 _ rfl) (bX3_statement_5 1 _ rfl)
theorem dX3_statement_82 : decode cX3_statement 82 = .ok (.invokevirtual 295, 3) := dz_182 (bX3_statement_5 2 _ rfl) (bX3_statement_5 3 _ rfl) (bX3_statement_5 4 _ rfl)
theorem dX3_statement_85 : decode cX3_statement 85 = .ok (.invokevirtual 298, 3) := dz_182 (bX3_statement_5 5 _ rfl) (bX3_statement_5 6 _ rfl) (bX3_statement_5 7 _ rfl)
theorem dX3_statement_88 : decode cX3_statement 88 = .ok (.istore_n 2, 1) := dz_61 (bX3_statement_5 8 _ rfl)
theorem dX3_statement_89 : decode cX3_statement 89 = .ok (.iload_n 1, 1) := dz_27 (bX3_statement_5 9 _ rfl)
theorem dX3_statement_90 : decode cX3_statement 90 = .ok (.ireturn, 1) := dz_172 (bX3_statement_5 10 _ rfl)
theorem dX3_statement_91 : decode cX3_statement 91 = .ok (.aload_n 0, 1) := dz_42 (bX3_statement_5 11 _ rfl)
theorem dX3_statement_92 : decode cX3_statement 92 = .ok (.getfield 263, 3) := dz_180 (bX3_statement_5 12 _ rfl) (bX3_statement_5 13 _ rfl) (bX3_statement_5 14 _ rfl)
theorem dX3_statement_95 : decode cX3_statement 95 = .ok (.iconst 5, 1) := dz_8 (bX3_statement_5 15 _ rfl)
theorem dX3_statement_96 : decode cX3_statement 96 = .ok (.if_icmp .ne 10, 3) := dz_160 (bX3_statement_6 0 _ rfl) (bX3_statement_6 1 _ rfl) (bX3_statement_6 2 _ rfl)
theorem dX3_statement_99 : decode cX3_statement 99 = .ok (.aload_n 0, 1) := dz_42 (bX3_statement_6 3 _ rfl)
theorem dX3_statement_100 : decode cX3_statement 100 = .ok (.getfield 256, 3) := dz_180 (bX3_statement_6 4 _ rfl) (bX3_statement_6 5 _ rfl) (bX3_statement_6 6 _ rfl)
theorem dX3_statement_103 : decode cX3_statement 103 = .ok (.goto 4, 3) := dz_167 (bX3_statement_6 7 _ rfl) (bX3_statement_6 8 _ rfl) (bX3_statement_6 9 _ rfl)
theorem dX3_statement_106 : decode cX3_statement 106 = .ok (.iconst 0, 1) := dz_3 (bX3_statement_6 10 _ rfl)
theorem dX3_statement_107 : decode cX3_statement 107 = .ok (.istore_n 1, 1) := dz_60 (bX3_statement_6 11 _ rfl)
theorem dX3_statement_108 : decode cX3_statement 108 = .ok (.iload_n 1, 1) := dz_27 (bX3_statement_6 12 _ rfl)
theorem dX3_statement_109 : decode cX3_statement 109 = .ok (.tableswitch 317 6 13 #[47, 317, 122, 248, 248, 154, 317, 248], 47) := by decide +kernel
theorem dX3_statement_156 : decode cX3_statement 156 = .ok (.aload_n 0, 1) := dz_42 (bX3_statement_9 12 _ rfl)
theorem dX3_statement_157 : decode cX3_statement 157 = .ok (.iconst 1, 1) := dz_4 (bX3_statement_9 13 _ rfl)
theorem dX3_statement_158 : decode cX3_statement 158 = .ok (.invokevirtual 382, 3) := dz_182 (bX3_statement_9 14 _ rfl) (bX3_statement_9 15 _ rfl) (bX3_statement_10 0 _ rfl)
theorem dX3_statement_161 : decode cX3_statement 161 = .ok (.istore_n 2, 1) := dz_61 (bX3_statement_10 1 _ rfl)
theorem dX3_statement_162 : decode cX3_statement 162 = .ok (.aload_n 0, 1) := dz_42 (bX3_statement_10 2 _ rfl)
theorem dX3_statement_163 : decode cX3_statement 163 = .ok (.invokevirtual 289, 3) := dz_182 (bX3_statement_10 3 _ rfl) (bX3_statement_10 4 _ rfl) (bX3_statement_10 5 _ rfl)
theorem dX3_statement_166 : decode cX3_statement 166 = .ok (.aload_n 0, 1) := dz_42 (bX3_statement_10 6 _ rfl)
theorem dX3_statement_167 : decode cX3_statement 167 = .ok (.getfield 55, 3) := dz_180 (bX3_statement_10 7 _ rfl) (bX3_statement_10 8 _ rfl) (bX3_statement_10 9 _ rfl)
theorem dX3_statement_170 : decode cX3_statement 170 = .ok (.iload_n 2, 1) := dz_28 (bX3_statement_10 10 _ rfl)
theorem dX3_statement_171 : decode cX3_statement 171 = .ok (.aload_n 0, 1) := dz_42 (bX3_statement_10 11 _ rfl)
theorem dX3_statement_172 : decode cX3_statement 172 = .ok (.invokevirtual 388, 3) := dz_182 (bX3_statement_10 12 _ rfl) (bX3_statement_10 13 _ rfl) (bX3_statement_10 14 _ rfl)
theorem dX3_statement_175 : decode cX3_statement 175 = .ok (.iastore, 1) := dz_79 (bX3_statement_10 15 _ rfl)
theorem dX3_statement_176 : decode cX3_statement 176 = .ok (.aload_n 0, 1) := dz_42 (bX3_statement_11 0 _ rfl)
theorem dX3_statement_177 : decode cX3_statement 177 = .ok (.getfield 70, 3) := dz_180 (bX3_statement_11 1 _ rfl) (bX3_statement_11 2 _ rfl) (bX3_statement_11 3 _ rfl)
theorem dX3_statement_180 : decode cX3_statement 180 = .ok (.iload_n 2, 1) := dz_28 (bX3_statement_11 4 _ rfl)
theorem dX3_statement_181 : decode cX3_statement 181 = .ok (.aload_n 0, 1) := dz_42 (bX3_statement_11 5 _ rfl)
theorem dX3_statement_182 : decode cX3_statement 182 = .ok (.invokevirtual 391, 3) := dz_182 (bX3_statement_11 6 _ rfl) (bX3_statement_11 7 _ rfl) (bX3_statement_11 8 _ rfl)
theorem dX3_statement_185 : decode cX3_statement 185 = .ok (.iastore, 1) := dz_79 (bX3_statement_11 9 _ rfl)
theorem dX3_statement_186 : decode cX3_statement 186 = .ok (.aload_n 0, 1) := dz_42 (bX3_statement_11 10 _ rfl)
theorem dX3_statement_187 : decode cX3_statement 187 = .ok (.getfield 58, 3) := dz_180 (bX3_statement_11 11 _ rfl) (bX3_statement_11 12 _ rfl) (bX3_statement_11 13 _ rfl)
theorem dX3_statement_190 : decode cX3_statement 190 = .ok (.iload_n 2, 1) := dz_28 (bX3_statement_11 14 _ rfl)
theorem dX3_statement_191 : decode cX3_statement 191 = .ok (.aload_n 0, 1) := dz_42 (bX3_statement_11 15 _ rfl)
theorem dX3_statement_192 : decode cX3_statement 192 = .ok (.bipush 7, 2) := dz_16 (bX3_statement_12 0 _ rfl) (bX3_statement_12 1 _ rfl)
theorem dX3_statement_194 : decode cX3_statement 194 = .ok (.invokevirtual 330, 3) := dz_182 (bX3_statement_12 2 _ rfl) (bX3_statement_12 3 _ rfl) (bX3_statement_12 4 _ rfl)
theorem dX3_statement_197 : decode cX3_statement 197 = .ok (.ifCond .eq 7, 3) := dz_153 (bX3_statement_12 5 _ rfl) (bX3_statement_12 6 _ rfl) (bX3_statement_12 7 _ rfl)
theorem dX3_statement_200 : decode cX3_statement 200 = .ok (.iconst 1, 1) := dz_4 (bX3_statement_12 8 _ rfl)
theorem dX3_statement_201 : decode cX3_statement 201 = .ok (.goto 4, 3) := dz_167 (bX3_statement_12 9 _ rfl) (bX3_statement_12 10 _ rfl) (bX3_statement_12 11 _ rfl)
theorem dX3_statement_204 : decode cX3_statement 204 = .ok (.iconst 0, 1) := dz_3 (bX3_statement_12 12 _ rfl)
theorem dX3_statement_205 : decode cX3_statement 205 = .ok (.iastore, 1) := dz_79 (bX3_statement_12 13 _ rfl)
theorem dX3_statement_206 : decode cX3_statement 206 = .ok (.aload_n 0, 1) := dz_42 (bX3_statement_12 14 _ rfl)
theorem dX3_statement_207 : decode cX3_statement 207 = .ok (.bipush 7, 2) := dz_16 (bX3_statement_12 15 _ rfl) (bX3_statement_13 0 _ rfl)
theorem dX3_statement_209 : decode cX3_statement 209 = .ok (.invokevirtual 330, 3) := dz_182 (bX3_statement_13 1 _ rfl) (bX3_statement_13 2 _ rfl) (bX3_statement_13 3 _ rfl)
theorem dX3_statement_212 : decode cX3_statement 212 = .ok (.ifCond .eq 17, 3) := dz_153 (bX3_statement_13 4 _ rfl) (bX3_statement_13 5 _ rfl) (bX3_statement_13 6 _ rfl)
theorem dX3_statement_215 : decode cX3_statement 215 = .ok (.aload_n 0, 1) := dz_42 (bX3_statement_13 7 _ rfl)
theorem dX3_statement_216 : decode cX3_statement 216 = .ok (.invokevirtual 289, 3) := dz_182 (bX3_statement_13 8 _ rfl) (bX3_statement_13 9 _ rfl) (bX3_statement_13 10 _ rfl)
theorem dX3_statement_219 : decode cX3_statement 219 = .ok (.aload_n 0, 1) := dz_42 (bX3_statement_13 11 _ rfl)
theorem dX3_statement_220 : decode cX3_statement 220 = .ok (.getfield 73, 3) := dz_180 (bX3_statement_13 12 _ rfl) (bX3_statement_13 13 _ rfl) (bX3_statement_13 14 _ rfl)
theorem dX3_statement_223 : decode cX3_statement 223 = .ok (.iload_n 2, 1) := dz_28 (bX3_statement_13 15 _ rfl)
theorem dX3_statement_224 : decode cX3_statement 224 = .ok (.aload_n 0, 1) := dz_42 (bX3_statement_14 0 _ rfl)
theorem dX3_statement_225 : decode cX3_statement 225 = .ok (.invokevirtual 391, 3) := dz_182 (bX3_statement_14 1 _ rfl) (bX3_statement_14 2 _ rfl) (bX3_statement_14 3 _ rfl)
theorem dX3_statement_228 : decode cX3_statement 228 = .ok (.iastore, 1) := dz_79 (bX3_statement_14 4 _ rfl)
theorem dX3_statement_229 : decode cX3_statement 229 = .ok (.iload_n 2, 1) := dz_28 (bX3_statement_14 5 _ rfl)
theorem dX3_statement_230 : decode cX3_statement 230 = .ok (.ireturn, 1) := dz_172 (bX3_statement_14 6 _ rfl)
theorem dX3_statement_231 : decode cX3_statement 231 = .ok (.aload_n 0, 1) := dz_42 (bX3_statement_14 7 _ rfl)
theorem dX3_statement_232 : decode cX3_statement 232 = .ok (.iconst 2, 1) := dz_5 (bX3_statement_14 8 _ rfl)
theorem dX3_statement_233 : decode cX3_statement 233 = .ok (.invokevirtual 382, 3) := dz_182 (bX3_statement_14 9 _ rfl) (bX3_statement_14 10 _ rfl) (bX3_statement_14 11 _ rfl)
theorem dX3_statement_236 : decode cX3_statement 236 = .ok (.istore_n 2, 1) := dz_61 (bX3_statement_14 12 _ rfl)
theorem dX3_statement_237 : decode cX3_statement 237 = .ok (.aload_n 0, 1) := dz_42 (bX3_statement_14 13 _ rfl)
theorem dX3_statement_238 : decode cX3_statement 238 = .ok (.invokevirtual 289, 3) := dz_182 (bX3_statement_14 14 _ rfl) (bX3_statement_14 15 _ rfl) (bX3_statement_15 0 _ rfl)
theorem dX3_statement_241 : decode cX3_statement 241 = .ok (.aload_n 0, 1) := dz_42 (bX3_statement_15 1 _ rfl)
theorem dX3_statement_242 : decode cX3_statement 242 = .ok (.getfield 55, 3) := dz_180 (bX3_statement_15 2 _ rfl) (bX3_statement_15 3 _ rfl) (bX3_statement_15 4 _ rfl)
theorem dX3_statement_245 : decode cX3_statement 245 = .ok (.iload_n 2, 1) := dz_28 (bX3_statement_15 5 _ rfl)
theorem dX3_statement_246 : decode cX3_statement 246 = .ok (.aload_n 0, 1) := dz_42 (bX3_statement_15 6 _ rfl)
theorem dX3_statement_247 : decode cX3_statement 247 = .ok (.invokevirtual 388, 3) := dz_182 (bX3_statement_15 7 _ rfl) (bX3_statement_15 8 _ rfl) (bX3_statement_15 9 _ rfl)
theorem dX3_statement_250 : decode cX3_statement 250 = .ok (.iastore, 1) := dz_79 (bX3_statement_15 10 _ rfl)
theorem dX3_statement_251 : decode cX3_statement 251 = .ok (.aload_n 0, 1) := dz_42 (bX3_statement_15 11 _ rfl)
theorem dX3_statement_252 : decode cX3_statement 252 = .ok (.getfield 70, 3) := dz_180 (bX3_statement_15 12 _ rfl) (bX3_statement_15 13 _ rfl) (bX3_statement_15 14 _ rfl)
theorem dX3_statement_255 : decode cX3_statement 255 = .ok (.iload_n 2, 1) := dz_28 (bX3_statement_15 15 _ rfl)
theorem dX3_statement_256 : decode cX3_statement 256 = .ok (.aload_n 0, 1) := dz_42 (bX3_statement_16 0 _ rfl)
theorem dX3_statement_257 : decode cX3_statement 257 = .ok (.invokevirtual 391, 3) := dz_182 (bX3_statement_16 1 _ rfl) (bX3_statement_16 2 _ rfl) (bX3_statement_16 3 _ rfl)
theorem dX3_statement_260 : decode cX3_statement 260 = .ok (.iastore, 1) := dz_79 (bX3_statement_16 4 _ rfl)
theorem dX3_statement_261 : decode cX3_statement 261 = .ok (.iload_n 2, 1) := dz_28 (bX3_statement_16 5 _ rfl)
theorem dX3_statement_262 : decode cX3_statement 262 = .ok (.ireturn, 1) := dz_172 (bX3_statement_16 6 _ rfl)
theorem dX3_statement_263 : decode cX3_statement 263 = .ok (.aload_n 0, 1) := dz_42 (bX3_statement_16 7 _ rfl)
theorem dX3_statement_264 : decode cX3_statement 264 = .ok (.iconst 5, 1) := dz_8 (bX3_statement_16 8 _ rfl)
theorem dX3_statement_265 : decode cX3_statement 265 = .ok (.invokevirtual 382, 3) := dz_182 (bX3_statement_16 9 _ rfl) (bX3_statement_16 10 _ rfl) (bX3_statement_16 11 _ rfl)
theorem dX3_statement_268 : decode cX3_statement 268 = .ok (.istore_n 2, 1) := dz_61 (bX3_statement_16 12 _ rfl)
theorem dX3_statement_269 : decode cX3_statement 269 = .ok (.aload_n 0, 1) := dz_42 (bX3_statement_16 13 _ rfl)
theorem dX3_statement_270 : decode cX3_statement 270 = .ok (.invokevirtual 289, 3) := dz_182 (bX3_statement_16 14 _ rfl) (bX3_statement_16 15 _ rfl) (bX3_statement_17 0 _ rfl)
theorem dX3_statement_273 : decode cX3_statement 273 = .ok (.aload_n 0, 1) := dz_42 (bX3_statement_17 1 _ rfl)
theorem dX3_statement_274 : decode cX3_statement 274 = .ok (.getfield 70, 3) := dz_180 (bX3_statement_17 2 _ rfl) (bX3_statement_17 3 _ rfl) (bX3_statement_17 4 _ rfl)
theorem dX3_statement_277 : decode cX3_statement 277 = .ok (.iload_n 2, 1) := dz_28 (bX3_statement_17 5 _ rfl)
theorem dX3_statement_278 : decode cX3_statement 278 = .ok (.aload_n 0, 1) := dz_42 (bX3_statement_17 6 _ rfl)
theorem dX3_statement_279 : decode cX3_statement 279 = .ok (.invokevirtual 391, 3) := dz_182 (bX3_statement_17 7 _ rfl) (bX3_statement_17 8 _ rfl) (bX3_statement_17 9 _ rfl)
theorem dX3_statement_282 : decode cX3_statement 282 = .ok (.iastore, 1) := dz_79 (bX3_statement_17 10 _ rfl)
theorem dX3_statement_283 : decode cX3_statement 283 = .ok (.aload_n 0, 1) := dz_42 (bX3_statement_17 11 _ rfl)
theorem dX3_statement_284 : decode cX3_statement 284 = .ok (.aload_n 0, 1) := dz_42 (bX3_statement_17 12 _ rfl)
theorem dX3_statement_285 : decode cX3_statement 285 = .ok (.bipush 12, 2) := dz_16 (bX3_statement_17 13 _ rfl) (bX3_statement_17 14 _ rfl)
theorem dX3_statement_287 : decode cX3_statement 287 = .ok (.invokevirtual 330, 3) := dz_182 (bX3_statement_17 15 _ rfl) (bX3_statement_18 0 _ rfl) (bX3_statement_18 1 _ rfl)
theorem dX3_statement_290 : decode cX3_statement 290 = .ok (.invokevirtual 298, 3) := dz_182 (bX3_statement_18 2 _ rfl) (bX3_statement_18 3 _ rfl) (bX3_statement_18 4 _ rfl)
theorem dX3_statement_293 : decode cX3_statement 293 = .ok (.ifCond .eq 16, 3) := dz_153 (bX3_statement_18 5 _ rfl) (bX3_statement_18 6 _ rfl) (bX3_statement_18 7 _ rfl)
theorem dX3_statement_296 : decode cX3_statement 296 = .ok (.aload_n 0, 1) := dz_42 (bX3_statement_18 8 _ rfl)
theorem dX3_statement_297 : decode cX3_statement 297 = .ok (.aload_n 0, 1) := dz_42 (bX3_statement_18 9 _ rfl)
theorem dX3_statement_298 : decode cX3_statement 298 = .ok (.bipush 40, 2) := dz_16 (bX3_statement_18 10 _ rfl) (bX3_statement_18 11 _ rfl)
theorem dX3_statement_300 : decode cX3_statement 300 = .ok (.invokevirtual 295, 3) := dz_182 (bX3_statement_18 12 _ rfl) (bX3_statement_18 13 _ rfl) (bX3_statement_18 14 _ rfl)
theorem dX3_statement_303 : decode cX3_statement 303 = .ok (.invokevirtual 339, 3) := dz_182 (bX3_statement_18 15 _ rfl) (bX3_statement_19 0 _ rfl) (bX3_statement_19 1 _ rfl)
theorem dX3_statement_306 : decode cX3_statement 306 = .ok (.ifCond .ne 5, 3) := dz_154 (bX3_statement_19 2 _ rfl) (bX3_statement_19 3 _ rfl) (bX3_statement_19 4 _ rfl)
theorem dX3_statement_309 : decode cX3_statement 309 = .ok (.iload_n 2, 1) := dz_28 (bX3_statement_19 5 _ rfl)
theorem dX3_statement_310 : decode cX3_statement 310 = .ok (.ireturn, 1) := dz_172 (bX3_statement_19 6 _ rfl)
theorem dX3_statement_311 : decode cX3_statement 311 = .ok (.aload_n 0, 1) := dz_42 (bX3_statement_19 7 _ rfl)
theorem dX3_statement_312 : decode cX3_statement 312 = .ok (.getfield 61, 3) := dz_180 (bX3_statement_19 8 _ rfl) (bX3_statement_19 9 _ rfl) (bX3_statement_19 10 _ rfl)
theorem dX3_statement_315 : decode cX3_statement 315 = .ok (.iload_n 2, 1) := dz_28 (bX3_statement_19 11 _ rfl)
theorem dX3_statement_316 : decode cX3_statement 316 = .ok (.bipush 10, 2) := dz_16 (bX3_statement_19 12 _ rfl) (bX3_statement_19 13 _ rfl)
theorem dX3_statement_318 : decode cX3_statement 318 = .ok (.aload_n 0, 1) := dz_42 (bX3_statement_19 14 _ rfl)
theorem dX3_statement_319 : decode cX3_statement 319 = .ok (.getfield 256, 3) := dz_180 (bX3_statement_19 15 _ rfl) (bX3_statement_20 0 _ rfl) (bX3_statement_20 1 _ rfl)
theorem dX3_statement_322 : decode cX3_statement 322 = .ok (.iadd, 1) := dz_96 (bX3_statement_20 2 _ rfl)
theorem dX3_statement_323 : decode cX3_statement 323 = .ok (.iastore, 1) := dz_79 (bX3_statement_20 3 _ rfl)
theorem dX3_statement_324 : decode cX3_statement 324 = .ok (.aload_n 0, 1) := dz_42 (bX3_statement_20 4 _ rfl)
theorem dX3_statement_325 : decode cX3_statement 325 = .ok (.invokevirtual 333, 3) := dz_182 (bX3_statement_20 5 _ rfl) (bX3_statement_20 6 _ rfl) (bX3_statement_20 7 _ rfl)
theorem dX3_statement_328 : decode cX3_statement 328 = .ok (.istore_n 3, 1) := dz_62 (bX3_statement_20 8 _ rfl)
theorem dX3_statement_329 : decode cX3_statement 329 = .ok (.aload_n 0, 1) := dz_42 (bX3_statement_20 9 _ rfl)
theorem dX3_statement_330 : decode cX3_statement 330 = .ok (.getfield 64, 3) := dz_180 (bX3_statement_20 10 _ rfl) (bX3_statement_20 11 _ rfl) (bX3_statement_20 12 _ rfl)
theorem dX3_statement_333 : decode cX3_statement 333 = .ok (.iload_n 2, 1) := dz_28 (bX3_statement_20 13 _ rfl)
theorem dX3_statement_334 : decode cX3_statement 334 = .ok (.aload_n 0, 1) := dz_42 (bX3_statement_20 14 _ rfl)
theorem dX3_statement_335 : decode cX3_statement 335 = .ok (.invokevirtual 333, 3) := dz_182 (bX3_statement_20 15 _ rfl) (bX3_statement_21 0 _ rfl) (bX3_statement_21 1 _ rfl)
theorem dX3_statement_338 : decode cX3_statement 338 = .ok (.iastore, 1) := dz_79 (bX3_statement_21 2 _ rfl)
theorem dX3_statement_339 : decode cX3_statement 339 = .ok (.aload_n 0, 1) := dz_42 (bX3_statement_21 3 _ rfl)
theorem dX3_statement_340 : decode cX3_statement 340 = .ok (.bipush 41, 2) := dz_16 (bX3_statement_21 4 _ rfl) (bX3_statement_21 5 _ rfl)
theorem dX3_statement_342 : decode cX3_statement 342 = .ok (.invokevirtual 352, 3) := dz_182 (bX3_statement_21 6 _ rfl) (bX3_statement_21 7 _ rfl) (bX3_statement_21 8 _ rfl)
theorem dX3_statement_345 : decode cX3_statement 345 = .ok (.aload_n 0, 1) := dz_42 (bX3_statement_21 9 _ rfl)
theorem dX3_statement_346 : decode cX3_statement 346 = .ok (.getfield 73, 3) := dz_180 (bX3_statement_21 10 _ rfl) (bX3_statement_21 11 _ rfl) (bX3_statement_21 12 _ rfl)
theorem dX3_statement_349 : decode cX3_statement 349 = .ok (.iload_n 2, 1) := dz_28 (bX3_statement_21 13 _ rfl)
theorem dX3_statement_350 : decode cX3_statement 350 = .ok (.aload_n 0, 1) := dz_42 (bX3_statement_21 14 _ rfl)
theorem dX3_statement_351 : decode cX3_statement 351 = .ok (.invokevirtual 391, 3) := dz_182 (bX3_statement_21 15 _ rfl) (bX3_statement_22 0 _ rfl) (bX3_statement_22 1 _ rfl)
theorem dX3_statement_354 : decode cX3_statement 354 = .ok (.iastore, 1) := dz_79 (bX3_statement_22 2 _ rfl)
theorem dX3_statement_355 : decode cX3_statement 355 = .ok (.iload_n 2, 1) := dz_28 (bX3_statement_22 3 _ rfl)
theorem dX3_statement_356 : decode cX3_statement 356 = .ok (.ireturn, 1) := dz_172 (bX3_statement_22 4 _ rfl)
theorem dX3_statement_357 : decode cX3_statement 357 = .ok (.aload_n 0, 1) := dz_42 (bX3_statement_22 5 _ rfl)
theorem dX3_statement_358 : decode cX3_statement 358 = .ok (.iload_n 1, 1) := dz_27 (bX3_statement_22 6 _ rfl)
theorem dX3_statement_359 : decode cX3_statement 359 = .ok (.bipush 9, 2) := dz_16 (bX3_statement_22 7 _ rfl) (bX3_statement_22 8 _ rfl)
theorem dX3_statement_361 : decode cX3_statement 361 = .ok (.if_icmp .ne 7, 3) := dz_160 (bX3_statement_22 9 _ rfl) (bX3_statement_22 10 _ rfl) (bX3_statement_22 11 _ rfl)
theorem dX3_statement_364 : decode cX3_statement 364 = .ok (.iconst 3, 1) := dz_6 (bX3_statement_22 12 _ rfl)
theorem dX3_statement_365 : decode cX3_statement 365 = .ok (.goto 15, 3) := dz_167 (bX3_statement_22 13 _ rfl) (bX3_statement_22 14 _ rfl) (bX3_statement_22 15 _ rfl)
theorem dX3_statement_368 : decode cX3_statement 368 = .ok (.iload_n 1, 1) := dz_27 (bX3_statement_23 0 _ rfl)
theorem dX3_statement_369 : decode cX3_statement 369 = .ok (.bipush 10, 2) := dz_16 (bX3_statement_23 1 _ rfl) (bX3_statement_23 2 _ rfl)
theorem dX3_statement_371 : decode cX3_statement 371 = .ok (.if_icmp .ne 7, 3) := dz_160 (bX3_statement_23 3 _ rfl) (bX3_statement_23 4 _ rfl) (bX3_statement_23 5 _ rfl)
theorem dX3_statement_374 : decode cX3_statement 374 = .ok (.iconst 4, 1) := dz_7 (bX3_statement_23 6 _ rfl)
theorem dX3_statement_375 : decode cX3_statement 375 = .ok (.goto 5, 3) := dz_167 (bX3_statement_23 7 _ rfl) (bX3_statement_23 8 _ rfl) (bX3_statement_23 9 _ rfl)
theorem dX3_statement_378 : decode cX3_statement 378 = .ok (.bipush 6, 2) := dz_16 (bX3_statement_23 10 _ rfl) (bX3_statement_23 11 _ rfl)
theorem dX3_statement_380 : decode cX3_statement 380 = .ok (.invokevirtual 382, 3) := dz_182 (bX3_statement_23 12 _ rfl) (bX3_statement_23 13 _ rfl) (bX3_statement_23 14 _ rfl)
theorem dX3_statement_383 : decode cX3_statement 383 = .ok (.istore_n 2, 1) := dz_61 (bX3_statement_23 15 _ rfl)
theorem dX3_statement_384 : decode cX3_statement 384 = .ok (.aload_n 0, 1) := dz_42 (bX3_statement_24 0 _ rfl)
theorem dX3_statement_385 : decode cX3_statement 385 = .ok (.invokevirtual 289, 3) := dz_182 (bX3_statement_24 1 _ rfl) (bX3_statement_24 2 _ rfl) (bX3_statement_24 3 _ rfl)
theorem dX3_statement_388 : decode cX3_statement 388 = .ok (.iload_n 1, 1) := dz_27 (bX3_statement_24 4 _ rfl)
theorem dX3_statement_389 : decode cX3_statement 389 = .ok (.bipush 9, 2) := dz_16 (bX3_statement_24 5 _ rfl) (bX3_statement_24 6 _ rfl)
theorem dX3_statement_391 : decode cX3_statement 391 = .ok (.if_icmp .ne 12, 3) := dz_160 (bX3_statement_24 7 _ rfl) (bX3_statement_24 8 _ rfl) (bX3_statement_24 9 _ rfl)
theorem dX3_statement_394 : decode cX3_statement 394 = .ok (.aload_n 0, 1) := dz_42 (bX3_statement_24 10 _ rfl)
theorem dX3_statement_395 : decode cX3_statement 395 = .ok (.bipush 59, 2) := dz_16 (bX3_statement_24 11 _ rfl) (bX3_statement_24 12 _ rfl)
theorem dX3_statement_397 : decode cX3_statement 397 = .ok (.invokevirtual 295, 3) := dz_182 (bX3_statement_24 13 _ rfl) (bX3_statement_24 14 _ rfl) (bX3_statement_24 15 _ rfl)
theorem dX3_statement_400 : decode cX3_statement 400 = .ok (.ifCond .ne 13, 3) := dz_154 (bX3_statement_25 0 _ rfl) (bX3_statement_25 1 _ rfl) (bX3_statement_25 2 _ rfl)
theorem dX3_statement_403 : decode cX3_statement 403 = .ok (.aload_n 0, 1) := dz_42 (bX3_statement_25 3 _ rfl)
theorem dX3_statement_404 : decode cX3_statement 404 = .ok (.getfield 55, 3) := dz_180 (bX3_statement_25 4 _ rfl) (bX3_statement_25 5 _ rfl) (bX3_statement_25 6 _ rfl)
theorem dX3_statement_407 : decode cX3_statement 407 = .ok (.iload_n 2, 1) := dz_28 (bX3_statement_25 7 _ rfl)
theorem dX3_statement_408 : decode cX3_statement 408 = .ok (.aload_n 0, 1) := dz_42 (bX3_statement_25 8 _ rfl)
theorem dX3_statement_409 : decode cX3_statement 409 = .ok (.invokevirtual 349, 3) := dz_182 (bX3_statement_25 9 _ rfl) (bX3_statement_25 10 _ rfl) (bX3_statement_25 11 _ rfl)
theorem dX3_statement_412 : decode cX3_statement 412 = .ok (.iastore, 1) := dz_79 (bX3_statement_25 12 _ rfl)
theorem dX3_statement_413 : decode cX3_statement 413 = .ok (.aload_n 0, 1) := dz_42 (bX3_statement_25 13 _ rfl)
theorem dX3_statement_414 : decode cX3_statement 414 = .ok (.aload_n 0, 1) := dz_42 (bX3_statement_25 14 _ rfl)
theorem dX3_statement_415 : decode cX3_statement 415 = .ok (.bipush 59, 2) := dz_16 (bX3_statement_25 15 _ rfl) (bX3_statement_26 0 _ rfl)
theorem dX3_statement_417 : decode cX3_statement 417 = .ok (.invokevirtual 295, 3) := dz_182 (bX3_statement_26 1 _ rfl) (bX3_statement_26 2 _ rfl) (bX3_statement_26 3 _ rfl)
theorem dX3_statement_420 : decode cX3_statement 420 = .ok (.invokevirtual 298, 3) := dz_182 (bX3_statement_26 4 _ rfl) (bX3_statement_26 5 _ rfl) (bX3_statement_26 6 _ rfl)
theorem dX3_statement_423 : decode cX3_statement 423 = .ok (.istore_n 3, 1) := dz_62 (bX3_statement_26 7 _ rfl)
theorem dX3_statement_424 : decode cX3_statement 424 = .ok (.iload_n 2, 1) := dz_28 (bX3_statement_26 8 _ rfl)
theorem dX3_statement_425 : decode cX3_statement 425 = .ok (.ireturn, 1) := dz_172 (bX3_statement_26 9 _ rfl)
theorem dX3_statement_426 : decode cX3_statement 426 = .ok (.aload_n 0, 1) := dz_42 (bX3_statement_26 10 _ rfl)
theorem dX3_statement_427 : decode cX3_statement 427 = .ok (.invokevirtual 394, 3) := dz_182 (bX3_statement_26 11 _ rfl) (bX3_statement_26 12 _ rfl) (bX3_statement_26 13 _ rfl)
theorem dX3_statement_430 : decode cX3_statement 430 = .ok (.ireturn, 1) := dz_172 (bX3_statement_26 14 _ rfl)
def m_X3_statement_78 (rc : Nat → ch_S → Option (Int32 × ch_S)) (x1 : Int32)  (σ : ch_S) : Option (Int32 × ch_S) := (m_X3_isSign 59 σ).bind fun v1 => (m_X3_passes v1 σ).bind fun p3 => some ((x1, p3.2))
theorem s_X3_statement_78 {g : State} {d : Nat} {rc : Nat → ch_S → Option (Int32 × ch_S)} {m : Nat} {w : ch_W} (hr0 : ∀ {σ : ch_S} {p : Int32 × ch_S} {Q : Outcome → ch_W → Prop}, rc 0  σ = some p → ch_eI Q (p.1, ch_put m w p.2) → ch_CT g false yX3_block (d + 459) [.ref m] (ch_put m w σ) Q)  {x1 : Int32} {σ : ch_S} {res : Int32 × ch_S} {Q : Outcome → ch_W → Prop} (h : m_X3_statement_78 rc x1 σ = some res) (hk : (fun r => ch_eI Q (r.1, ch_put m w r.2)) res) : ch_FT g false mX3_statement (d + 460) 78 [some (va_rf (some m)), some (.int x1), none, none] [] (ch_put m w σ) Q := by
  unfold m_X3_statement_78 at h
  obtain ⟨v1, hp2, h⟩ := ch_bd h
  refine ch_aload_n 0 (some m) dX3_statement_78 rfl (ch_aload_n 0 (some m) dX3_statement_79 rfl (ch_bipush _ 59 dX3_statement_80 rfl (ch_iv yX3_isSign prog_14_method_14_code 2 (some .boolean) (ci := 3) (q := (RX3, TX3, 109)) (b := m) (d' := 2) (av := [.int 59]) (rest := [va_rf (some m)]) rfl dX3_statement_82 q1942 q1944 rfl qs115 q1945 can_X3_isSign (Nat.le_trans (Nat.le_of_ble_eq_true rfl) (Nat.le_add_left 460 d)) (ch_hw (Nat.le_of_ble_eq_true rfl)) ch_put_tag (cp_kI (v := v1) (w1 := ch_put m w σ) (fun Q' hq => s_X3_isSign hp2 hq) ?_))))
  obtain ⟨p3, hp4, h⟩ := ch_bd h
  refine ch_iv yX3_passes prog_14_method_16_code 3 (some .boolean) (ci := 3) (q := (RX3, TX3, 109)) (b := m) (d' := 5) (av := [.int v1]) (rest := []) rfl dX3_statement_85 q1926 q1928 rfl qs111 q1929 can_X3_passes (Nat.le_trans (Nat.le_of_ble_eq_true rfl) (Nat.le_add_left 460 d)) (Nat.le_of_ble_eq_true rfl) ch_put_tag (cp_kI (v := p3.1) (w1 := ch_put m w p3.2) (fun Q' hq => s_X3_passes hp4 hq) ?_)
  obtain rfl := Option.some.inj h
  exact ch_istore_n 2 _ (ls1 := [some (va_rf (some m)), some (.int x1), some (.int p3.1), none]) dX3_statement_88 (Nat.le_of_ble_eq_true rfl) rfl (ch_iload_n 1 _ dX3_statement_89 rfl (ch_ireturn _ dX3_statement_90 rfl rfl hk))

def m_X3_statement_29 (rc : Nat → ch_S → Option (Int32 × ch_S))   (σ : ch_S) : Option (Int32 × ch_S) := (m_X3_begun 0 σ).bind fun p1 => (m_X3_type p1.2).bind fun p3 => (ch_mw p3.2 fX3_toldType p1.1 p3.1).bind fun σ5 => (m_X3_name σ5).bind fun p6 => (ch_mw p6.2 fX3_toldName p1.1 p6.1).bind fun σ8 => (m_X3_isSign 61 σ8).bind fun v9 => if v9 = 0 then (m_X3_statement_78 rc p1.1 σ8) else ((m_X3_next σ8).bind fun p11 => (cr_ME 450 0 0 0 0 p11).bind fun p13 => (ch_mw p13.2 fX3_value p1.1 p13.1).bind fun σ15 => m_X3_statement_78 rc p1.1 σ15)
theorem s_X3_statement_29 {g : State} {d : Nat} {rc : Nat → ch_S → Option (Int32 × ch_S)} {m : Nat} {w : ch_W} (hr0 : ∀ {σ : ch_S} {p : Int32 × ch_S} {Q : Outcome → ch_W → Prop}, rc 0  σ = some p → ch_eI Q (p.1, ch_put m w p.2) → ch_CT g false yX3_block (d + 459) [.ref m] (ch_put m w σ) Q)  {σ : ch_S} {res : Int32 × ch_S} {Q : Outcome → ch_W → Prop} (h : m_X3_statement_29 rc σ = some res) (hk : (fun r => ch_eI Q (r.1, ch_put m w r.2)) res) : ch_FT g false mX3_statement (d + 460) 29 [some (va_rf (some m)), none, none, none] [] (ch_put m w σ) Q := by
  unfold m_X3_statement_29 at h
  obtain ⟨p1, hp2, h⟩ := ch_bd h
  refine ch_aload_n 0 (some m) dX3_statement_29 rfl (ch_iconst _ 0 dX3_statement_30 rfl (ch_iv yX3_begun prog_14_method_32_code 3 (some .int) (ci := 3) (q := (RX3, TX3, 109)) (b := m) (d' := 2) (av := [.int 0]) (rest := []) rfl dX3_statement_31 q1978 q1980 rfl qs124 q1981 can_X3_begun (Nat.le_trans (Nat.le_of_ble_eq_true rfl) (Nat.le_add_left 460 d)) (Nat.le_of_ble_eq_true rfl) ch_put_tag (cp_kI (v := p1.1) (w1 := ch_put m w p1.2) (fun Q' hq => s_X3_begun hp2 hq) ?_)))
  obtain ⟨p3, hp4, h⟩ := ch_bd h
  refine ch_istore_n 1 _ (ls1 := [some (va_rf (some m)), some (.int p1.1), none, none]) dX3_statement_34 (Nat.le_of_ble_eq_true rfl) rfl (ch_aload_n 0 (some m) dX3_statement_35 rfl (mp_gA 31 dX3_statement_36 fl_X3_61 rfl (ch_iload_n 1 _ dX3_statement_39 rfl (ch_aload_n 0 (some m) dX3_statement_40 rfl (ch_iv yX3_type prog_14_method_35_code 3 (some .int) (ci := 3) (q := (RX3, TX3, 109)) (b := m) (d' := 6) (av := []) (rest := [.int p1.1, va_rf (ch_mr m fX3_toldType)]) rfl dX3_statement_41 q1954 q1956 rfl qs118 q1957 can_X3_type (Nat.le_trans (Nat.le_of_ble_eq_true rfl) (Nat.le_add_left 460 d)) (ch_hw (Nat.le_of_ble_eq_true rfl)) ch_put_tag (cp_kI (v := p3.1) (w1 := ch_put m w p3.2) (fun Q' hq => s_X3_type hp4 hq) ?_))))))
  refine mp_iast dX3_statement_44 mk_31 rfl h (fun σ5 h => ?_)
  obtain ⟨p6, hp7, h⟩ := ch_bd h
  refine ch_aload_n 0 (some m) dX3_statement_45 rfl (mp_gA 32 dX3_statement_46 fl_X3_64 rfl (ch_iload_n 1 _ dX3_statement_49 rfl (ch_aload_n 0 (some m) dX3_statement_50 rfl (ch_iv yX3_name prog_14_method_19_code 2 (some .int) (ci := 3) (q := (RX3, TX3, 109)) (b := m) (d' := 6) (av := []) (rest := [.int p1.1, va_rf (ch_mr m fX3_toldName)]) rfl dX3_statement_51 q1938 q1940 rfl qs114 q1941 can_X3_name (Nat.le_trans (Nat.le_of_ble_eq_true rfl) (Nat.le_add_left 460 d)) (ch_hw (Nat.le_of_ble_eq_true rfl)) ch_put_tag (cp_kI (v := p6.1) (w1 := ch_put m w p6.2) (fun Q' hq => s_X3_name hp7 hq) ?_)))))
  refine mp_iast dX3_statement_54 mk_32 rfl h (fun σ8 h => ?_)
  obtain ⟨v9, hp10, h⟩ := ch_bd h
  refine ch_aload_n 0 (some m) dX3_statement_55 rfl (ch_bipush _ 61 dX3_statement_56 rfl (ch_iv yX3_isSign prog_14_method_14_code 2 (some .boolean) (ci := 3) (q := (RX3, TX3, 109)) (b := m) (d' := 2) (av := [.int 61]) (rest := []) rfl dX3_statement_58 q1942 q1944 rfl qs115 q1945 can_X3_isSign (Nat.le_trans (Nat.le_of_ble_eq_true rfl) (Nat.le_add_left 460 d)) (Nat.le_of_ble_eq_true rfl) ch_put_tag (cp_kI (v := v9) (w1 := ch_put m w σ8) (fun Q' hq => s_X3_isSign hp10 hq) ?_)))
  refine cp_if_eq _ (tgt := 78) dX3_statement_61 rfl h (fun h => ?_) (fun h => ?_)
  · exact ch_FT.wk (ch_wS (ch_wS (ch_wN (ch_wN ch_w0)))) (s_X3_statement_78 hr0 h hk)
  · obtain ⟨p11, hp12, h⟩ := ch_bd h
    refine ch_aload_n 0 (some m) dX3_statement_64 rfl (ch_iv yX3_next prog_14_method_12_code 4 none (ci := 3) (q := (RX3, TX3, 109)) (b := m) (d' := 4) (av := []) (rest := []) rfl dX3_statement_65 q1884 q1886 rfl qs105 q1887 can_X3_next (Nat.le_trans (Nat.le_of_ble_eq_true rfl) (Nat.le_add_left 460 d)) (Nat.le_of_ble_eq_true rfl) ch_put_tag (cp_kV (w1 := ch_put m w p11) (fun Q' hq => s_X3_next hp12 hq) ?_))
    obtain ⟨p13, hp14, h⟩ := ch_bd h
    refine ch_aload_n 0 (some m) dX3_statement_68 rfl (mp_gA 29 dX3_statement_69 fl_X3_55 rfl (ch_iload_n 1 _ dX3_statement_72 rfl (ch_aload_n 0 (some m) dX3_statement_73 rfl (ch_iv yX3_expression prog_14_method_21_code 3 (some .int) (ci := 3) (q := (RX3, TX3, 109)) (b := m) (d' := 457) (av := []) (rest := [.int p1.1, va_rf (ch_mr m fX3_value)]) rfl dX3_statement_74 q1982 q1984 rfl qs125 q1985 can_X3_expression (Nat.le_trans (Nat.le_of_ble_eq_true rfl) (Nat.le_add_left 460 d)) (ch_hw (Nat.le_of_ble_eq_true rfl)) ch_put_tag (cp_kI (v := p13.1) (w1 := ch_put m w p13.2) (fun Q' hq => sr_X3_expression hp14 hq) ?_)))))
    refine mp_iast dX3_statement_77 mk_29 rfl h (fun σ15 h => ?_)
    exact ch_FT.wk (ch_wS (ch_wS (ch_wN (ch_wN ch_w0)))) (s_X3_statement_78 hr0 h hk)

def m_X3_statement_205 (rc : Nat → ch_S → Option (Int32 × ch_S)) (x2 : Int32) (y0 : Int32) (y1 : Int32) (σ : ch_S) : Option (Int32 × ch_S) := (ch_mw σ fX3_target y1 y0).bind fun σ1 => (m_X3_isKey 7 σ1).bind fun v2 => if v2 = 0 then (some ((x2, σ1))) else ((m_X3_next σ1).bind fun p4 => (rc 0 p4).bind fun p6 => (ch_mw p6.2 fX3_other x2 p6.1).bind fun σ8 => some ((x2, σ8)))
theorem s_X3_statement_205 {g : State} {d : Nat} {rc : Nat → ch_S → Option (Int32 × ch_S)} {m : Nat} {w : ch_W} (hr0 : ∀ {σ : ch_S} {p : Int32 × ch_S} {Q : Outcome → ch_W → Prop}, rc 0  σ = some p → ch_eI Q (p.1, ch_put m w p.2) → ch_CT g false yX3_block (d + 459) [.ref m] (ch_put m w σ) Q)  {x2 : Int32} {y0 : Int32} {y1 : Int32} {σ : ch_S} {res : Int32 × ch_S} {Q : Outcome → ch_W → Prop} (h : m_X3_statement_205 rc x2 y0 y1 σ = some res) (hk : (fun r => ch_eI Q (r.1, ch_put m w r.2)) res) : ch_FT g false mX3_statement (d + 460) 205 [some (va_rf (some m)), none, some (.int x2), none] [.int y0, .int y1, va_rf (ch_mr m fX3_target)] (ch_put m w σ) Q := by
  unfold m_X3_statement_205 at h
  refine mp_iast dX3_statement_205 mk_30 rfl h (fun σ1 h => ?_)
  obtain ⟨v2, hp3, h⟩ := ch_bd h
  refine ch_aload_n 0 (some m) dX3_statement_206 rfl (ch_bipush _ 7 dX3_statement_207 rfl (ch_iv yX3_isKey prog_14_method_15_code 2 (some .boolean) (ci := 3) (q := (RX3, TX3, 109)) (b := m) (d' := 2) (av := [.int 7]) (rest := []) rfl dX3_statement_209 q1922 q1924 rfl qs110 q1925 can_X3_isKey (Nat.le_trans (Nat.le_of_ble_eq_true rfl) (Nat.le_add_left 460 d)) (Nat.le_of_ble_eq_true rfl) ch_put_tag (cp_kI (v := v2) (w1 := ch_put m w σ1) (fun Q' hq => s_X3_isKey hp3 hq) ?_)))
  refine cp_if_eq _ (tgt := 229) dX3_statement_212 rfl h (fun h => ?_) (fun h => ?_)
  · obtain rfl := Option.some.inj h
    exact ch_iload_n 2 _ dX3_statement_229 rfl (ch_ireturn _ dX3_statement_230 rfl rfl hk)
  · obtain ⟨p4, hp5, h⟩ := ch_bd h
    refine ch_aload_n 0 (some m) dX3_statement_215 rfl (ch_iv yX3_next prog_14_method_12_code 4 none (ci := 3) (q := (RX3, TX3, 109)) (b := m) (d' := 4) (av := []) (rest := []) rfl dX3_statement_216 q1884 q1886 rfl qs105 q1887 can_X3_next (Nat.le_trans (Nat.le_of_ble_eq_true rfl) (Nat.le_add_left 460 d)) (Nat.le_of_ble_eq_true rfl) ch_put_tag (cp_kV (w1 := ch_put m w p4) (fun Q' hq => s_X3_next hp5 hq) ?_))
    obtain ⟨p6, hp7, h⟩ := ch_bd h
    refine ch_aload_n 0 (some m) dX3_statement_219 rfl (mp_gA 35 dX3_statement_220 fl_X3_73 rfl (ch_iload_n 2 _ dX3_statement_223 rfl (ch_aload_n 0 (some m) dX3_statement_224 rfl (ch_iv yX3_block prog_14_method_33_code 4 (some .int) (ci := 3) (q := (RX3, TX3, 109)) (b := m) (d' := (d + 459)) (av := []) (rest := [.int x2, va_rf (ch_mr m fX3_other)]) rfl dX3_statement_225 q1966 q1968 rfl qs121 q1969 can_X3_block (Nat.le_refl _) (ch_hw (Nat.le_of_ble_eq_true rfl)) ch_put_tag (cp_kI (v := p6.1) (w1 := ch_put m w p6.2) (fun Q' hq => hr0 hp7 hq) ?_)))))
    refine mp_iast dX3_statement_228 mk_35 rfl h (fun σ8 h => ?_)
    obtain rfl := Option.some.inj h
    exact ch_iload_n 2 _ dX3_statement_229 rfl (ch_ireturn _ dX3_statement_230 rfl rfl hk)

def m_X3_statement_413 (rc : Nat → ch_S → Option (Int32 × ch_S)) (x2 : Int32)  (σ : ch_S) : Option (Int32 × ch_S) := (m_X3_isSign 59 σ).bind fun v1 => (m_X3_passes v1 σ).bind fun p3 => some ((x2, p3.2))
theorem s_X3_statement_413 {g : State} {d : Nat} {rc : Nat → ch_S → Option (Int32 × ch_S)} {m : Nat} {w : ch_W} (hr0 : ∀ {σ : ch_S} {p : Int32 × ch_S} {Q : Outcome → ch_W → Prop}, rc 0  σ = some p → ch_eI Q (p.1, ch_put m w p.2) → ch_CT g false yX3_block (d + 459) [.ref m] (ch_put m w σ) Q)  {x2 : Int32} {σ : ch_S} {res : Int32 × ch_S} {Q : Outcome → ch_W → Prop} (h : m_X3_statement_413 rc x2 σ = some res) (hk : (fun r => ch_eI Q (r.1, ch_put m w r.2)) res) : ch_FT g false mX3_statement (d + 460) 413 [some (va_rf (some m)), none, some (.int x2), none] [] (ch_put m w σ) Q := by
  unfold m_X3_statement_413 at h
  obtain ⟨v1, hp2, h⟩ := ch_bd h
  refine ch_aload_n 0 (some m) dX3_statement_413 rfl (ch_aload_n 0 (some m) dX3_statement_414 rfl (ch_bipush _ 59 dX3_statement_415 rfl (ch_iv yX3_isSign prog_14_method_14_code 2 (some .boolean) (ci := 3) (q := (RX3, TX3, 109)) (b := m) (d' := 2) (av := [.int 59]) (rest := [va_rf (some m)]) rfl dX3_statement_417 q1942 q1944 rfl qs115 q1945 can_X3_isSign (Nat.le_trans (Nat.le_of_ble_eq_true rfl) (Nat.le_add_left 460 d)) (ch_hw (Nat.le_of_ble_eq_true rfl)) ch_put_tag (cp_kI (v := v1) (w1 := ch_put m w σ) (fun Q' hq => s_X3_isSign hp2 hq) ?_))))
  obtain ⟨p3, hp4, h⟩ := ch_bd h
  refine ch_iv yX3_passes prog_14_method_16_code 3 (some .boolean) (ci := 3) (q := (RX3, TX3, 109)) (b := m) (d' := 5) (av := [.int v1]) (rest := []) rfl dX3_statement_420 q1926 q1928 rfl qs111 q1929 can_X3_passes (Nat.le_trans (Nat.le_of_ble_eq_true rfl) (Nat.le_add_left 460 d)) (Nat.le_of_ble_eq_true rfl) ch_put_tag (cp_kI (v := p3.1) (w1 := ch_put m w p3.2) (fun Q' hq => s_X3_passes hp4 hq) ?_)
  obtain rfl := Option.some.inj h
  exact ch_istore_n 3 _ (ls1 := [some (va_rf (some m)), none, some (.int x2), some (.int p3.1)]) dX3_statement_423 (Nat.le_of_ble_eq_true rfl) rfl (ch_iload_n 2 _ dX3_statement_424 rfl (ch_ireturn _ dX3_statement_425 rfl rfl hk))

def m_X3_statement_403 (rc : Nat → ch_S → Option (Int32 × ch_S)) (x2 : Int32)  (σ : ch_S) : Option (Int32 × ch_S) := (cr_ME 450 0 0 0 0 σ).bind fun p1 => (ch_mw p1.2 fX3_value x2 p1.1).bind fun σ3 => m_X3_statement_413 rc x2 σ3
theorem s_X3_statement_403 {g : State} {d : Nat} {rc : Nat → ch_S → Option (Int32 × ch_S)} {m : Nat} {w : ch_W} (hr0 : ∀ {σ : ch_S} {p : Int32 × ch_S} {Q : Outcome → ch_W → Prop}, rc 0  σ = some p → ch_eI Q (p.1, ch_put m w p.2) → ch_CT g false yX3_block (d + 459) [.ref m] (ch_put m w σ) Q)  {x2 : Int32} {σ : ch_S} {res : Int32 × ch_S} {Q : Outcome → ch_W → Prop} (h : m_X3_statement_403 rc x2 σ = some res) (hk : (fun r => ch_eI Q (r.1, ch_put m w r.2)) res) : ch_FT g false mX3_statement (d + 460) 403 [some (va_rf (some m)), none, some (.int x2), none] [] (ch_put m w σ) Q := by
  unfold m_X3_statement_403 at h
  obtain ⟨p1, hp2, h⟩ := ch_bd h
  refine ch_aload_n 0 (some m) dX3_statement_403 rfl (mp_gA 29 dX3_statement_404 fl_X3_55 rfl (ch_iload_n 2 _ dX3_statement_407 rfl (ch_aload_n 0 (some m) dX3_statement_408 rfl (ch_iv yX3_expression prog_14_method_21_code 3 (some .int) (ci := 3) (q := (RX3, TX3, 109)) (b := m) (d' := 457) (av := []) (rest := [.int x2, va_rf (ch_mr m fX3_value)]) rfl dX3_statement_409 q1982 q1984 rfl qs125 q1985 can_X3_expression (Nat.le_trans (Nat.le_of_ble_eq_true rfl) (Nat.le_add_left 460 d)) (ch_hw (Nat.le_of_ble_eq_true rfl)) ch_put_tag (cp_kI (v := p1.1) (w1 := ch_put m w p1.2) (fun Q' hq => sr_X3_expression hp2 hq) ?_)))))
  refine mp_iast dX3_statement_412 mk_29 rfl h (fun σ3 h => ?_)
  exact ch_FT.wk (ch_wS (ch_wN (ch_wS (ch_wN ch_w0)))) (s_X3_statement_413 hr0 h hk)

def m_X3_statement_380 (rc : Nat → ch_S → Option (Int32 × ch_S)) (x1 : Int32) (y0 : Int32) (σ : ch_S) : Option (Int32 × ch_S) := (m_X3_begun y0 σ).bind fun p1 => (m_X3_next p1.2).bind fun p3 => if x1 = 9 then ((m_X3_isSign 59 p3).bind fun v5 => if v5 = 0 then (m_X3_statement_403 rc p1.1 p3) else (m_X3_statement_413 rc p1.1 p3)) else (m_X3_statement_403 rc p1.1 p3)
theorem s_X3_statement_380 {g : State} {d : Nat} {rc : Nat → ch_S → Option (Int32 × ch_S)} {m : Nat} {w : ch_W} (hr0 : ∀ {σ : ch_S} {p : Int32 × ch_S} {Q : Outcome → ch_W → Prop}, rc 0  σ = some p → ch_eI Q (p.1, ch_put m w p.2) → ch_CT g false yX3_block (d + 459) [.ref m] (ch_put m w σ) Q)  {x1 : Int32} {y0 : Int32} {σ : ch_S} {res : Int32 × ch_S} {Q : Outcome → ch_W → Prop} (h : m_X3_statement_380 rc x1 y0 σ = some res) (hk : (fun r => ch_eI Q (r.1, ch_put m w r.2)) res) : ch_FT g false mX3_statement (d + 460) 380 [some (va_rf (some m)), some (.int x1), none, none] [.int y0, va_rf (some m)] (ch_put m w σ) Q := by
  unfold m_X3_statement_380 at h
  obtain ⟨p1, hp2, h⟩ := ch_bd h
  refine ch_iv yX3_begun prog_14_method_32_code 3 (some .int) (ci := 3) (q := (RX3, TX3, 109)) (b := m) (d' := 2) (av := [.int y0]) (rest := []) rfl dX3_statement_380 q1978 q1980 rfl qs124 q1981 can_X3_begun (Nat.le_trans (Nat.le_of_ble_eq_true rfl) (Nat.le_add_left 460 d)) (Nat.le_of_ble_eq_true rfl) ch_put_tag (cp_kI (v := p1.1) (w1 := ch_put m w p1.2) (fun Q' hq => s_X3_begun hp2 hq) ?_)
  obtain ⟨p3, hp4, h⟩ := ch_bd h
  refine ch_istore_n 2 _ (ls1 := [some (va_rf (some m)), some (.int x1), some (.int p1.1), none]) dX3_statement_383 (Nat.le_of_ble_eq_true rfl) rfl (ch_aload_n 0 (some m) dX3_statement_384 rfl (ch_iv yX3_next prog_14_method_12_code 4 none (ci := 3) (q := (RX3, TX3, 109)) (b := m) (d' := 4) (av := []) (rest := []) rfl dX3_statement_385 q1884 q1886 rfl qs105 q1887 can_X3_next (Nat.le_trans (Nat.le_of_ble_eq_true rfl) (Nat.le_add_left 460 d)) (Nat.le_of_ble_eq_true rfl) ch_put_tag (cp_kV (w1 := ch_put m w p3) (fun Q' hq => s_X3_next hp4 hq) ?_)))
  refine ch_iload_n 1 _ dX3_statement_388 rfl (ch_bipush _ 9 dX3_statement_389 rfl (cp_icmp_ne _ _ (tgt := 403) dX3_statement_391 rfl h (fun h => ?_) (fun h => ?_)))
  · exact ch_FT.wk (ch_wS (ch_wN (ch_wS (ch_wN ch_w0)))) (s_X3_statement_403 hr0 h hk)
  · obtain ⟨v5, hp6, h⟩ := ch_bd h
    refine ch_aload_n 0 (some m) dX3_statement_394 rfl (ch_bipush _ 59 dX3_statement_395 rfl (ch_iv yX3_isSign prog_14_method_14_code 2 (some .boolean) (ci := 3) (q := (RX3, TX3, 109)) (b := m) (d' := 2) (av := [.int 59]) (rest := []) rfl dX3_statement_397 q1942 q1944 rfl qs115 q1945 can_X3_isSign (Nat.le_trans (Nat.le_of_ble_eq_true rfl) (Nat.le_add_left 460 d)) (Nat.le_of_ble_eq_true rfl) ch_put_tag (cp_kI (v := v5) (w1 := ch_put m w p3) (fun Q' hq => s_X3_isSign hp6 hq) ?_)))
    refine cp_if_ne _ (tgt := 413) dX3_statement_400 rfl h (fun h => ?_) (fun h => ?_)
    · exact ch_FT.wk (ch_wS (ch_wN (ch_wS (ch_wN ch_w0)))) (s_X3_statement_413 hr0 h hk)
    · exact ch_FT.wk (ch_wS (ch_wN (ch_wS (ch_wN ch_w0)))) (s_X3_statement_403 hr0 h hk)

def m_X3_statement_107 (rc : Nat → ch_S → Option (Int32 × ch_S))  (y0 : Int32) (σ : ch_S) : Option (Int32 × ch_S) := if y0 = 6 then ((m_X3_begun 1 σ).bind fun p3 => (m_X3_next p3.2).bind fun p5 => (m_X3_inParentheses p5).bind fun p7 => (ch_mw p7.2 fX3_value p3.1 p7.1).bind fun σ9 => (rc 0 σ9).bind fun p10 => (ch_mw p10.2 fX3_inner p3.1 p10.1).bind fun σ12 => (m_X3_isKey 7 σ12).bind fun v13 => if v13 = 0 then (m_X3_statement_205 rc p3.1 0 p3.1 σ12) else (m_X3_statement_205 rc p3.1 1 p3.1 σ12)) else (if y0 = 7 then ((m_X3_placed σ).bind fun p15 => some ((p15.1, p15.2))) else (if y0 = 8 then ((m_X3_begun 2 σ).bind fun p17 => (m_X3_next p17.2).bind fun p19 => (m_X3_inParentheses p19).bind fun p21 => (ch_mw p21.2 fX3_value p17.1 p21.1).bind fun σ23 => (rc 0 σ23).bind fun p24 => (ch_mw p24.2 fX3_inner p17.1 p24.1).bind fun σ26 => some ((p17.1, σ26))) else (if y0 = 9 then (if y0 = 9 then (m_X3_statement_380 rc y0 3 σ) else (if y0 = 10 then (m_X3_statement_380 rc y0 4 σ) else (m_X3_statement_380 rc y0 6 σ))) else (if y0 = 10 then (if y0 = 9 then (m_X3_statement_380 rc y0 3 σ) else (if y0 = 10 then (m_X3_statement_380 rc y0 4 σ) else (m_X3_statement_380 rc y0 6 σ))) else (if y0 = 11 then ((m_X3_begun 5 σ).bind fun p27 => (m_X3_next p27.2).bind fun p29 => (rc 0 p29).bind fun p31 => (ch_mw p31.2 fX3_inner p27.1 p31.1).bind fun σ33 => (m_X3_isKey 12 σ33).bind fun v34 => (m_X3_passes v34 σ33).bind fun p36 => if p36.1 = 0 then (some ((p27.1, p36.2))) else ((m_X3_isSign 40 p36.2).bind fun v38 => (m_X3_opens v38 p36.2).bind fun p40 => if p40.1 = 0 then (some ((p27.1, p40.2))) else ((ch_mw p40.2 fX3_toldType p27.1 (10 + (p40.2.1 fX3_wordValue))).bind fun σ42 => (m_X3_name σ42).bind fun p43 => (m_X3_name p43.2).bind fun p45 => (ch_mw p45.2 fX3_toldName p27.1 p45.1).bind fun σ47 => (m_X3_closes 41 σ47).bind fun p48 => (rc 0 p48).bind fun p50 => (ch_mw p50.2 fX3_other p27.1 p50.1).bind fun σ52 => some ((p27.1, σ52))))) else (if y0 = 12 then ((m_X3_placed σ).bind fun p53 => some ((p53.1, p53.2))) else (if y0 = 13 then (if y0 = 9 then (m_X3_statement_380 rc y0 3 σ) else (if y0 = 10 then (m_X3_statement_380 rc y0 4 σ) else (m_X3_statement_380 rc y0 6 σ))) else ((m_X3_placed σ).bind fun p1 => some ((p1.1, p1.2))))))))))
theorem s_X3_statement_107 {g : State} {d : Nat} {rc : Nat → ch_S → Option (Int32 × ch_S)} {m : Nat} {w : ch_W} (hr0 : ∀ {σ : ch_S} {p : Int32 × ch_S} {Q : Outcome → ch_W → Prop}, rc 0  σ = some p → ch_eI Q (p.1, ch_put m w p.2) → ch_CT g false yX3_block (d + 459) [.ref m] (ch_put m w σ) Q)  {y0 : Int32} {σ : ch_S} {res : Int32 × ch_S} {Q : Outcome → ch_W → Prop} (h : m_X3_statement_107 rc y0 σ = some res) (hk : (fun r => ch_eI Q (r.1, ch_put m w r.2)) res) : ch_FT g false mX3_statement (d + 460) 107 [some (va_rf (some m)), none, none, none] [.int y0] (ch_put m w σ) Q := by
  unfold m_X3_statement_107 at h
  refine ch_istore_n 1 _ (ls1 := [some (va_rf (some m)), some (.int y0), none, none]) dX3_statement_107 (Nat.le_of_ble_eq_true rfl) rfl (ch_iload_n 1 _ dX3_statement_108 rfl (?_))
  by_cases e0 : y0 = 6
  · have h := ch_ifT e0 h
    refine ch_tableIn _ (off := 47) (tgt := 156) dX3_statement_109 (by rw [e0]; decide) (by rw [e0]; decide) (by rw [e0]; rfl) rfl ?_
    obtain ⟨p3, hp4, h⟩ := ch_bd h
    refine ch_aload_n 0 (some m) dX3_statement_156 rfl (ch_iconst _ 1 dX3_statement_157 rfl (ch_iv yX3_begun prog_14_method_32_code 3 (some .int) (ci := 3) (q := (RX3, TX3, 109)) (b := m) (d' := 2) (av := [.int 1]) (rest := []) rfl dX3_statement_158 q1978 q1980 rfl qs124 q1981 can_X3_begun (Nat.le_trans (Nat.le_of_ble_eq_true rfl) (Nat.le_add_left 460 d)) (Nat.le_of_ble_eq_true rfl) ch_put_tag (cp_kI (v := p3.1) (w1 := ch_put m w p3.2) (fun Q' hq => s_X3_begun hp4 hq) ?_)))
    obtain ⟨p5, hp6, h⟩ := ch_bd h
    refine ch_istore_n 2 _ (ls1 := [some (va_rf (some m)), some (.int y0), some (.int p3.1), none]) dX3_statement_161 (Nat.le_of_ble_eq_true rfl) rfl (ch_aload_n 0 (some m) dX3_statement_162 rfl (ch_iv yX3_next prog_14_method_12_code 4 none (ci := 3) (q := (RX3, TX3, 109)) (b := m) (d' := 4) (av := []) (rest := []) rfl dX3_statement_163 q1884 q1886 rfl qs105 q1887 can_X3_next (Nat.le_trans (Nat.le_of_ble_eq_true rfl) (Nat.le_add_left 460 d)) (Nat.le_of_ble_eq_true rfl) ch_put_tag (cp_kV (w1 := ch_put m w p5) (fun Q' hq => s_X3_next hp6 hq) ?_)))
    obtain ⟨p7, hp8, h⟩ := ch_bd h
    refine ch_aload_n 0 (some m) dX3_statement_166 rfl (mp_gA 29 dX3_statement_167 fl_X3_55 rfl (ch_iload_n 2 _ dX3_statement_170 rfl (ch_aload_n 0 (some m) dX3_statement_171 rfl (ch_iv yX3_inParentheses prog_14_method_36_code 2 (some .int) (ci := 3) (q := (RX3, TX3, 109)) (b := m) (d' := 458) (av := []) (rest := [.int p3.1, va_rf (ch_mr m fX3_value)]) rfl dX3_statement_172 q2032 q2034 rfl qs137 q2035 can_X3_inParentheses (Nat.le_trans (Nat.le_of_ble_eq_true rfl) (Nat.le_add_left 460 d)) (ch_hw (Nat.le_of_ble_eq_true rfl)) ch_put_tag (cp_kI (v := p7.1) (w1 := ch_put m w p7.2) (fun Q' hq => s_X3_inParentheses hp8 hq) ?_)))))
    refine mp_iast dX3_statement_175 mk_29 rfl h (fun σ9 h => ?_)
    obtain ⟨p10, hp11, h⟩ := ch_bd h
    refine ch_aload_n 0 (some m) dX3_statement_176 rfl (mp_gA 34 dX3_statement_177 fl_X3_70 rfl (ch_iload_n 2 _ dX3_statement_180 rfl (ch_aload_n 0 (some m) dX3_statement_181 rfl (ch_iv yX3_block prog_14_method_33_code 4 (some .int) (ci := 3) (q := (RX3, TX3, 109)) (b := m) (d' := (d + 459)) (av := []) (rest := [.int p3.1, va_rf (ch_mr m fX3_inner)]) rfl dX3_statement_182 q1966 q1968 rfl qs121 q1969 can_X3_block (Nat.le_refl _) (ch_hw (Nat.le_of_ble_eq_true rfl)) ch_put_tag (cp_kI (v := p10.1) (w1 := ch_put m w p10.2) (fun Q' hq => hr0 hp11 hq) ?_)))))
    refine mp_iast dX3_statement_185 mk_34 rfl h (fun σ12 h => ?_)
    obtain ⟨v13, hp14, h⟩ := ch_bd h
    refine ch_aload_n 0 (some m) dX3_statement_186 rfl (mp_gA 30 dX3_statement_187 fl_X3_58 rfl (ch_iload_n 2 _ dX3_statement_190 rfl (ch_aload_n 0 (some m) dX3_statement_191 rfl (ch_bipush _ 7 dX3_statement_192 rfl (ch_iv yX3_isKey prog_14_method_15_code 2 (some .boolean) (ci := 3) (q := (RX3, TX3, 109)) (b := m) (d' := 2) (av := [.int 7]) (rest := [.int p3.1, va_rf (ch_mr m fX3_target)]) rfl dX3_statement_194 q1922 q1924 rfl qs110 q1925 can_X3_isKey (Nat.le_trans (Nat.le_of_ble_eq_true rfl) (Nat.le_add_left 460 d)) (ch_hw (Nat.le_of_ble_eq_true rfl)) ch_put_tag (cp_kI (v := v13) (w1 := ch_put m w σ12) (fun Q' hq => s_X3_isKey hp14 hq) ?_))))))
    refine cp_if_eq _ (tgt := 204) dX3_statement_197 rfl h (fun h => ?_) (fun h => ?_)
    · exact ch_iconst _ 0 dX3_statement_204 rfl (ch_FT.wk (ch_wS (ch_wN (ch_wS (ch_wN ch_w0)))) (s_X3_statement_205 hr0 h hk))
    · exact ch_iconst _ 1 dX3_statement_200 rfl (ch_goto 205 dX3_statement_201 rfl (ch_FT.wk (ch_wS (ch_wN (ch_wS (ch_wN ch_w0)))) (s_X3_statement_205 hr0 h hk)))
  replace h := ch_ifF e0 h
  by_cases e1 : y0 = 7
  · have h := ch_ifT e1 h
    refine ch_tableIn _ (off := 317) (tgt := 426) dX3_statement_109 (by rw [e1]; decide) (by rw [e1]; decide) (by rw [e1]; rfl) rfl ?_
    obtain ⟨p15, hp16, h⟩ := ch_bd h
    refine ch_aload_n 0 (some m) dX3_statement_426 rfl (ch_iv yX3_placed prog_14_method_39_code 4 (some .int) (ci := 3) (q := (RX3, TX3, 109)) (b := m) (d' := 458) (av := []) (rest := []) rfl dX3_statement_427 q2036 q2038 rfl qs138 q2039 can_X3_placed (Nat.le_trans (Nat.le_of_ble_eq_true rfl) (Nat.le_add_left 460 d)) (Nat.le_of_ble_eq_true rfl) ch_put_tag (cp_kI (v := p15.1) (w1 := ch_put m w p15.2) (fun Q' hq => s_X3_placed hp16 hq) ?_))
    obtain rfl := Option.some.inj h
    exact ch_ireturn _ dX3_statement_430 rfl rfl hk
  replace h := ch_ifF e1 h
  by_cases e2 : y0 = 8
  · have h := ch_ifT e2 h
    refine ch_tableIn _ (off := 122) (tgt := 231) dX3_statement_109 (by rw [e2]; decide) (by rw [e2]; decide) (by rw [e2]; rfl) rfl ?_
    obtain ⟨p17, hp18, h⟩ := ch_bd h
    refine ch_aload_n 0 (some m) dX3_statement_231 rfl (ch_iconst _ 2 dX3_statement_232 rfl (ch_iv yX3_begun prog_14_method_32_code 3 (some .int) (ci := 3) (q := (RX3, TX3, 109)) (b := m) (d' := 2) (av := [.int 2]) (rest := []) rfl dX3_statement_233 q1978 q1980 rfl qs124 q1981 can_X3_begun (Nat.le_trans (Nat.le_of_ble_eq_true rfl) (Nat.le_add_left 460 d)) (Nat.le_of_ble_eq_true rfl) ch_put_tag (cp_kI (v := p17.1) (w1 := ch_put m w p17.2) (fun Q' hq => s_X3_begun hp18 hq) ?_)))
    obtain ⟨p19, hp20, h⟩ := ch_bd h
    refine ch_istore_n 2 _ (ls1 := [some (va_rf (some m)), some (.int y0), some (.int p17.1), none]) dX3_statement_236 (Nat.le_of_ble_eq_true rfl) rfl (ch_aload_n 0 (some m) dX3_statement_237 rfl (ch_iv yX3_next prog_14_method_12_code 4 none (ci := 3) (q := (RX3, TX3, 109)) (b := m) (d' := 4) (av := []) (rest := []) rfl dX3_statement_238 q1884 q1886 rfl qs105 q1887 can_X3_next (Nat.le_trans (Nat.le_of_ble_eq_true rfl) (Nat.le_add_left 460 d)) (Nat.le_of_ble_eq_true rfl) ch_put_tag (cp_kV (w1 := ch_put m w p19) (fun Q' hq => s_X3_next hp20 hq) ?_)))
    obtain ⟨p21, hp22, h⟩ := ch_bd h
    refine ch_aload_n 0 (some m) dX3_statement_241 rfl (mp_gA 29 dX3_statement_242 fl_X3_55 rfl (ch_iload_n 2 _ dX3_statement_245 rfl (ch_aload_n 0 (some m) dX3_statement_246 rfl (ch_iv yX3_inParentheses prog_14_method_36_code 2 (some .int) (ci := 3) (q := (RX3, TX3, 109)) (b := m) (d' := 458) (av := []) (rest := [.int p17.1, va_rf (ch_mr m fX3_value)]) rfl dX3_statement_247 q2032 q2034 rfl qs137 q2035 can_X3_inParentheses (Nat.le_trans (Nat.le_of_ble_eq_true rfl) (Nat.le_add_left 460 d)) (ch_hw (Nat.le_of_ble_eq_true rfl)) ch_put_tag (cp_kI (v := p21.1) (w1 := ch_put m w p21.2) (fun Q' hq => s_X3_inParentheses hp22 hq) ?_)))))
    refine mp_iast dX3_statement_250 mk_29 rfl h (fun σ23 h => ?_)
    obtain ⟨p24, hp25, h⟩ := ch_bd h
    refine ch_aload_n 0 (some m) dX3_statement_251 rfl (mp_gA 34 dX3_statement_252 fl_X3_70 rfl (ch_iload_n 2 _ dX3_statement_255 rfl (ch_aload_n 0 (some m) dX3_statement_256 rfl (ch_iv yX3_block prog_14_method_33_code 4 (some .int) (ci := 3) (q := (RX3, TX3, 109)) (b := m) (d' := (d + 459)) (av := []) (rest := [.int p17.1, va_rf (ch_mr m fX3_inner)]) rfl dX3_statement_257 q1966 q1968 rfl qs121 q1969 can_X3_block (Nat.le_refl _) (ch_hw (Nat.le_of_ble_eq_true rfl)) ch_put_tag (cp_kI (v := p24.1) (w1 := ch_put m w p24.2) (fun Q' hq => hr0 hp25 hq) ?_)))))
    refine mp_iast dX3_statement_260 mk_34 rfl h (fun σ26 h => ?_)
    obtain rfl := Option.some.inj h
    exact ch_iload_n 2 _ dX3_statement_261 rfl (ch_ireturn _ dX3_statement_262 rfl rfl hk)
  replace h := ch_ifF e2 h
  by_cases e3 : y0 = 9
  · have h := ch_ifT e3 h
    refine ch_tableIn _ (off := 248) (tgt := 357) dX3_statement_109 (by rw [e3]; decide) (by rw [e3]; decide) (by rw [e3]; rfl) rfl ?_
    refine ch_aload_n 0 (some m) dX3_statement_357 rfl (ch_iload_n 1 _ dX3_statement_358 rfl (ch_bipush _ 9 dX3_statement_359 rfl (cp_icmp_ne _ _ (tgt := 368) dX3_statement_361 rfl h (fun h => ?_) (fun h => ?_))))
    · refine ch_iload_n 1 _ dX3_statement_368 rfl (ch_bipush _ 10 dX3_statement_369 rfl (cp_icmp_ne _ _ (tgt := 378) dX3_statement_371 rfl h (fun h => ?_) (fun h => ?_)))
      · exact ch_bipush _ 6 dX3_statement_378 rfl (ch_FT.wk (ch_wS (ch_wS (ch_wN (ch_wN ch_w0)))) (s_X3_statement_380 hr0 h hk))
      · exact ch_iconst _ 4 dX3_statement_374 rfl (ch_goto 380 dX3_statement_375 rfl (ch_FT.wk (ch_wS (ch_wS (ch_wN (ch_wN ch_w0)))) (s_X3_statement_380 hr0 h hk)))
    · exact ch_iconst _ 3 dX3_statement_364 rfl (ch_goto 380 dX3_statement_365 rfl (ch_FT.wk (ch_wS (ch_wS (ch_wN (ch_wN ch_w0)))) (s_X3_statement_380 hr0 h hk)))
  replace h := ch_ifF e3 h
  by_cases e4 : y0 = 10
  · have h := ch_ifT e4 h
    refine ch_tableIn _ (off := 248) (tgt := 357) dX3_statement_109 (by rw [e4]; decide) (by rw [e4]; decide) (by rw [e4]; rfl) rfl ?_
    refine ch_aload_n 0 (some m) dX3_statement_357 rfl (ch_iload_n 1 _ dX3_statement_358 rfl (ch_bipush _ 9 dX3_statement_359 rfl (cp_icmp_ne _ _ (tgt := 368) dX3_statement_361 rfl h (fun h => ?_) (fun h => ?_))))
    · refine ch_iload_n 1 _ dX3_statement_368 rfl (ch_bipush _ 10 dX3_statement_369 rfl (cp_icmp_ne _ _ (tgt := 378) dX3_statement_371 rfl h (fun h => ?_) (fun h => ?_)))
      · exact ch_bipush _ 6 dX3_statement_378 rfl (ch_FT.wk (ch_wS (ch_wS (ch_wN (ch_wN ch_w0)))) (s_X3_statement_380 hr0 h hk))
      · exact ch_iconst _ 4 dX3_statement_374 rfl (ch_goto 380 dX3_statement_375 rfl (ch_FT.wk (ch_wS (ch_wS (ch_wN (ch_wN ch_w0)))) (s_X3_statement_380 hr0 h hk)))
    · exact ch_iconst _ 3 dX3_statement_364 rfl (ch_goto 380 dX3_statement_365 rfl (ch_FT.wk (ch_wS (ch_wS (ch_wN (ch_wN ch_w0)))) (s_X3_statement_380 hr0 h hk)))
  replace h := ch_ifF e4 h
  by_cases e5 : y0 = 11
  · have h := ch_ifT e5 h
    refine ch_tableIn _ (off := 154) (tgt := 263) dX3_statement_109 (by rw [e5]; decide) (by rw [e5]; decide) (by rw [e5]; rfl) rfl ?_
    obtain ⟨p27, hp28, h⟩ := ch_bd h
    refine ch_aload_n 0 (some m) dX3_statement_263 rfl (ch_iconst _ 5 dX3_statement_264 rfl (ch_iv yX3_begun prog_14_method_32_code 3 (some .int) (ci := 3) (q := (RX3, TX3, 109)) (b := m) (d' := 2) (av := [.int 5]) (rest := []) rfl dX3_statement_265 q1978 q1980 rfl qs124 q1981 can_X3_begun (Nat.le_trans (Nat.le_of_ble_eq_true rfl) (Nat.le_add_left 460 d)) (Nat.le_of_ble_eq_true rfl) ch_put_tag (cp_kI (v := p27.1) (w1 := ch_put m w p27.2) (fun Q' hq => s_X3_begun hp28 hq) ?_)))
    obtain ⟨p29, hp30, h⟩ := ch_bd h
    refine ch_istore_n 2 _ (ls1 := [some (va_rf (some m)), some (.int y0), some (.int p27.1), none]) dX3_statement_268 (Nat.le_of_ble_eq_true rfl) rfl (ch_aload_n 0 (some m) dX3_statement_269 rfl (ch_iv yX3_next prog_14_method_12_code 4 none (ci := 3) (q := (RX3, TX3, 109)) (b := m) (d' := 4) (av := []) (rest := []) rfl dX3_statement_270 q1884 q1886 rfl qs105 q1887 can_X3_next (Nat.le_trans (Nat.le_of_ble_eq_true rfl) (Nat.le_add_left 460 d)) (Nat.le_of_ble_eq_true rfl) ch_put_tag (cp_kV (w1 := ch_put m w p29) (fun Q' hq => s_X3_next hp30 hq) ?_)))
    obtain ⟨p31, hp32, h⟩ := ch_bd h
    refine ch_aload_n 0 (some m) dX3_statement_273 rfl (mp_gA 34 dX3_statement_274 fl_X3_70 rfl (ch_iload_n 2 _ dX3_statement_277 rfl (ch_aload_n 0 (some m) dX3_statement_278 rfl (ch_iv yX3_block prog_14_method_33_code 4 (some .int) (ci := 3) (q := (RX3, TX3, 109)) (b := m) (d' := (d + 459)) (av := []) (rest := [.int p27.1, va_rf (ch_mr m fX3_inner)]) rfl dX3_statement_279 q1966 q1968 rfl qs121 q1969 can_X3_block (Nat.le_refl _) (ch_hw (Nat.le_of_ble_eq_true rfl)) ch_put_tag (cp_kI (v := p31.1) (w1 := ch_put m w p31.2) (fun Q' hq => hr0 hp32 hq) ?_)))))
    refine mp_iast dX3_statement_282 mk_34 rfl h (fun σ33 h => ?_)
    obtain ⟨v34, hp35, h⟩ := ch_bd h
    refine ch_aload_n 0 (some m) dX3_statement_283 rfl (ch_aload_n 0 (some m) dX3_statement_284 rfl (ch_bipush _ 12 dX3_statement_285 rfl (ch_iv yX3_isKey prog_14_method_15_code 2 (some .boolean) (ci := 3) (q := (RX3, TX3, 109)) (b := m) (d' := 2) (av := [.int 12]) (rest := [va_rf (some m)]) rfl dX3_statement_287 q1922 q1924 rfl qs110 q1925 can_X3_isKey (Nat.le_trans (Nat.le_of_ble_eq_true rfl) (Nat.le_add_left 460 d)) (ch_hw (Nat.le_of_ble_eq_true rfl)) ch_put_tag (cp_kI (v := v34) (w1 := ch_put m w σ33) (fun Q' hq => s_X3_isKey hp35 hq) ?_))))
    obtain ⟨p36, hp37, h⟩ := ch_bd h
    refine ch_iv yX3_passes prog_14_method_16_code 3 (some .boolean) (ci := 3) (q := (RX3, TX3, 109)) (b := m) (d' := 5) (av := [.int v34]) (rest := []) rfl dX3_statement_290 q1926 q1928 rfl qs111 q1929 can_X3_passes (Nat.le_trans (Nat.le_of_ble_eq_true rfl) (Nat.le_add_left 460 d)) (Nat.le_of_ble_eq_true rfl) ch_put_tag (cp_kI (v := p36.1) (w1 := ch_put m w p36.2) (fun Q' hq => s_X3_passes hp37 hq) ?_)
    refine cp_if_eq _ (tgt := 309) dX3_statement_293 rfl h (fun h => ?_) (fun h => ?_)
    · obtain rfl := Option.some.inj h
      exact ch_iload_n 2 _ dX3_statement_309 rfl (ch_ireturn _ dX3_statement_310 rfl rfl hk)
    · obtain ⟨v38, hp39, h⟩ := ch_bd h
      refine ch_aload_n 0 (some m) dX3_statement_296 rfl (ch_aload_n 0 (some m) dX3_statement_297 rfl (ch_bipush _ 40 dX3_statement_298 rfl (ch_iv yX3_isSign prog_14_method_14_code 2 (some .boolean) (ci := 3) (q := (RX3, TX3, 109)) (b := m) (d' := 2) (av := [.int 40]) (rest := [va_rf (some m)]) rfl dX3_statement_300 q1942 q1944 rfl qs115 q1945 can_X3_isSign (Nat.le_trans (Nat.le_of_ble_eq_true rfl) (Nat.le_add_left 460 d)) (ch_hw (Nat.le_of_ble_eq_true rfl)) ch_put_tag (cp_kI (v := v38) (w1 := ch_put m w p36.2) (fun Q' hq => s_X3_isSign hp39 hq) ?_))))
      obtain ⟨p40, hp41, h⟩ := ch_bd h
      refine ch_iv yX3_opens prog_14_method_17_code 3 (some .boolean) (ci := 3) (q := (RX3, TX3, 109)) (b := m) (d' := 5) (av := [.int v38]) (rest := []) rfl dX3_statement_303 q1946 q1948 rfl qs116 q1949 can_X3_opens (Nat.le_trans (Nat.le_of_ble_eq_true rfl) (Nat.le_add_left 460 d)) (Nat.le_of_ble_eq_true rfl) ch_put_tag (cp_kI (v := p40.1) (w1 := ch_put m w p40.2) (fun Q' hq => s_X3_opens hp41 hq) ?_)
      refine cp_if_ne _ (tgt := 311) dX3_statement_306 rfl h (fun h => ?_) (fun h => ?_)
      · refine ch_aload_n 0 (some m) dX3_statement_311 rfl (mp_gA 31 dX3_statement_312 fl_X3_61 rfl (ch_iload_n 2 _ dX3_statement_315 rfl (ch_bipush _ 10 dX3_statement_316 rfl (ch_aload_n 0 (some m) dX3_statement_318 rfl (mp_gI 8 dX3_statement_319 fl_X3_256 rfl (ch_iadd _ _ dX3_statement_322 (mp_iast dX3_statement_323 mk_31 rfl h (fun σ42 h => ?_))))))))
        obtain ⟨p43, hp44, h⟩ := ch_bd h
        refine ch_aload_n 0 (some m) dX3_statement_324 rfl (ch_iv yX3_name prog_14_method_19_code 2 (some .int) (ci := 3) (q := (RX3, TX3, 109)) (b := m) (d' := 6) (av := []) (rest := []) rfl dX3_statement_325 q1938 q1940 rfl qs114 q1941 can_X3_name (Nat.le_trans (Nat.le_of_ble_eq_true rfl) (Nat.le_add_left 460 d)) (Nat.le_of_ble_eq_true rfl) ch_put_tag (cp_kI (v := p43.1) (w1 := ch_put m w p43.2) (fun Q' hq => s_X3_name hp44 hq) ?_))
        obtain ⟨p45, hp46, h⟩ := ch_bd h
        refine ch_istore_n 3 _ (ls1 := [some (va_rf (some m)), some (.int y0), some (.int p27.1), some (.int p43.1)]) dX3_statement_328 (Nat.le_of_ble_eq_true rfl) rfl (ch_aload_n 0 (some m) dX3_statement_329 rfl (mp_gA 32 dX3_statement_330 fl_X3_64 rfl (ch_iload_n 2 _ dX3_statement_333 rfl (ch_aload_n 0 (some m) dX3_statement_334 rfl (ch_iv yX3_name prog_14_method_19_code 2 (some .int) (ci := 3) (q := (RX3, TX3, 109)) (b := m) (d' := 6) (av := []) (rest := [.int p27.1, va_rf (ch_mr m fX3_toldName)]) rfl dX3_statement_335 q1938 q1940 rfl qs114 q1941 can_X3_name (Nat.le_trans (Nat.le_of_ble_eq_true rfl) (Nat.le_add_left 460 d)) (ch_hw (Nat.le_of_ble_eq_true rfl)) ch_put_tag (cp_kI (v := p45.1) (w1 := ch_put m w p45.2) (fun Q' hq => s_X3_name hp46 hq) ?_))))))
        refine mp_iast dX3_statement_338 mk_32 rfl h (fun σ47 h => ?_)
        obtain ⟨p48, hp49, h⟩ := ch_bd h
        refine ch_aload_n 0 (some m) dX3_statement_339 rfl (ch_bipush _ 41 dX3_statement_340 rfl (ch_iv yX3_closes prog_14_method_18_code 2 none (ci := 3) (q := (RX3, TX3, 109)) (b := m) (d' := 6) (av := [.int 41]) (rest := []) rfl dX3_statement_342 q1962 q1964 rfl qs120 q1965 can_X3_closes (Nat.le_trans (Nat.le_of_ble_eq_true rfl) (Nat.le_add_left 460 d)) (Nat.le_of_ble_eq_true rfl) ch_put_tag (cp_kV (w1 := ch_put m w p48) (fun Q' hq => s_X3_closes hp49 hq) ?_)))
        obtain ⟨p50, hp51, h⟩ := ch_bd h
        refine ch_aload_n 0 (some m) dX3_statement_345 rfl (mp_gA 35 dX3_statement_346 fl_X3_73 rfl (ch_iload_n 2 _ dX3_statement_349 rfl (ch_aload_n 0 (some m) dX3_statement_350 rfl (ch_iv yX3_block prog_14_method_33_code 4 (some .int) (ci := 3) (q := (RX3, TX3, 109)) (b := m) (d' := (d + 459)) (av := []) (rest := [.int p27.1, va_rf (ch_mr m fX3_other)]) rfl dX3_statement_351 q1966 q1968 rfl qs121 q1969 can_X3_block (Nat.le_refl _) (ch_hw (Nat.le_of_ble_eq_true rfl)) ch_put_tag (cp_kI (v := p50.1) (w1 := ch_put m w p50.2) (fun Q' hq => hr0 hp51 hq) ?_)))))
        refine mp_iast dX3_statement_354 mk_35 rfl h (fun σ52 h => ?_)
        obtain rfl := Option.some.inj h
        exact ch_iload_n 2 _ dX3_statement_355 rfl (ch_ireturn _ dX3_statement_356 rfl rfl hk)
      · obtain rfl := Option.some.inj h
        exact ch_iload_n 2 _ dX3_statement_309 rfl (ch_ireturn _ dX3_statement_310 rfl rfl hk)
  replace h := ch_ifF e5 h
  by_cases e6 : y0 = 12
  · have h := ch_ifT e6 h
    refine ch_tableIn _ (off := 317) (tgt := 426) dX3_statement_109 (by rw [e6]; decide) (by rw [e6]; decide) (by rw [e6]; rfl) rfl ?_
    obtain ⟨p53, hp54, h⟩ := ch_bd h
    refine ch_aload_n 0 (some m) dX3_statement_426 rfl (ch_iv yX3_placed prog_14_method_39_code 4 (some .int) (ci := 3) (q := (RX3, TX3, 109)) (b := m) (d' := 458) (av := []) (rest := []) rfl dX3_statement_427 q2036 q2038 rfl qs138 q2039 can_X3_placed (Nat.le_trans (Nat.le_of_ble_eq_true rfl) (Nat.le_add_left 460 d)) (Nat.le_of_ble_eq_true rfl) ch_put_tag (cp_kI (v := p53.1) (w1 := ch_put m w p53.2) (fun Q' hq => s_X3_placed hp54 hq) ?_))
    obtain rfl := Option.some.inj h
    exact ch_ireturn _ dX3_statement_430 rfl rfl hk
  replace h := ch_ifF e6 h
  by_cases e7 : y0 = 13
  · have h := ch_ifT e7 h
    refine ch_tableIn _ (off := 248) (tgt := 357) dX3_statement_109 (by rw [e7]; decide) (by rw [e7]; decide) (by rw [e7]; rfl) rfl ?_
    refine ch_aload_n 0 (some m) dX3_statement_357 rfl (ch_iload_n 1 _ dX3_statement_358 rfl (ch_bipush _ 9 dX3_statement_359 rfl (cp_icmp_ne _ _ (tgt := 368) dX3_statement_361 rfl h (fun h => ?_) (fun h => ?_))))
    · refine ch_iload_n 1 _ dX3_statement_368 rfl (ch_bipush _ 10 dX3_statement_369 rfl (cp_icmp_ne _ _ (tgt := 378) dX3_statement_371 rfl h (fun h => ?_) (fun h => ?_)))
      · exact ch_bipush _ 6 dX3_statement_378 rfl (ch_FT.wk (ch_wS (ch_wS (ch_wN (ch_wN ch_w0)))) (s_X3_statement_380 hr0 h hk))
      · exact ch_iconst _ 4 dX3_statement_374 rfl (ch_goto 380 dX3_statement_375 rfl (ch_FT.wk (ch_wS (ch_wS (ch_wN (ch_wN ch_w0)))) (s_X3_statement_380 hr0 h hk)))
    · exact ch_iconst _ 3 dX3_statement_364 rfl (ch_goto 380 dX3_statement_365 rfl (ch_FT.wk (ch_wS (ch_wS (ch_wN (ch_wN ch_w0)))) (s_X3_statement_380 hr0 h hk)))
  replace h := ch_ifF e7 h
  refine ch_tableOut _ (tgt := 426) dX3_statement_109 (by have t0 := ch_ne (n := 6) e0 rfl; have t1 := ch_ne (n := 7) e1 rfl; have t2 := ch_ne (n := 8) e2 rfl; have t3 := ch_ne (n := 9) e3 rfl; have t4 := ch_ne (n := 10) e4 rfl; have t5 := ch_ne (n := 11) e5 rfl; have t6 := ch_ne (n := 12) e6 rfl; have t7 := ch_ne (n := 13) e7 rfl; omega) rfl ?_
  obtain ⟨p1, hp2, h⟩ := ch_bd h
  refine ch_aload_n 0 (some m) dX3_statement_426 rfl (ch_iv yX3_placed prog_14_method_39_code 4 (some .int) (ci := 3) (q := (RX3, TX3, 109)) (b := m) (d' := 458) (av := []) (rest := []) rfl dX3_statement_427 q2036 q2038 rfl qs138 q2039 can_X3_placed (Nat.le_trans (Nat.le_of_ble_eq_true rfl) (Nat.le_add_left 460 d)) (Nat.le_of_ble_eq_true rfl) ch_put_tag (cp_kI (v := p1.1) (w1 := ch_put m w p1.2) (fun Q' hq => s_X3_placed hp2 hq) ?_))
  obtain rfl := Option.some.inj h
  exact ch_ireturn _ dX3_statement_430 rfl rfl hk

def m_X3_statement_91 (rc : Nat → ch_S → Option (Int32 × ch_S))   (σ : ch_S) : Option (Int32 × ch_S) := if (σ.1 fX3_word) = 5 then (m_X3_statement_107 rc (σ.1 fX3_wordValue) σ) else (m_X3_statement_107 rc 0 σ)
theorem s_X3_statement_91 {g : State} {d : Nat} {rc : Nat → ch_S → Option (Int32 × ch_S)} {m : Nat} {w : ch_W} (hr0 : ∀ {σ : ch_S} {p : Int32 × ch_S} {Q : Outcome → ch_W → Prop}, rc 0  σ = some p → ch_eI Q (p.1, ch_put m w p.2) → ch_CT g false yX3_block (d + 459) [.ref m] (ch_put m w σ) Q)  {σ : ch_S} {res : Int32 × ch_S} {Q : Outcome → ch_W → Prop} (h : m_X3_statement_91 rc σ = some res) (hk : (fun r => ch_eI Q (r.1, ch_put m w r.2)) res) : ch_FT g false mX3_statement (d + 460) 91 [some (va_rf (some m)), none, none, none] [] (ch_put m w σ) Q := by
  unfold m_X3_statement_91 at h
  refine ch_aload_n 0 (some m) dX3_statement_91 rfl (mp_gI 5 dX3_statement_92 fl_X3_263 rfl (ch_iconst _ 5 dX3_statement_95 rfl (cp_icmp_ne _ _ (tgt := 106) dX3_statement_96 rfl h (fun h => ?_) (fun h => ?_))))
  · exact ch_iconst _ 0 dX3_statement_106 rfl (ch_FT.wk (ch_wS (ch_wN (ch_wN (ch_wN ch_w0)))) (s_X3_statement_107 hr0 h hk))
  · exact ch_aload_n 0 (some m) dX3_statement_99 rfl (mp_gI 8 dX3_statement_100 fl_X3_256 rfl (ch_goto 107 dX3_statement_103 rfl (ch_FT.wk (ch_wS (ch_wN (ch_wN (ch_wN ch_w0)))) (s_X3_statement_107 hr0 h hk))))

def m_X3_statement (rc : Nat → ch_S → Option (Int32 × ch_S))  (σ : ch_S) : Option (Int32 × ch_S) := (m_X3_isType σ).bind fun v1 => if v1 = 0 then (if (σ.1 fX3_word) = 2 then (if (σ.1 fX3_wrong) < 0 then ((m_X3_isNameAhead σ).bind fun p3 => if p3.1 = 0 then (m_X3_statement_91 rc p3.2) else (m_X3_statement_29 rc p3.2)) else (m_X3_statement_91 rc σ)) else (m_X3_statement_91 rc σ)) else (m_X3_statement_29 rc σ)
theorem s_X3_statement {g : State} {d : Nat} {rc : Nat → ch_S → Option (Int32 × ch_S)} {m : Nat} {w : ch_W} (hr0 : ∀ {σ : ch_S} {p : Int32 × ch_S} {Q : Outcome → ch_W → Prop}, rc 0  σ = some p → ch_eI Q (p.1, ch_put m w p.2) → ch_CT g false yX3_block (d + 459) [.ref m] (ch_put m w σ) Q)  {σ : ch_S} {res : Int32 × ch_S} {Q : Outcome → ch_W → Prop} (h : m_X3_statement rc σ = some res) (hk : (fun r => ch_eI Q (r.1, ch_put m w r.2)) res) : ch_CT g false yX3_statement (d + 460) [.ref m] (ch_put m w σ) Q := by
  unfold m_X3_statement at h
  refine ch_ctL mX3_statement (ls := [some (va_rf (some m)), none, none, none]) q1973 rfl (ch_lyr (r := some m) ch_ly0) (Nat.le_of_ble_eq_true rfl) rfl ?_
  obtain ⟨v1, hp2, h⟩ := ch_bd h
  refine ch_aload_n 0 (some m) dX3_statement_0 rfl (ch_iv yX3_isType prog_14_method_34_code 1 (some .boolean) (ci := 3) (q := (RX3, TX3, 109)) (b := m) (d' := 3) (av := []) (rest := []) rfl dX3_statement_1 q1958 q1960 rfl qs119 q1961 can_X3_isType (Nat.le_trans (Nat.le_of_ble_eq_true rfl) (Nat.le_add_left 460 d)) (Nat.le_of_ble_eq_true rfl) ch_put_tag (cp_kI (v := v1) (w1 := ch_put m w σ) (fun Q' hq => s_X3_isType hp2 hq) ?_))
  refine cp_if_ne _ (tgt := 29) dX3_statement_4 rfl h (fun h => ?_) (fun h => ?_)
  · exact ch_FT.wk (ch_wS (ch_wN (ch_wN (ch_wN ch_w0)))) (s_X3_statement_29 hr0 h hk)
  · refine ch_aload_n 0 (some m) dX3_statement_7 rfl (mp_gI 5 dX3_statement_8 fl_X3_263 rfl (ch_iconst _ 2 dX3_statement_11 rfl (cp_icmp_ne _ _ (tgt := 91) dX3_statement_12 rfl h (fun h => ?_) (fun h => ?_))))
    · exact ch_FT.wk (ch_wS (ch_wN (ch_wN (ch_wN ch_w0)))) (s_X3_statement_91 hr0 h hk)
    · refine ch_aload_n 0 (some m) dX3_statement_15 rfl (mp_gI 9 dX3_statement_16 fl_X3_283 rfl (cp_if_ge _ (tgt := 91) dX3_statement_19 rfl h (fun h => ?_) (fun h => ?_)))
      · exact ch_FT.wk (ch_wS (ch_wN (ch_wN (ch_wN ch_w0)))) (s_X3_statement_91 hr0 h hk)
      · obtain ⟨p3, hp4, h⟩ := ch_bd h
        refine ch_aload_n 0 (some m) dX3_statement_22 rfl (ch_iv yX3_isNameAhead prog_14_method_37_code 8 (some .boolean) (ci := 3) (q := (RX3, TX3, 109)) (b := m) (d' := 5) (av := []) (rest := []) rfl dX3_statement_23 q1974 q1976 rfl qs123 q1977 can_X3_isNameAhead (Nat.le_trans (Nat.le_of_ble_eq_true rfl) (Nat.le_add_left 460 d)) (Nat.le_of_ble_eq_true rfl) ch_put_tag (cp_kI (v := p3.1) (w1 := ch_put m w p3.2) (fun Q' hq => s_X3_isNameAhead hp4 hq) ?_))
        refine cp_if_eq _ (tgt := 91) dX3_statement_26 rfl h (fun h => ?_) (fun h => ?_)
        · exact ch_FT.wk (ch_wS (ch_wN (ch_wN (ch_wN ch_w0)))) (s_X3_statement_91 hr0 h hk)
        · exact ch_FT.wk (ch_wS (ch_wN (ch_wN (ch_wN ch_w0)))) (s_X3_statement_29 hr0 h hk)

