/-! printed by tools/dec.py -/
set_option maxRecDepth 100000
theorem bX3_isObject_0 : ch_ck cX3_isObject 0 [26, 16, 10, 162, 0, 13, 26, 5, 159, 0, 8, 26, 7, 160, 0, 7] := ch_ckof (by decide +kernel)
theorem bX3_isObject_1 : ch_ck cX3_isObject 16 [4, 167, 0, 4, 3, 172] := ch_ckof (by decide +kernel)
theorem dX3_isObject_0 : decode cX3_isObject 0 = .ok (.iload_n 0, 1) := dz_26 (bX3_isObject_0 0 _ rfl)
theorem dX3_isObject_1 : decode cX3_isObject 1 = .ok (.bipush 10, 2) := dz_16 (bX3_isObject_0 1 _ rfl) (bX3_isObject_0 2 _ rfl)
theorem dX3_isObject_3 : decode cX3_isObject 3 = .ok (.if_icmp .ge 13, 3) := dz_162 (bX3_isObject_0 3 _ rfl) (bX3_isObject_0 4 _ rfl) (bX3_isObject_0 5 _ rfl)
theorem dX3_isObject_6 : decode cX3_isObject 6 = .ok (.iload_n 0, 1) := dz_26 (bX3_isObject_0 6 _ rfl)
theorem dX3_isObject_7 : decode cX3_isObject 7 = .ok (.iconst 2, 1) := dz_5 (bX3_isObject_0 7 _ rfl)
theorem dX3_isObject_8 : decode cX3_isObject 8 = .ok (.if_icmp .eq 8, 3) := dz_159 (bX3_isObject_0 8 _ rfl) (bX3_isObject_0 9 _ rfl) (bX3_isObject_0 10 _ rfl)
theorem dX3_isObject_11 : decode cX3_isObject 11 = .ok (.iload_n 0, 1) := dz_26 (bX3_isObject_0 11 _ rfl)
theorem dX3_isObject_12 : decode cX3_isObject 12 = .ok (.iconst 4, 1) := dz_7 (bX3_isObject_0 12 _ rfl)
theorem dX3_isObject_13 : decode cX3_isObject 13 = .ok (.if_icmp .ne 7, 3) := dz_160 (bX3_isObject_0 13 _ rfl) (bX3_isObject_0 14 _ rfl) (bX3_isObject_0 15 _ rfl)
theorem dX3_isObject_16 : decode cX3_isObject 16 = .ok (.iconst 1, 1) := dz_4 (bX3_isObject_1 0 _ rfl)
theorem dX3_isObject_17 : decode cX3_isObject 17 = .ok (.goto 4, 3) := dz_167 (bX3_isObject_1 1 _ rfl) (bX3_isObject_1 2 _ rfl) (bX3_isObject_1 3 _ rfl)
theorem dX3_isObject_20 : decode cX3_isObject 20 = .ok (.iconst 0, 1) := dz_3 (bX3_isObject_1 4 _ rfl)
theorem dX3_isObject_21 : decode cX3_isObject 21 = .ok (.ireturn, 1) := dz_172 (bX3_isObject_1 5 _ rfl)
def m_X3_isObject (x0 : Int32) (σ : ch_S) : Option (Int32) := if x0 < 10 then (if x0 = 2 then (some (1)) else (if x0 = 4 then (some (1)) else (some (0)))) else (some (1))
theorem s_X3_isObject {g : State} {m : Nat} {w : ch_W} {x0 : Int32} {σ : ch_S} {res : Int32} {Q : Outcome → ch_W → Prop} (h : m_X3_isObject x0 σ = some res) (hk : (fun r => ch_eI Q (r, ch_put m w σ)) res) : ch_CT g false yX3_isObject 2 [.int x0] (ch_put m w σ) Q := by
  unfold m_X3_isObject at h
  refine ch_ctL mX3_isObject (ls := [some (.int x0)]) q2134 rfl (ch_lyi ch_ly0) (Nat.le_of_ble_eq_true rfl) rfl ?_
  refine ch_iload_n 0 _ dX3_isObject_0 rfl (ch_bipush _ 10 dX3_isObject_1 rfl (cp_icmp_ge _ _ (tgt := 16) dX3_isObject_3 rfl h (fun h => ?_) (fun h => ?_)))
  · obtain rfl := Option.some.inj h
    exact ch_iconst _ 1 dX3_isObject_16 rfl (ch_goto 21 dX3_isObject_17 rfl (ch_ireturn _ dX3_isObject_21 rfl rfl hk))
  · refine ch_iload_n 0 _ dX3_isObject_6 rfl (ch_iconst _ 2 dX3_isObject_7 rfl (cp_icmp_eq _ _ (tgt := 16) dX3_isObject_8 rfl h (fun h => ?_) (fun h => ?_)))
    · obtain rfl := Option.some.inj h
      exact ch_iconst _ 1 dX3_isObject_16 rfl (ch_goto 21 dX3_isObject_17 rfl (ch_ireturn _ dX3_isObject_21 rfl rfl hk))
    · refine ch_iload_n 0 _ dX3_isObject_11 rfl (ch_iconst _ 4 dX3_isObject_12 rfl (cp_icmp_ne _ _ (tgt := 20) dX3_isObject_13 rfl h (fun h => ?_) (fun h => ?_)))
      · obtain rfl := Option.some.inj h
        exact ch_iconst _ 0 dX3_isObject_20 rfl (ch_ireturn _ dX3_isObject_21 rfl rfl hk)
      · obtain rfl := Option.some.inj h
        exact ch_iconst _ 1 dX3_isObject_16 rfl (ch_goto 21 dX3_isObject_17 rfl (ch_ireturn _ dX3_isObject_21 rfl rfl hk))

theorem bX3_compared_0 : ch_ck cX3_compared 0 [27, 17, 1, 61, 159, 0, 10, 27, 17, 1, 33, 160, 0, 67, 28, 29] := ch_ckof (by decide +kernel)
theorem bX3_compared_1 : ch_ck cX3_compared 16 [160, 0, 12, 28, 153, 0, 40, 28, 4, 159, 0, 35, 28, 184, 2, 34] := ch_ckof (by decide +kernel)
theorem bX3_compared_2 : ch_ck cX3_compared 32 [153, 0, 32, 29, 184, 2, 34, 153, 0, 25, 42, 28, 29, 182, 1, 243] := ch_ckof (by decide +kernel)
theorem bX3_compared_3 : ch_ck cX3_compared 48 [154, 0, 12, 42, 29, 28, 182, 1, 243, 153, 0, 7, 4, 167, 0, 4] := ch_ckof (by decide +kernel)
theorem bX3_compared_4 : ch_ck cX3_compared 64 [3, 54, 4, 21, 4, 153, 0, 7, 4, 167, 0, 4, 8, 172, 28, 154] := ch_ckof (by decide +kernel)
theorem bX3_compared_5 : ch_ck cX3_compared 80 [0, 7, 29, 153, 0, 5, 8, 172, 27, 16, 60, 159, 0, 10, 27, 17] := ch_ckof (by decide +kernel)
theorem bX3_compared_6 : ch_ck cX3_compared 96 [1, 60, 160, 0, 7, 4, 167, 0, 4, 3, 172] := ch_ckof (by decide +kernel)
theorem dX3_compared_0 : decode cX3_compared 0 = .ok (.iload_n 1, 1) := dz_27 (bX3_compared_0 0 _ rfl)
theorem dX3_compared_1 : decode cX3_compared 1 = .ok (.sipush 317, 3) := dz_17 (bX3_compared_0 1 _ rfl) (bX3_compared_0 2 _ rfl) (bX3_compared_0 3 _ rfl)
theorem dX3_compared_4 : decode cX3_compared 4 = .ok (.if_icmp .eq 10, 3) := dz_159 (bX3_compared_0 4 _ rfl) (bX3_compared_0 5 _ rfl) (bX3_compared_0 6 _ rfl)
theorem dX3_compared_7 : decode cX3_compared 7 = .ok (.iload_n 1, 1) := dz_27 (bX3_compared_0 7 _ rfl)
theorem dX3_compared_8 : decode cX3_compared 8 = .ok (.sipush 289, 3) := dz_17 (bX3_compared_0 8 _ rfl) (bX3_compared_0 9 _ rfl) (bX3_compared_0 10 _ rfl)
theorem dX3_compared_11 : decode cX3_compared 11 = .ok (.if_icmp .ne 67, 3) := dz_160 (bX3_compared_0 11 _ rfl) (bX3_compared_0 12 _ rfl) (bX3_compared_0 13 _ rfl)
theorem dX3_compared_14 : decode cX3_compared 14 = .ok (.iload_n 2, 1) := dz_28 (bX3_compared_0 14 _ rfl)
theorem dX3_compared_15 : decode cX3_compared 15 = .ok (.iload_n 3, 1) := dz_29 (bX3_compared_0 15 _ rfl)
theorem dX3_compared_16 : decode cX3_compared 16 = .ok (.if_icmp .ne 12, 3) := dz_160 (bX3_compared_1 0 _ rfl) (bX3_compared_1 1 _ rfl) (bX3_compared_1 2 _ rfl)
theorem dX3_compared_19 : decode cX3_compared 19 = .ok (.iload_n 2, 1) := dz_28 (bX3_compared_1 3 _ rfl)
theorem dX3_compared_20 : decode cX3_compared 20 = .ok (.ifCond .eq 40, 3) := dz_153 (bX3_compared_1 4 _ rfl) (bX3_compared_1 5 _ rfl) (bX3_compared_1 6 _ rfl)
theorem dX3_compared_23 : decode cX3_compared 23 = .ok (.iload_n 2, 1) := dz_28 (bX3_compared_1 7 _ rfl)
theorem dX3_compared_24 : decode cX3_compared 24 = .ok (.iconst 1, 1) := dz_4 (bX3_compared_1 8 _ rfl)
theorem dX3_compared_25 : decode cX3_compared 25 = .ok (.if_icmp .eq 35, 3) := dz_159 (bX3_compared_1 9 _ rfl) (bX3_compared_1 10 _ rfl) (bX3_compared_1 11 _ rfl)
theorem dX3_compared_28 : decode cX3_compared 28 = .ok (.iload_n 2, 1) := dz_28 (bX3_compared_1 12 _ rfl)
theorem dX3_compared_29 : decode cX3_compared 29 = .ok (.invokestatic 546, 3) := dz_184 (bX3_compared_1 13 _ rfl) (bX3_compared_1 14 _ rfl) (bX3_compared_1 15 _ rfl)
theorem dX3_compared_32 : decode cX3_compared 32 = .ok (.ifCond .eq 32, 3) := dz_153 (bX3_compared_2 0 _ rfl) (bX3_compared_2 1 _ rfl) (bX3_compared_2 2 _ rfl)
theorem dX3_compared_35 : decode cX3_compared 35 = .ok (.iload_n 3, 1) := dz_29 (bX3_compared_2 3 _ rfl)
theorem dX3_compared_36 : decode cX3_compared 36 = .ok (.invokestatic 546, 3) := dz_184 (bX3_compared_2 4 _ rfl) (bX3_compared_2 5 _ rfl) (bX3_compared_2 6 _ rfl)
theorem dX3_compared_39 : decode cX3_compared 39 = .ok (.ifCond .eq 25, 3) := dz_153 (bX3_compared_2 7 _ rfl) (bX3_compared_2 8 _ rfl) (bX3_compared_2 9 _ rfl)
theorem dX3_compared_42 : decode cX3_compared 42 = .ok (.aload_n 0, 1) := dz_42 (bX3_compared_2 10 _ rfl)
theorem dX3_compared_43 : decode cX3_compared 43 = .ok (.iload_n 2, 1) := dz_28 (bX3_compared_2 11 _ rfl)
theorem dX3_compared_44 : decode cX3_compared 44 = .ok (.iload_n 3, 1) := dz_29 (bX3_compared_2 12 _ rfl)
theorem dX3_compared_45 : decode cX3_compared 45 = .ok (.invokevirtual 499, 3) := dz_182 (bX3_compared_2 13 _ rfl) (bX3_compared_2 14 _ rfl) (bX3_compared_2 15 _ rfl)
theorem dX3_compared_48 : decode cX3_compared 48 = .ok (.ifCond .ne 12, 3) := dz_154 (bX3_compared_3 0 _ rfl) (bX3_compared_3 1 _ rfl) (bX3_compared_3 2 _ rfl)
theorem dX3_compared_51 : decode cX3_compared 51 = .ok (.aload_n 0, 1) := dz_42 (bX3_compared_3 3 _ rfl)
theorem dX3_compared_52 : decode cX3_compared 52 = .ok (.iload_n 3, 1) := dz_29 (bX3_compared_3 4 _ rfl)
theorem dX3_compared_53 : decode cX3_compared 53 = .ok (.iload_n 2, 1) := dz_28 (bX3_compared_3 5 _ rfl)
theorem dX3_compared_54 : decode cX3_compared 54 = .ok (.invokevirtual 499, 3) := dz_182 (bX3_compared_3 6 _ rfl) (bX3_compared_3 7 _ rfl) (bX3_compared_3 8 _ rfl)
theorem dX3_compared_57 : decode cX3_compared 57 = .ok (.ifCond .eq 7, 3) := dz_153 (bX3_compared_3 9 _ rfl) (bX3_compared_3 10 _ rfl) (bX3_compared_3 11 _ rfl)
theorem dX3_compared_60 : decode cX3_compared 60 = .ok (.iconst 1, 1) := dz_4 (bX3_compared_3 12 _ rfl)
theorem dX3_compared_61 : decode cX3_compared 61 = .ok (.goto 4, 3) := dz_167 (bX3_compared_3 13 _ rfl) (bX3_compared_3 14 _ rfl) (bX3_compared_3 15 _ rfl)
theorem dX3_compared_64 : decode cX3_compared 64 = .ok (.iconst 0, 1) := dz_3 (bX3_compared_4 0 _ rfl)
theorem dX3_compared_65 : decode cX3_compared 65 = .ok (.istore 4, 2) := dz_54 (bX3_compared_4 1 _ rfl) (bX3_compared_4 2 _ rfl)
theorem dX3_compared_67 : decode cX3_compared 67 = .ok (.iload 4, 2) := dz_21 (bX3_compared_4 3 _ rfl) (bX3_compared_4 4 _ rfl)
theorem dX3_compared_69 : decode cX3_compared 69 = .ok (.ifCond .eq 7, 3) := dz_153 (bX3_compared_4 5 _ rfl) (bX3_compared_4 6 _ rfl) (bX3_compared_4 7 _ rfl)
theorem dX3_compared_72 : decode cX3_compared 72 = .ok (.iconst 1, 1) := dz_4 (bX3_compared_4 8 _ rfl)
theorem dX3_compared_73 : decode cX3_compared 73 = .ok (.goto 4, 3) := dz_167 (bX3_compared_4 9 _ rfl) (bX3_compared_4 10 _ rfl) (bX3_compared_4 11 _ rfl)
theorem dX3_compared_76 : decode cX3_compared 76 = .ok (.iconst 5, 1) := dz_8 (bX3_compared_4 12 _ rfl)
theorem dX3_compared_77 : decode cX3_compared 77 = .ok (.ireturn, 1) := dz_172 (bX3_compared_4 13 _ rfl)
theorem dX3_compared_78 : decode cX3_compared 78 = .ok (.iload_n 2, 1) := dz_28 (bX3_compared_4 14 _ rfl)
theorem dX3_compared_79 : decode cX3_compared 79 = .ok (.ifCond .ne 7, 3) := dz_154 (bX3_compared_4 15 _ rfl) (bX3_compared_5 0 _ rfl) (bX3_compared_5 1 _ rfl)
theorem dX3_compared_82 : decode cX3_compared 82 = .ok (.iload_n 3, 1) := dz_29 (bX3_compared_5 2 _ rfl)
theorem dX3_compared_83 : decode cX3_compared 83 = .ok (.ifCond .eq 5, 3) := dz_153 (bX3_compared_5 3 _ rfl) (bX3_compared_5 4 _ rfl) (bX3_compared_5 5 _ rfl)
theorem dX3_compared_86 : decode cX3_compared 86 = .ok (.iconst 5, 1) := dz_8 (bX3_compared_5 6 _ rfl)
theorem dX3_compared_87 : decode cX3_compared 87 = .ok (.ireturn, 1) := dz_172 (bX3_compared_5 7 _ rfl)
theorem dX3_compared_88 : decode cX3_compared 88 = .ok (.iload_n 1, 1) := dz_27 (bX3_compared_5 8 _ rfl)
theorem dX3_compared_89 : decode cX3_compared 89 = .ok (.bipush 60, 2) := dz_16 (bX3_compared_5 9 _ rfl) (bX3_compared_5 10 _ rfl)
theorem dX3_compared_91 : decode cX3_compared 91 = .ok (.if_icmp .eq 10, 3) := dz_159 (bX3_compared_5 11 _ rfl) (bX3_compared_5 12 _ rfl) (bX3_compared_5 13 _ rfl)
theorem dX3_compared_94 : decode cX3_compared 94 = .ok (.iload_n 1, 1) := dz_27 (bX3_compared_5 14 _ rfl)
theorem dX3_compared_95 : decode cX3_compared 95 = .ok (.sipush 316, 3) := dz_17 (bX3_compared_5 15 _ rfl) (bX3_compared_6 0 _ rfl) (bX3_compared_6 1 _ rfl)
theorem dX3_compared_98 : decode cX3_compared 98 = .ok (.if_icmp .ne 7, 3) := dz_160 (bX3_compared_6 2 _ rfl) (bX3_compared_6 3 _ rfl) (bX3_compared_6 4 _ rfl)
theorem dX3_compared_101 : decode cX3_compared 101 = .ok (.iconst 1, 1) := dz_4 (bX3_compared_6 5 _ rfl)
theorem dX3_compared_102 : decode cX3_compared 102 = .ok (.goto 4, 3) := dz_167 (bX3_compared_6 6 _ rfl) (bX3_compared_6 7 _ rfl) (bX3_compared_6 8 _ rfl)
theorem dX3_compared_105 : decode cX3_compared 105 = .ok (.iconst 0, 1) := dz_3 (bX3_compared_6 9 _ rfl)
theorem dX3_compared_106 : decode cX3_compared 106 = .ok (.ireturn, 1) := dz_172 (bX3_compared_6 10 _ rfl)
def m_X3_compared_65  (y0 : Int32) (σ : ch_S) : Option (Int32) := if y0 = 0 then (some (5)) else (some (1))
theorem s_X3_compared_65 {g : State} {m : Nat} {w : ch_W} {y0 : Int32} {σ : ch_S} {res : Int32} {Q : Outcome → ch_W → Prop} (h : m_X3_compared_65 y0 σ = some res) (hk : (fun r => ch_eI Q (r, ch_put m w σ)) res) : ch_FT g false mX3_compared 4 65 [none, none, none, none, none] [.int y0] (ch_put m w σ) Q := by
  unfold m_X3_compared_65 at h
  refine ch_istore 4 _ (ls1 := [none, none, none, none, some (.int y0)]) dX3_compared_65 (Nat.le_of_ble_eq_true rfl) rfl (ch_iload 4 _ dX3_compared_67 rfl (cp_if_eq _ (tgt := 76) dX3_compared_69 rfl h (fun h => ?_) (fun h => ?_)))
  · obtain rfl := Option.some.inj h
    exact ch_iconst _ 5 dX3_compared_76 rfl (ch_ireturn _ dX3_compared_77 rfl rfl hk)
  · obtain rfl := Option.some.inj h
    exact ch_iconst _ 1 dX3_compared_72 rfl (ch_goto 77 dX3_compared_73 rfl (ch_ireturn _ dX3_compared_77 rfl rfl hk))

def m_X3_compared_64   (σ : ch_S) : Option (Int32) := m_X3_compared_65 0 σ
theorem s_X3_compared_64 {g : State} {m : Nat} {w : ch_W} {σ : ch_S} {res : Int32} {Q : Outcome → ch_W → Prop} (h : m_X3_compared_64  σ = some res) (hk : (fun r => ch_eI Q (r, ch_put m w σ)) res) : ch_FT g false mX3_compared 4 64 [none, none, none, none, none] [] (ch_put m w σ) Q := by
  unfold m_X3_compared_64 at h
  exact ch_iconst _ 0 dX3_compared_64 rfl (ch_FT.wk (ch_wN (ch_wN (ch_wN (ch_wN (ch_wN ch_w0))))) (s_X3_compared_65  h hk))

def m_X3_compared_60   (σ : ch_S) : Option (Int32) := m_X3_compared_65 1 σ
theorem s_X3_compared_60 {g : State} {m : Nat} {w : ch_W} {σ : ch_S} {res : Int32} {Q : Outcome → ch_W → Prop} (h : m_X3_compared_60  σ = some res) (hk : (fun r => ch_eI Q (r, ch_put m w σ)) res) : ch_FT g false mX3_compared 4 60 [none, none, none, none, none] [] (ch_put m w σ) Q := by
  unfold m_X3_compared_60 at h
  exact ch_iconst _ 1 dX3_compared_60 rfl (ch_goto 65 dX3_compared_61 rfl (ch_FT.wk (ch_wN (ch_wN (ch_wN (ch_wN (ch_wN ch_w0))))) (s_X3_compared_65  h hk)))

def m_X3_compared_28 (x2 : Int32) (x3 : Int32)  (σ : ch_S) : Option (Int32) := (m_X3_isObject x2 σ).bind fun v1 => if v1 = 0 then (m_X3_compared_64 σ) else ((m_X3_isObject x3 σ).bind fun v3 => if v3 = 0 then (m_X3_compared_64 σ) else ((m_X3_isSub x2 x3 σ).bind fun v5 => if v5 = 0 then ((m_X3_isSub x3 x2 σ).bind fun v7 => if v7 = 0 then (m_X3_compared_64 σ) else (m_X3_compared_60 σ)) else (m_X3_compared_60 σ)))
theorem s_X3_compared_28 {g : State} {m : Nat} {w : ch_W} {x2 : Int32} {x3 : Int32} {σ : ch_S} {res : Int32} {Q : Outcome → ch_W → Prop} (h : m_X3_compared_28 x2 x3 σ = some res) (hk : (fun r => ch_eI Q (r, ch_put m w σ)) res) : ch_FT g false mX3_compared 4 28 [some (va_rf (some m)), none, some (.int x2), some (.int x3), none] [] (ch_put m w σ) Q := by
  unfold m_X3_compared_28 at h
  obtain ⟨v1, hp2, h⟩ := ch_bd h
  refine ch_iload_n 2 _ dX3_compared_28 rfl (ch_is yX3_isObject prog_14_method_71_code 1 (some .boolean) (d' := 2) (av := [.int x2]) (rest := []) rfl dX3_compared_29 q2132 q2133 q206 q2134 can_X3_isObject (Nat.le_of_ble_eq_true rfl) (Nat.le_of_ble_eq_true rfl) (cp_kI (v := v1) (w1 := ch_put m w σ) (fun Q' hq => s_X3_isObject hp2 hq) ?_))
  refine cp_if_eq _ (tgt := 64) dX3_compared_32 rfl h (fun h => ?_) (fun h => ?_)
  · exact ch_FT.wk (ch_wN (ch_wN (ch_wN (ch_wN (ch_wN ch_w0))))) (s_X3_compared_64  h hk)
  · obtain ⟨v3, hp4, h⟩ := ch_bd h
    refine ch_iload_n 3 _ dX3_compared_35 rfl (ch_is yX3_isObject prog_14_method_71_code 1 (some .boolean) (d' := 2) (av := [.int x3]) (rest := []) rfl dX3_compared_36 q2132 q2133 q206 q2134 can_X3_isObject (Nat.le_of_ble_eq_true rfl) (Nat.le_of_ble_eq_true rfl) (cp_kI (v := v3) (w1 := ch_put m w σ) (fun Q' hq => s_X3_isObject hp4 hq) ?_))
    refine cp_if_eq _ (tgt := 64) dX3_compared_39 rfl h (fun h => ?_) (fun h => ?_)
    · exact ch_FT.wk (ch_wN (ch_wN (ch_wN (ch_wN (ch_wN ch_w0))))) (s_X3_compared_64  h hk)
    · obtain ⟨v5, hp6, h⟩ := ch_bd h
      refine ch_aload_n 0 (some m) dX3_compared_42 rfl (ch_iload_n 2 _ dX3_compared_43 rfl (ch_iload_n 3 _ dX3_compared_44 rfl (ch_iv yX3_isSub prog_14_method_46_code 3 (some .boolean) (ci := 3) (q := (RX3, TX3, 109)) (b := m) (d' := 3) (av := [.int x2, .int x3]) (rest := []) rfl dX3_compared_45 q2120 q2122 rfl qs159 q2123 can_X3_isSub (Nat.le_of_ble_eq_true rfl) (Nat.le_of_ble_eq_true rfl) ch_put_tag (cp_kI (v := v5) (w1 := ch_put m w σ) (fun Q' hq => s_X3_isSub hp6 hq) ?_))))
      refine cp_if_ne _ (tgt := 60) dX3_compared_48 rfl h (fun h => ?_) (fun h => ?_)
      · exact ch_FT.wk (ch_wN (ch_wN (ch_wN (ch_wN (ch_wN ch_w0))))) (s_X3_compared_60  h hk)
      · obtain ⟨v7, hp8, h⟩ := ch_bd h
        refine ch_aload_n 0 (some m) dX3_compared_51 rfl (ch_iload_n 3 _ dX3_compared_52 rfl (ch_iload_n 2 _ dX3_compared_53 rfl (ch_iv yX3_isSub prog_14_method_46_code 3 (some .boolean) (ci := 3) (q := (RX3, TX3, 109)) (b := m) (d' := 3) (av := [.int x3, .int x2]) (rest := []) rfl dX3_compared_54 q2120 q2122 rfl qs159 q2123 can_X3_isSub (Nat.le_of_ble_eq_true rfl) (Nat.le_of_ble_eq_true rfl) ch_put_tag (cp_kI (v := v7) (w1 := ch_put m w σ) (fun Q' hq => s_X3_isSub hp8 hq) ?_))))
        refine cp_if_eq _ (tgt := 64) dX3_compared_57 rfl h (fun h => ?_) (fun h => ?_)
        · exact ch_FT.wk (ch_wN (ch_wN (ch_wN (ch_wN (ch_wN ch_w0))))) (s_X3_compared_64  h hk)
        · exact ch_FT.wk (ch_wN (ch_wN (ch_wN (ch_wN (ch_wN ch_w0))))) (s_X3_compared_60  h hk)

def m_X3_compared_14 (x2 : Int32) (x3 : Int32)  (σ : ch_S) : Option (Int32) := if x2 = x3 then (if x2 = 0 then (m_X3_compared_60 σ) else (if x2 = 1 then (m_X3_compared_60 σ) else (m_X3_compared_28 x2 x3 σ))) else (m_X3_compared_28 x2 x3 σ)
theorem s_X3_compared_14 {g : State} {m : Nat} {w : ch_W} {x2 : Int32} {x3 : Int32} {σ : ch_S} {res : Int32} {Q : Outcome → ch_W → Prop} (h : m_X3_compared_14 x2 x3 σ = some res) (hk : (fun r => ch_eI Q (r, ch_put m w σ)) res) : ch_FT g false mX3_compared 4 14 [some (va_rf (some m)), none, some (.int x2), some (.int x3), none] [] (ch_put m w σ) Q := by
  unfold m_X3_compared_14 at h
  refine ch_iload_n 2 _ dX3_compared_14 rfl (ch_iload_n 3 _ dX3_compared_15 rfl (cp_icmp_ne _ _ (tgt := 28) dX3_compared_16 rfl h (fun h => ?_) (fun h => ?_)))
  · exact ch_FT.wk (ch_wS (ch_wN (ch_wS (ch_wS (ch_wN ch_w0))))) (s_X3_compared_28  h hk)
  · refine ch_iload_n 2 _ dX3_compared_19 rfl (cp_if_eq _ (tgt := 60) dX3_compared_20 rfl h (fun h => ?_) (fun h => ?_))
    · exact ch_FT.wk (ch_wN (ch_wN (ch_wN (ch_wN (ch_wN ch_w0))))) (s_X3_compared_60  h hk)
    · refine ch_iload_n 2 _ dX3_compared_23 rfl (ch_iconst _ 1 dX3_compared_24 rfl (cp_icmp_eq _ _ (tgt := 60) dX3_compared_25 rfl h (fun h => ?_) (fun h => ?_)))
      · exact ch_FT.wk (ch_wN (ch_wN (ch_wN (ch_wN (ch_wN ch_w0))))) (s_X3_compared_60  h hk)
      · exact ch_FT.wk (ch_wS (ch_wN (ch_wS (ch_wS (ch_wN ch_w0))))) (s_X3_compared_28  h hk)

def m_X3_compared (x1 : Int32) (x2 : Int32) (x3 : Int32) (σ : ch_S) : Option (Int32) := if x1 = 317 then (m_X3_compared_14 x2 x3 σ) else (if x1 = 289 then (m_X3_compared_14 x2 x3 σ) else (if x2 = 0 then (if x3 = 0 then (if x1 = 60 then (some (1)) else (if x1 = 316 then (some (1)) else (some (0)))) else (some (5))) else (some (5))))
theorem s_X3_compared {g : State} {m : Nat} {w : ch_W} {x1 : Int32} {x2 : Int32} {x3 : Int32} {σ : ch_S} {res : Int32} {Q : Outcome → ch_W → Prop} (h : m_X3_compared x1 x2 x3 σ = some res) (hk : (fun r => ch_eI Q (r, ch_put m w σ)) res) : ch_CT g false yX3_compared 4 [.ref m, .int x1, .int x2, .int x3] (ch_put m w σ) Q := by
  unfold m_X3_compared at h
  refine ch_ctL mX3_compared (ls := [some (va_rf (some m)), some (.int x1), some (.int x2), some (.int x3), none]) q2131 rfl (ch_lyr (r := some m) (ch_lyi (ch_lyi (ch_lyi ch_ly0)))) (Nat.le_of_ble_eq_true rfl) rfl ?_
  refine ch_iload_n 1 _ dX3_compared_0 rfl (ch_sipush _ 317 dX3_compared_1 rfl (cp_icmp_eq _ _ (tgt := 14) dX3_compared_4 rfl h (fun h => ?_) (fun h => ?_)))
  · exact ch_FT.wk (ch_wS (ch_wN (ch_wS (ch_wS (ch_wN ch_w0))))) (s_X3_compared_14  h hk)
  · refine ch_iload_n 1 _ dX3_compared_7 rfl (ch_sipush _ 289 dX3_compared_8 rfl (cp_icmp_ne _ _ (tgt := 78) dX3_compared_11 rfl h (fun h => ?_) (fun h => ?_)))
    · refine ch_iload_n 2 _ dX3_compared_78 rfl (cp_if_ne _ (tgt := 86) dX3_compared_79 rfl h (fun h => ?_) (fun h => ?_))
      · obtain rfl := Option.some.inj h
        exact ch_iconst _ 5 dX3_compared_86 rfl (ch_ireturn _ dX3_compared_87 rfl rfl hk)
      · refine ch_iload_n 3 _ dX3_compared_82 rfl (cp_if_eq _ (tgt := 88) dX3_compared_83 rfl h (fun h => ?_) (fun h => ?_))
        · refine ch_iload_n 1 _ dX3_compared_88 rfl (ch_bipush _ 60 dX3_compared_89 rfl (cp_icmp_eq _ _ (tgt := 101) dX3_compared_91 rfl h (fun h => ?_) (fun h => ?_)))
          · obtain rfl := Option.some.inj h
            exact ch_iconst _ 1 dX3_compared_101 rfl (ch_goto 106 dX3_compared_102 rfl (ch_ireturn _ dX3_compared_106 rfl rfl hk))
          · refine ch_iload_n 1 _ dX3_compared_94 rfl (ch_sipush _ 316 dX3_compared_95 rfl (cp_icmp_ne _ _ (tgt := 105) dX3_compared_98 rfl h (fun h => ?_) (fun h => ?_)))
            · obtain rfl := Option.some.inj h
              exact ch_iconst _ 0 dX3_compared_105 rfl (ch_ireturn _ dX3_compared_106 rfl rfl hk)
            · obtain rfl := Option.some.inj h
              exact ch_iconst _ 1 dX3_compared_101 rfl (ch_goto 106 dX3_compared_102 rfl (ch_ireturn _ dX3_compared_106 rfl rfl hk))
        · obtain rfl := Option.some.inj h
          exact ch_iconst _ 5 dX3_compared_86 rfl (ch_ireturn _ dX3_compared_87 rfl rfl hk)
    · exact ch_FT.wk (ch_wS (ch_wN (ch_wS (ch_wS (ch_wN ch_w0))))) (s_X3_compared_14  h hk)

theorem bX3_checkNode_0 : ch_ck cX3_checkNode 0 [42, 180, 0, 28, 28, 46, 62, 42, 180, 0, 31, 28, 46, 54, 4, 8] := ch_ckof (by decide +kernel)
theorem bX3_checkNode_1 : ch_ck cX3_checkNode 16 [54, 5, 42, 180, 0, 25, 28, 46, 170, 0, 0, 0, 0, 0, 1, 112] := ch_ckof (by decide +kernel)
theorem bX3_checkNode_2 : ch_ck cX3_checkNode 32 [0, 0, 0, 0, 0, 0, 0, 21, 0, 0, 0, 104, 0, 0, 0, 116] := ch_ckof (by decide +kernel)
theorem bX3_checkNode_3 : ch_ck cX3_checkNode 48 [0, 0, 0, 122, 0, 0, 0, 104, 0, 0, 0, 134, 0, 0, 0, 145] := ch_ckof (by decide +kernel)
theorem bX3_checkNode_4 : ch_ck cX3_checkNode 64 [0, 0, 0, 155, 0, 0, 0, 166, 0, 0, 0, 196, 0, 0, 0, 196] := ch_ckof (by decide +kernel)
theorem bX3_checkNode_5 : ch_ck cX3_checkNode 80 [0, 0, 0, 207, 0, 0, 0, 207, 0, 0, 1, 23, 0, 0, 1, 42] := ch_ckof (by decide +kernel)
theorem bX3_checkNode_6 : ch_ck cX3_checkNode 96 [0, 0, 1, 61, 0, 0, 1, 112, 0, 0, 1, 81, 0, 0, 1, 81] := ch_ckof (by decide +kernel)
theorem bX3_checkNode_7 : ch_ck cX3_checkNode 112 [0, 0, 1, 112, 0, 0, 1, 112, 0, 0, 1, 112, 0, 0, 0, 110] := ch_ckof (by decide +kernel)
theorem bX3_checkNode_8 : ch_ck cX3_checkNode 128 [3, 54, 5, 167, 1, 30, 4, 54, 5, 167, 1, 24, 7, 54, 5, 167] := ch_ckof (by decide +kernel)
theorem bX3_checkNode_9 : ch_ck cX3_checkNode 144 [1, 18, 16, 10, 42, 180, 1, 214, 96, 54, 5, 167, 1, 6, 42, 27] := ch_ckof (by decide +kernel)
theorem bX3_checkNode_10 : ch_ck cX3_checkNode 160 [28, 182, 2, 18, 54, 5, 167, 0, 251, 42, 28, 182, 2, 22, 54, 5] := ch_ckof (by decide +kernel)
theorem bX3_checkNode_11 : ch_ck cX3_checkNode 176 [167, 0, 241, 42, 28, 29, 182, 2, 25, 54, 5, 167, 0, 230, 42, 180] := ch_ckof (by decide +kernel)
theorem bX3_checkNode_12 : ch_ck cX3_checkNode 192 [0, 37, 29, 46, 5, 160, 0, 17, 42, 180, 0, 37, 21, 4, 46, 154] := ch_ckof (by decide +kernel)
theorem bX3_checkNode_13 : ch_ck cX3_checkNode 208 [0, 7, 3, 167, 0, 4, 8, 54, 5, 167, 0, 200, 42, 28, 29, 182] := ch_ckof (by decide +kernel)
theorem bX3_checkNode_14 : ch_ck cX3_checkNode 224 [2, 28, 54, 5, 167, 0, 189, 42, 28, 182, 2, 22, 54, 6, 42, 180] := ch_ckof (by decide +kernel)
theorem bX3_checkNode_15 : ch_ck cX3_checkNode 240 [0, 37, 29, 46, 16, 10, 162, 0, 13, 42, 180, 0, 37, 29, 46, 7] := ch_ckof (by decide +kernel)
theorem bX3_checkNode_16 : ch_ck cX3_checkNode 256 [160, 0, 7, 4, 167, 0, 4, 3, 54, 7, 21, 7, 153, 0, 9, 21] := ch_ckof (by decide +kernel)
theorem bX3_checkNode_17 : ch_ck cX3_checkNode 272 [6, 8, 160, 0, 7, 8, 167, 0, 20, 42, 180, 0, 25, 28, 46, 16] := ch_ckof (by decide +kernel)
theorem bX3_checkNode_18 : ch_ck cX3_checkNode 288 [11, 160, 0, 7, 4, 167, 0, 5, 21, 6, 54, 5, 167, 0, 117, 42] := ch_ckof (by decide +kernel)
theorem bX3_checkNode_19 : ch_ck cX3_checkNode 304 [180, 0, 37, 29, 46, 154, 0, 7, 5, 167, 0, 4, 8, 54, 5, 167] := ch_ckof (by decide +kernel)
theorem bX3_checkNode_20 : ch_ck cX3_checkNode 320 [0, 98, 42, 180, 0, 37, 29, 46, 154, 0, 7, 3, 167, 0, 4, 8] := ch_ckof (by decide +kernel)
theorem bX3_checkNode_21 : ch_ck cX3_checkNode 336 [54, 5, 167, 0, 79, 42, 180, 0, 37, 29, 46, 4, 160, 0, 7, 4] := ch_ckof (by decide +kernel)
theorem bX3_checkNode_22 : ch_ck cX3_checkNode 352 [167, 0, 4, 8, 54, 5, 167, 0, 59, 42, 180, 0, 37, 29, 46, 4] := ch_ckof (by decide +kernel)
theorem bX3_checkNode_23 : ch_ck cX3_checkNode 368 [160, 0, 18, 42, 180, 0, 37, 21, 4, 46, 4, 160, 0, 7, 4, 167] := ch_ckof (by decide +kernel)
theorem bX3_checkNode_24 : ch_ck cX3_checkNode 384 [0, 4, 8, 54, 5, 167, 0, 28, 42, 42, 180, 0, 34, 28, 46, 42] := ch_ckof (by decide +kernel)
theorem bX3_checkNode_25 : ch_ck cX3_checkNode 400 [180, 0, 37, 29, 46, 42, 180, 0, 37, 21, 4, 46, 182, 2, 31, 54] := ch_ckof (by decide +kernel)
theorem bX3_checkNode_26 : ch_ck cX3_checkNode 416 [5, 42, 180, 0, 37, 28, 21, 5, 79, 21, 5, 8, 159, 0, 7, 4] := ch_ckof (by decide +kernel)
theorem bX3_checkNode_27 : ch_ck cX3_checkNode 432 [167, 0, 4, 3, 172] := ch_ckof (by decide +kernel)
theorem dX3_checkNode_0 : decode cX3_checkNode 0 = .ok (.aload_n 0, 1) := dz_42 (bX3_checkNode_0 0 _ rfl)
theorem dX3_checkNode_1 : decode cX3_checkNode 1 = .ok (.getfield 28, 3) := dz_180 (bX3_checkNode_0 1 _ rfl) (bX3_checkNode_0 2 _ rfl) (bX3_checkNode_0 3 _ rfl)
theorem dX3_checkNode_4 : decode cX3_checkNode 4 = .ok (.iload_n 2, 1) := dz_28 (bX3_checkNode_0 4 _ rfl)
theorem dX3_checkNode_5 : decode cX3_checkNode 5 = .ok (.iaload, 1) := dz_46 (bX3_checkNode_0 5 _ rfl)
theorem dX3_checkNode_6 : decode cX3_checkNode 6 = .ok (.istore_n 3, 1) := dz_62 (bX3_checkNode_0 6 _ rfl)
theorem dX3_checkNode_7 : decode cX3_checkNode 7 = .ok (.aload_n 0, 1) := dz_42 (bX3_checkNode_0 7 _ rfl)
theorem dX3_checkNode_8 : decode cX3_checkNode 8 = .ok (.getfield 31, 3) := dz_180 (bX3_checkNode_0 8 _ rfl) (bX3_checkNode_0 9 _ rfl) (bX3_checkNode_0 10 _ rfl)
theorem dX3_checkNode_11 : decode cX3_checkNode 11 = .ok (.iload_n 2, 1) := dz_28 (bX3_checkNode_0 11 _ rfl)
theorem dX3_checkNode_12 : decode cX3_checkNode 12 = .ok (.iaload, 1) := dz_46 (bX3_checkNode_0 12 _ rfl)
theorem dX3_checkNode_13 : decode cX3_checkNode 13 = .ok (.istore 4, 2) := dz_54 (bX3_checkNode_0 13 _ rfl) (bX3_checkNode_0 14 _ rfl)
theorem dX3_checkNode_15 : decode cX3_checkNode 15 = .ok (.iconst 5, 1) := dz_8 (bX3_checkNode_0 15 _ rfl)
theorem dX3_checkNode_16 : decode cX3_checkNode 16 = .ok (.istore 5, 2) := dz_54 (bX3_checkNode_1 0 _ rfl) (bX3_checkNode_1 1 _ rfl)
theorem dX3_checkNode_18 : decode cX3_checkNode 18 = .ok (.aload_n 0, 1) := dz_42 (bX3_checkNode_1 2 _ rfl)
theorem dX3_checkNode_19 : decode cX3_checkNode 19 = .ok (.getfield 25, 3) := dz_180 (bX3_checkNode_1 3 _ rfl) (bX3_checkNode_1 4 _ rfl) (bX3_checkNode_1 5 _ rfl)
theorem dX3_checkNode_22 : decode cX3_checkNode 22 = .ok (.iload_n 2, 1) := dz_28 (bX3_checkNode_1 6 _ rfl)
theorem dX3_checkNode_23 : decode cX3_checkNode 23 = .ok (.iaload, 1) := dz_46 (bX3_checkNode_1 7 _ rfl)
theorem dX3_checkNode_24 : decode cX3_checkNode 24 = .ok (.tableswitch 368 0 21 #[104, 116, 122, 104, 134, 145, 155, 166, 196, 196, 207, 207, 279, 298, 317, 368, 337, 337, 368, 368, 368, 110], 104) := by decide +kernel
theorem dX3_checkNode_128 : decode cX3_checkNode 128 = .ok (.iconst 0, 1) := dz_3 (bX3_checkNode_8 0 _ rfl)
theorem dX3_checkNode_129 : decode cX3_checkNode 129 = .ok (.istore 5, 2) := dz_54 (bX3_checkNode_8 1 _ rfl) (bX3_checkNode_8 2 _ rfl)
theorem dX3_checkNode_131 : decode cX3_checkNode 131 = .ok (.goto 286, 3) := dz_167 (bX3_checkNode_8 3 _ rfl) (bX3_checkNode_8 4 _ rfl) (bX3_checkNode_8 5 _ rfl)
theorem dX3_checkNode_134 : decode cX3_checkNode 134 = .ok (.iconst 1, 1) := dz_4 (bX3_checkNode_8 6 _ rfl)
theorem dX3_checkNode_135 : decode cX3_checkNode 135 = .ok (.istore 5, 2) := dz_54 (bX3_checkNode_8 7 _ rfl) (bX3_checkNode_8 8 _ rfl)
theorem dX3_checkNode_137 : decode cX3_checkNode 137 = .ok (.goto 280, 3) := dz_167 (bX3_checkNode_8 9 _ rfl) (bX3_checkNode_8 10 _ rfl) (bX3_checkNode_8 11 _ rfl)
theorem dX3_checkNode_140 : decode cX3_checkNode 140 = .ok (.iconst 4, 1) := dz_7 (bX3_checkNode_8 12 _ rfl)
theorem dX3_checkNode_141 : decode cX3_checkNode 141 = .ok (.istore 5, 2) := dz_54 (bX3_checkNode_8 13 _ rfl) (bX3_checkNode_8 14 _ rfl)
theorem dX3_checkNode_143 : decode cX3_checkNode 143 = .ok (.goto 274, 3) := dz_167 (bX3_checkNode_8 15 _ rfl) (bX3_checkNode_9 0 _ rfl) (bX3_checkNode_9 1 _ rfl)
theorem dX3_checkNode_146 : decode cX3_checkNode 146 = .ok (.bipush 10, 2) := dz_16 (bX3_checkNode_9 2 _ rfl) (bX3_checkNode_9 3 _ rfl)
theorem dX3_checkNode_148 : decode cX3_checkNode 148 = .ok (.aload_n 0, 1) := dz_42 (bX3_checkNode_9 4 _ rfl)
theorem dX3_checkNode_149 : decode cX3_checkNode 149 = .ok (.getfield 470, 3) := dz_180 (bX3_checkNode_9 5 _ rfl) (bX3_checkNode_9 6 _ rfl) (bX3_checkNode_9 7 _ rfl)
theorem dX3_checkNode_152 : decode cX3_checkNode 152 = .ok (.iadd, 1) := dz_96 (bX3_checkNode_9 8 _ rfl)
theorem dX3_checkNode_153 : decode cX3_checkNode 153 = .ok (.istore 5, 2) := dz_54 (bX3_checkNode_9 9 _ rfl) (bX3_checkNode_9 10 _ rfl)
theorem dX3_checkNode_155 : decode cX3_checkNode 155 = .ok (.goto 262, 3) := dz_167 (bX3_checkNode_9 11 _ rfl) (bX3_checkNode_9 12 _ rfl) (bX3_checkNode_9 13 _ rfl)
theorem dX3_checkNode_158 : decode cX3_checkNode 158 = .ok (.aload_n 0, 1) := dz_42 (bX3_checkNode_9 14 _ rfl)
theorem dX3_checkNode_159 : decode cX3_checkNode 159 = .ok (.iload_n 1, 1) := dz_27 (bX3_checkNode_9 15 _ rfl)
theorem dX3_checkNode_160 : decode cX3_checkNode 160 = .ok (.iload_n 2, 1) := dz_28 (bX3_checkNode_10 0 _ rfl)
theorem dX3_checkNode_161 : decode cX3_checkNode 161 = .ok (.invokevirtual 530, 3) := dz_182 (bX3_checkNode_10 1 _ rfl) (bX3_checkNode_10 2 _ rfl) (bX3_checkNode_10 3 _ rfl)
theorem dX3_checkNode_164 : decode cX3_checkNode 164 = .ok (.istore 5, 2) := dz_54 (bX3_checkNode_10 4 _ rfl) (bX3_checkNode_10 5 _ rfl)
theorem dX3_checkNode_166 : decode cX3_checkNode 166 = .ok (.goto 251, 3) := dz_167 (bX3_checkNode_10 6 _ rfl) (bX3_checkNode_10 7 _ rfl) (bX3_checkNode_10 8 _ rfl)
theorem dX3_checkNode_169 : decode cX3_checkNode 169 = .ok (.aload_n 0, 1) := dz_42 (bX3_checkNode_10 9 _ rfl)
theorem dX3_checkNode_170 : decode cX3_checkNode 170 = .ok (.iload_n 2, 1) := dz_28 (bX3_checkNode_10 10 _ rfl)
theorem dX3_checkNode_171 : decode cX3_checkNode 171 = .ok (.invokevirtual 534, 3) := dz_182 (bX3_checkNode_10 11 _ rfl) (bX3_checkNode_10 12 _ rfl) (bX3_checkNode_10 13 _ rfl)
theorem dX3_checkNode_174 : decode cX3_checkNode 174 = .ok (.istore 5, 2) := dz_54 (bX3_checkNode_10 14 _ rfl) (bX3_checkNode_10 15 _ rfl)
theorem dX3_checkNode_176 : decode cX3_checkNode 176 = .ok (.goto 241, 3) := dz_167 (bX3_checkNode_11 0 _ rfl) (bX3_checkNode_11 1 _ rfl) (bX3_checkNode_11 2 _ rfl)
theorem dX3_checkNode_179 : decode cX3_checkNode 179 = .ok (.aload_n 0, 1) := dz_42 (bX3_checkNode_11 3 _ rfl)
theorem dX3_checkNode_180 : decode cX3_checkNode 180 = .ok (.iload_n 2, 1) := dz_28 (bX3_checkNode_11 4 _ rfl)
theorem dX3_checkNode_181 : decode cX3_checkNode 181 = .ok (.iload_n 3, 1) := dz_29 (bX3_checkNode_11 5 _ rfl)
theorem dX3_checkNode_182 : decode cX3_checkNode 182 = .ok (.invokevirtual 537, 3) := dz_182 (bX3_checkNode_11 6 _ rfl) (bX3_checkNode_11 7 _ rfl) (bX3_checkNode_11 8 _ rfl)
theorem dX3_checkNode_185 : decode cX3_checkNode 185 = .ok (.istore 5, 2) := dz_54 (bX3_checkNode_11 9 _ rfl) (bX3_checkNode_11 10 _ rfl)
theorem dX3_checkNode_187 : decode cX3_checkNode 187 = .ok (.goto 230, 3) := dz_167 (bX3_checkNode_11 11 _ rfl) (bX3_checkNode_11 12 _ rfl) (bX3_checkNode_11 13 _ rfl)
theorem dX3_checkNode_190 : decode cX3_checkNode 190 = .ok (.aload_n 0, 1) := dz_42 (bX3_checkNode_11 14 _ rfl)
theorem dX3_checkNode_191 : decode cX3_checkNode 191 = .ok (.getfield 37, 3) := dz_180 (bX3_checkNode_11 15 _ rfl) (bX3_checkNode_12 0 _ rfl) (bX3_checkNode_12 1 _ rfl)
theorem dX3_checkNode_194 : decode cX3_checkNode 194 = .ok (.iload_n 3, 1) := dz_29 (bX3_checkNode_12 2 _ rfl)
theorem dX3_checkNode_195 : decode cX3_checkNode 195 = .ok (.iaload, 1) := dz_46 (bX3_checkNode_12 3 _ rfl)
theorem dX3_checkNode_196 : decode cX3_checkNode 196 = .ok (.iconst 2, 1) := dz_5 (bX3_checkNode_12 4 _ rfl)
theorem dX3_checkNode_197 : decode cX3_checkNode 197 = .ok (.if_icmp .ne 17, 3) := dz_160 (bX3_checkNode_12 5 _ rfl) (bX3_checkNode_12 6 _ rfl) (bX3_checkNode_12 7 _ rfl)
theorem dX3_checkNode_200 : decode cX3_checkNode 200 = .ok (.aload_n 0, 1) := dz_42 (bX3_checkNode_12 8 _ rfl)
theorem dX3_checkNode_201 : decode cX3_checkNode 201 = .ok (.getfield 37, 3) := dz_180 (bX3_checkNode_12 9 _ rfl) (bX3_checkNode_12 10 _ rfl) (bX3_checkNode_12 11 _ rfl)
theorem dX3_checkNode_204 : decode cX3_checkNode 204 = .ok (.iload 4, 2) := dz_21 (bX3_checkNode_12 12 _ rfl) (bX3_checkNode_12 13 _ rfl)
theorem dX3_checkNode_206 : decode cX3_checkNode 206 = .ok (.iaload, 1) := dz_46 (bX3_checkNode_12 14 _ rfl)
theorem dX3_checkNode_207 : decode cX3_checkNode 207 = .ok (.ifCond .ne 7, 3) := dz_154 (bX3_checkNode_12 15 _ rfl) (bX3_checkNode_13 0 _ rfl) (bX3_checkNode_13 1 _ rfl)
theorem dX3_checkNode_210 : decode cX3_checkNode 210 = .ok (.iconst 0, 1) := dz_3 (bX3_checkNode_13 2 _ rfl)
theorem dX3_checkNode_211 : decode cX3_checkNode 211 = .ok (.goto 4, 3) := dz_167 (bX3_checkNode_13 3 _ rfl) (bX3_checkNode_13 4 _ rfl) (bX3_checkNode_13 5 _ rfl)
theorem dX3_checkNode_214 : decode cX3_checkNode 214 = .ok (.iconst 5, 1) := dz_8 (bX3_checkNode_13 6 _ rfl)
theorem dX3_checkNode_215 : decode cX3_checkNode 215 = .ok (.istore 5, 2) := dz_54 (bX3_checkNode_13 7 _ rfl) (bX3_checkNode_13 8 _ rfl)
theorem dX3_checkNode_217 : decode cX3_checkNode 217 = .ok (.goto 200, 3) := dz_167 (bX3_checkNode_13 9 _ rfl) (bX3_checkNode_13 10 _ rfl) (bX3_checkNode_13 11 _ rfl)
theorem dX3_checkNode_220 : decode cX3_checkNode 220 = .ok (.aload_n 0, 1) := dz_42 (bX3_checkNode_13 12 _ rfl)
theorem dX3_checkNode_221 : decode cX3_checkNode 221 = .ok (.iload_n 2, 1) := dz_28 (bX3_checkNode_13 13 _ rfl)
theorem dX3_checkNode_222 : decode cX3_checkNode 222 = .ok (.iload_n 3, 1) := dz_29 (bX3_checkNode_13 14 _ rfl)
theorem dX3_checkNode_223 : decode cX3_checkNode 223 = .ok (.invokevirtual 540, 3) := dz_182 (bX3_checkNode_13 15 _ rfl) (bX3_checkNode_14 0 _ rfl) (bX3_checkNode_14 1 _ rfl)
theorem dX3_checkNode_226 : decode cX3_checkNode 226 = .ok (.istore 5, 2) := dz_54 (bX3_checkNode_14 2 _ rfl) (bX3_checkNode_14 3 _ rfl)
theorem dX3_checkNode_228 : decode cX3_checkNode 228 = .ok (.goto 189, 3) := dz_167 (bX3_checkNode_14 4 _ rfl) (bX3_checkNode_14 5 _ rfl) (bX3_checkNode_14 6 _ rfl)
theorem dX3_checkNode_231 : decode cX3_checkNode 231 = .ok (.aload_n 0, 1) := dz_42 (bX3_checkNode_14 7 _ rfl)
theorem dX3_checkNode_232 : decode cX3_checkNode 232 = .ok (.iload_n 2, 1) := dz_28 (bX3_checkNode_14 8 _ rfl)
theorem dX3_checkNode_233 : decode cX3_checkNode 233 = .ok (.invokevirtual 534, 3) := dz_182 (bX3_checkNode_14 9 _ rfl) (bX3_checkNode_14 10 _ rfl) (bX3_checkNode_14 11 _ rfl)
theorem dX3_checkNode_236 : decode cX3_checkNode 236 = .ok (.istore 6, 2) := dz_54 (bX3_checkNode_14 12 _ rfl) (bX3_checkNode_14 13 _ rfl)
theorem dX3_checkNode_238 : decode cX3_checkNode 238 = .ok (.aload_n 0, 1) := dz_42 (bX3_checkNode_14 14 _ rfl)
theorem dX3_checkNode_239 : decode cX3_checkNode 239 = .ok (.getfield 37, 3) := dz_180 (bX3_checkNode_14 15 _ rfl) (bX3_checkNode_15 0 _ rfl) (bX3_checkNode_15 1 _ rfl)
theorem dX3_checkNode_242 : decode cX3_checkNode 242 = .ok (.iload_n 3, 1) := dz_29 (bX3_checkNode_15 2 _ rfl)
theorem dX3_checkNode_243 : decode cX3_checkNode 243 = .ok (.iaload, 1) := dz_46 (bX3_checkNode_15 3 _ rfl)
theorem dX3_checkNode_244 : decode cX3_checkNode 244 = .ok (.bipush 10, 2) := dz_16 (bX3_checkNode_15 4 _ rfl) (bX3_checkNode_15 5 _ rfl)
theorem dX3_checkNode_246 : decode cX3_checkNode 246 = .ok (.if_icmp .ge 13, 3) := dz_162 (bX3_checkNode_15 6 _ rfl) (bX3_checkNode_15 7 _ rfl) (bX3_checkNode_15 8 _ rfl)
theorem dX3_checkNode_249 : decode cX3_checkNode 249 = .ok (.aload_n 0, 1) := dz_42 (bX3_checkNode_15 9 _ rfl)
theorem dX3_checkNode_250 : decode cX3_checkNode 250 = .ok (.getfield 37, 3) := dz_180 (bX3_checkNode_15 10 _ rfl) (bX3_checkNode_15 11 _ rfl) (bX3_checkNode_15 12 _ rfl)
theorem dX3_checkNode_253 : decode cX3_checkNode 253 = .ok (.iload_n 3, 1) := dz_29 (bX3_checkNode_15 13 _ rfl)
theorem dX3_checkNode_254 : decode cX3_checkNode 254 = .ok (.iaload, 1) := dz_46 (bX3_checkNode_15 14 _ rfl)
theorem dX3_checkNode_255 : decode cX3_checkNode 255 = .ok (.iconst 4, 1) := dz_7 (bX3_checkNode_15 15 _ rfl)
theorem dX3_checkNode_256 : decode cX3_checkNode 256 = .ok (.if_icmp .ne 7, 3) := dz_160 (bX3_checkNode_16 0 _ rfl) (bX3_checkNode_16 1 _ rfl) (bX3_checkNode_16 2 _ rfl)
theorem dX3_checkNode_259 : decode cX3_checkNode 259 = .ok (.iconst 1, 1) := dz_4 (bX3_checkNode_16 3 _ rfl)
theorem dX3_checkNode_260 : decode cX3_checkNode 260 = .ok (.goto 4, 3) := dz_167 (bX3_checkNode_16 4 _ rfl) (bX3_checkNode_16 5 _ rfl) (bX3_checkNode_16 6 _ rfl)
theorem dX3_checkNode_263 : decode cX3_checkNode 263 = .ok (.iconst 0, 1) := dz_3 (bX3_checkNode_16 7 _ rfl)
theorem dX3_checkNode_264 : decode cX3_checkNode 264 = .ok (.istore 7, 2) := dz_54 (bX3_checkNode_16 8 _ rfl) (bX3_checkNode_16 9 _ rfl)
theorem dX3_checkNode_266 : decode cX3_checkNode 266 = .ok (.iload 7, 2) := dz_21 (bX3_checkNode_16 10 _ rfl) (bX3_checkNode_16 11 _ rfl)
theorem dX3_checkNode_268 : decode cX3_checkNode 268 = .ok (.ifCond .eq 9, 3) := dz_153 (bX3_checkNode_16 12 _ rfl) (bX3_checkNode_16 13 _ rfl) (bX3_checkNode_16 14 _ rfl)
theorem dX3_checkNode_271 : decode cX3_checkNode 271 = .ok (.iload 6, 2) := dz_21 (bX3_checkNode_16 15 _ rfl) (bX3_checkNode_17 0 _ rfl)
theorem dX3_checkNode_273 : decode cX3_checkNode 273 = .ok (.iconst 5, 1) := dz_8 (bX3_checkNode_17 1 _ rfl)
theorem dX3_checkNode_274 : decode cX3_checkNode 274 = .ok (.if_icmp .ne 7, 3) := dz_160 (bX3_checkNode_17 2 _ rfl) (bX3_checkNode_17 3 _ rfl) (bX3_checkNode_17 4 _ rfl)
theorem dX3_checkNode_277 : decode cX3_checkNode 277 = .ok (.iconst 5, 1) := dz_8 (bX3_checkNode_17 5 _ rfl)
theorem dX3_checkNode_278 : decode cX3_checkNode 278 = .ok (.goto 20, 3) := dz_167 (bX3_checkNode_17 6 _ rfl) (bX3_checkNode_17 7 _ rfl) (bX3_checkNode_17 8 _ rfl)
theorem dX3_checkNode_281 : decode cX3_checkNode 281 = .ok (.aload_n 0, 1) := dz_42 (bX3_checkNode_17 9 _ rfl)
theorem dX3_checkNode_282 : decode cX3_checkNode 282 = .ok (.getfield 25, 3) := dz_180 (bX3_checkNode_17 10 _ rfl) (bX3_checkNode_17 11 _ rfl) (bX3_checkNode_17 12 _ rfl)
theorem dX3_checkNode_285 : decode cX3_checkNode 285 = .ok (.iload_n 2, 1) := dz_28 (bX3_checkNode_17 13 _ rfl)
theorem dX3_checkNode_286 : decode cX3_checkNode 286 = .ok (.iaload, 1) := dz_46 (bX3_checkNode_17 14 _ rfl)
theorem dX3_checkNode_287 : decode cX3_checkNode 287 = .ok (.bipush 11, 2) := dz_16 (bX3_checkNode_17 15 _ rfl) (bX3_checkNode_18 0 _ rfl)
theorem dX3_checkNode_289 : decode cX3_checkNode 289 = .ok (.if_icmp .ne 7, 3) := dz_160 (bX3_checkNode_18 1 _ rfl) (bX3_checkNode_18 2 _ rfl) (bX3_checkNode_18 3 _ rfl)
theorem dX3_checkNode_292 : decode cX3_checkNode 292 = .ok (.iconst 1, 1) := dz_4 (bX3_checkNode_18 4 _ rfl)
theorem dX3_checkNode_293 : decode cX3_checkNode 293 = .ok (.goto 5, 3) := dz_167 (bX3_checkNode_18 5 _ rfl) (bX3_checkNode_18 6 _ rfl) (bX3_checkNode_18 7 _ rfl)
theorem dX3_checkNode_296 : decode cX3_checkNode 296 = .ok (.iload 6, 2) := dz_21 (bX3_checkNode_18 8 _ rfl) (bX3_checkNode_18 9 _ rfl)
theorem dX3_checkNode_298 : decode cX3_checkNode 298 = .ok (.istore 5, 2) := dz_54 (bX3_checkNode_18 10 _ rfl) (bX3_checkNode_18 11 _ rfl)
theorem dX3_checkNode_300 : decode cX3_checkNode 300 = .ok (.goto 117, 3) := dz_167 (bX3_checkNode_18 12 _ rfl) (bX3_checkNode_18 13 _ rfl) (bX3_checkNode_18 14 _ rfl)
theorem dX3_checkNode_303 : decode cX3_checkNode 303 = .ok (.aload_n 0, 1) := dz_42 (bX3_checkNode_18 15 _ rfl)
theorem dX3_checkNode_304 : decode cX3_checkNode 304 = .ok (.getfield 37, 3) := dz_180 (bX3_checkNode_19 0 _ rfl) (bX3_checkNode_19 1 _ rfl) (bX3_checkNode_19 2 _ rfl)
theorem dX3_checkNode_307 : decode cX3_checkNode 307 = .ok (.iload_n 3, 1) := dz_29 (bX3_checkNode_19 3 _ rfl)
theorem dX3_checkNode_308 : decode cX3_checkNode 308 = .ok (.iaload, 1) := dz_46 (bX3_checkNode_19 4 _ rfl)
theorem dX3_checkNode_309 : decode cX3_checkNode 309 = .ok (.ifCond .ne 7, 3) := dz_154 (bX3_checkNode_19 5 _ rfl) (bX3_checkNode_19 6 _ rfl) (bX3_checkNode_19 7 _ rfl)
theorem dX3_checkNode_312 : decode cX3_checkNode 312 = .ok (.iconst 2, 1) := dz_5 (bX3_checkNode_19 8 _ rfl)
theorem dX3_checkNode_313 : decode cX3_checkNode 313 = .ok (.goto 4, 3) := dz_167 (bX3_checkNode_19 9 _ rfl) (bX3_checkNode_19 10 _ rfl) (bX3_checkNode_19 11 _ rfl)
theorem dX3_checkNode_316 : decode cX3_checkNode 316 = .ok (.iconst 5, 1) := dz_8 (bX3_checkNode_19 12 _ rfl)
theorem dX3_checkNode_317 : decode cX3_checkNode 317 = .ok (.istore 5, 2) := dz_54 (bX3_checkNode_19 13 _ rfl) (bX3_checkNode_19 14 _ rfl)
theorem dX3_checkNode_319 : decode cX3_checkNode 319 = .ok (.goto 98, 3) := dz_167 (bX3_checkNode_19 15 _ rfl) (bX3_checkNode_20 0 _ rfl) (bX3_checkNode_20 1 _ rfl)
theorem dX3_checkNode_322 : decode cX3_checkNode 322 = .ok (.aload_n 0, 1) := dz_42 (bX3_checkNode_20 2 _ rfl)
theorem dX3_checkNode_323 : decode cX3_checkNode 323 = .ok (.getfield 37, 3) := dz_180 (bX3_checkNode_20 3 _ rfl) (bX3_checkNode_20 4 _ rfl) (bX3_checkNode_20 5 _ rfl)
theorem dX3_checkNode_326 : decode cX3_checkNode 326 = .ok (.iload_n 3, 1) := dz_29 (bX3_checkNode_20 6 _ rfl)
theorem dX3_checkNode_327 : decode cX3_checkNode 327 = .ok (.iaload, 1) := dz_46 (bX3_checkNode_20 7 _ rfl)
theorem dX3_checkNode_328 : decode cX3_checkNode 328 = .ok (.ifCond .ne 7, 3) := dz_154 (bX3_checkNode_20 8 _ rfl) (bX3_checkNode_20 9 _ rfl) (bX3_checkNode_20 10 _ rfl)
theorem dX3_checkNode_331 : decode cX3_checkNode 331 = .ok (.iconst 0, 1) := dz_3 (bX3_checkNode_20 11 _ rfl)
theorem dX3_checkNode_332 : decode cX3_checkNode 332 = .ok (.goto 4, 3) := dz_167 (bX3_checkNode_20 12 _ rfl) (bX3_checkNode_20 13 _ rfl) (bX3_checkNode_20 14 _ rfl)
theorem dX3_checkNode_335 : decode cX3_checkNode 335 = .ok (.iconst 5, 1) := dz_8 (bX3_checkNode_20 15 _ rfl)
theorem dX3_checkNode_336 : decode cX3_checkNode 336 = .ok (.istore 5, 2) := dz_54 (bX3_checkNode_21 0 _ rfl) (bX3_checkNode_21 1 _ rfl)
theorem dX3_checkNode_338 : decode cX3_checkNode 338 = .ok (.goto 79, 3) := dz_167 (bX3_checkNode_21 2 _ rfl) (bX3_checkNode_21 3 _ rfl) (bX3_checkNode_21 4 _ rfl)
theorem dX3_checkNode_341 : decode cX3_checkNode 341 = .ok (.aload_n 0, 1) := dz_42 (bX3_checkNode_21 5 _ rfl)
theorem dX3_checkNode_342 : decode cX3_checkNode 342 = .ok (.getfield 37, 3) := dz_180 (bX3_checkNode_21 6 _ rfl) (bX3_checkNode_21 7 _ rfl) (bX3_checkNode_21 8 _ rfl)
theorem dX3_checkNode_345 : decode cX3_checkNode 345 = .ok (.iload_n 3, 1) := dz_29 (bX3_checkNode_21 9 _ rfl)
theorem dX3_checkNode_346 : decode cX3_checkNode 346 = .ok (.iaload, 1) := dz_46 (bX3_checkNode_21 10 _ rfl)
theorem dX3_checkNode_347 : decode cX3_checkNode 347 = .ok (.iconst 1, 1) := dz_4 (bX3_checkNode_21 11 _ rfl)
theorem dX3_checkNode_348 : decode cX3_checkNode 348 = .ok (.if_icmp .ne 7, 3) := dz_160 (bX3_checkNode_21 12 _ rfl) (bX3_checkNode_21 13 _ rfl) (bX3_checkNode_21 14 _ rfl)
theorem dX3_checkNode_351 : decode cX3_checkNode 351 = .ok (.iconst 1, 1) := dz_4 (bX3_checkNode_21 15 _ rfl)
theorem dX3_checkNode_352 : decode cX3_checkNode 352 = .ok (.goto 4, 3) := dz_167 (bX3_checkNode_22 0 _ rfl) (bX3_checkNode_22 1 _ rfl) (bX3_checkNode_22 2 _ rfl)
theorem dX3_checkNode_355 : decode cX3_checkNode 355 = .ok (.iconst 5, 1) := dz_8 (bX3_checkNode_22 3 _ rfl)
theorem dX3_checkNode_356 : decode cX3_checkNode 356 = .ok (.istore 5, 2) := dz_54 (bX3_checkNode_22 4 _ rfl) (bX3_checkNode_22 5 _ rfl)
theorem dX3_checkNode_358 : decode cX3_checkNode 358 = .ok (.goto 59, 3) := dz_167 (bX3_checkNode_22 6 _ rfl) (bX3_checkNode_22 7 _ rfl) (bX3_checkNode_22 8 _ rfl)
theorem dX3_checkNode_361 : decode cX3_checkNode 361 = .ok (.aload_n 0, 1) := dz_42 (bX3_checkNode_22 9 _ rfl)
theorem dX3_checkNode_362 : decode cX3_checkNode 362 = .ok (.getfield 37, 3) := dz_180 (bX3_checkNode_22 10 _ rfl) (bX3_checkNode_22 11 _ rfl) (bX3_checkNode_22 12 _ rfl)
theorem dX3_checkNode_365 : decode cX3_checkNode 365 = .ok (.iload_n 3, 1) := dz_29 (bX3_checkNode_22 13 _ rfl)
theorem dX3_checkNode_366 : decode cX3_checkNode 366 = .ok (.iaload, 1) := dz_46 (bX3_checkNode_22 14 _ rfl)
theorem dX3_checkNode_367 : decode cX3_checkNode 367 = .ok (.iconst 1, 1) := dz_4 (bX3_checkNode_22 15 _ rfl)
theorem dX3_checkNode_368 : decode cX3_checkNode 368 = .ok (.if_icmp .ne 18, 3) := dz_160 (bX3_checkNode_23 0 _ rfl) (bX3_checkNode_23 1 _ rfl) (bX3_checkNode_23 2 _ rfl)
theorem dX3_checkNode_371 : decode cX3_checkNode 371 = .ok (.aload_n 0, 1) := dz_42 (bX3_checkNode_23 3 _ rfl)
theorem dX3_checkNode_372 : decode cX3_checkNode 372 = .ok (.getfield 37, 3) := dz_180 (bX3_checkNode_23 4 _ rfl) (bX3_checkNode_23 5 _ rfl) (bX3_checkNode_23 6 _ rfl)
theorem dX3_checkNode_375 : decode cX3_checkNode 375 = .ok (.iload 4, 2) := dz_21 (bX3_checkNode_23 7 _ rfl) (bX3_checkNode_23 8 _ rfl)
theorem dX3_checkNode_377 : decode cX3_checkNode 377 = .ok (.iaload, 1) := dz_46 (bX3_checkNode_23 9 _ rfl)
theorem dX3_checkNode_378 : decode cX3_checkNode 378 = .ok (.iconst 1, 1) := dz_4 (bX3_checkNode_23 10 _ rfl)
theorem dX3_checkNode_379 : decode cX3_checkNode 379 = .ok (.if_icmp .ne 7, 3) := dz_160 (bX3_checkNode_23 11 _ rfl) (bX3_checkNode_23 12 _ rfl) (bX3_checkNode_23 13 _ rfl)
theorem dX3_checkNode_382 : decode cX3_checkNode 382 = .ok (.iconst 1, 1) := dz_4 (bX3_checkNode_23 14 _ rfl)
theorem dX3_checkNode_383 : decode cX3_checkNode 383 = .ok (.goto 4, 3) := dz_167 (bX3_checkNode_23 15 _ rfl) (bX3_checkNode_24 0 _ rfl) (bX3_checkNode_24 1 _ rfl)
theorem dX3_checkNode_386 : decode cX3_checkNode 386 = .ok (.iconst 5, 1) := dz_8 (bX3_checkNode_24 2 _ rfl)
theorem dX3_checkNode_387 : decode cX3_checkNode 387 = .ok (.istore 5, 2) := dz_54 (bX3_checkNode_24 3 _ rfl) (bX3_checkNode_24 4 _ rfl)
theorem dX3_checkNode_389 : decode cX3_checkNode 389 = .ok (.goto 28, 3) := dz_167 (bX3_checkNode_24 5 _ rfl) (bX3_checkNode_24 6 _ rfl) (bX3_checkNode_24 7 _ rfl)
theorem dX3_checkNode_392 : decode cX3_checkNode 392 = .ok (.aload_n 0, 1) := dz_42 (bX3_checkNode_24 8 _ rfl)
theorem dX3_checkNode_393 : decode cX3_checkNode 393 = .ok (.aload_n 0, 1) := dz_42 (bX3_checkNode_24 9 _ rfl)
theorem dX3_checkNode_394 : decode cX3_checkNode 394 = .ok (.getfield 34, 3) := dz_180 (bX3_checkNode_24 10 _ rfl) (bX3_checkNode_24 11 _ rfl) (bX3_checkNode_24 12 _ rfl)
theorem dX3_checkNode_397 : decode cX3_checkNode 397 = .ok (.iload_n 2, 1) := dz_28 (bX3_checkNode_24 13 _ rfl)
theorem dX3_checkNode_398 : decode cX3_checkNode 398 = .ok (.iaload, 1) := dz_46 (bX3_checkNode_24 14 _ rfl)
theorem dX3_checkNode_399 : decode cX3_checkNode 399 = .ok (.aload_n 0, 1) := dz_42 (bX3_checkNode_24 15 _ rfl)
theorem dX3_checkNode_400 : decode cX3_checkNode 400 = .ok (.getfield 37, 3) := dz_180 (bX3_checkNode_25 0 _ rfl) (bX3_checkNode_25 1 _ rfl) (bX3_checkNode_25 2 _ rfl)
theorem dX3_checkNode_403 : decode cX3_checkNode 403 = .ok (.iload_n 3, 1) := dz_29 (bX3_checkNode_25 3 _ rfl)
theorem dX3_checkNode_404 : decode cX3_checkNode 404 = .ok (.iaload, 1) := dz_46 (bX3_checkNode_25 4 _ rfl)
theorem dX3_checkNode_405 : decode cX3_checkNode 405 = .ok (.aload_n 0, 1) := dz_42 (bX3_checkNode_25 5 _ rfl)
theorem dX3_checkNode_406 : decode cX3_checkNode 406 = .ok (.getfield 37, 3) := dz_180 (bX3_checkNode_25 6 _ rfl) (bX3_checkNode_25 7 _ rfl) (bX3_checkNode_25 8 _ rfl)
theorem dX3_checkNode_409 : decode cX3_checkNode 409 = .ok (.iload 4, 2) := dz_21 (bX3_checkNode_25 9 _ rfl) (bX3_checkNode_25 10 _ rfl)
theorem dX3_checkNode_411 : decode cX3_checkNode 411 = .ok (.iaload, 1) := dz_46 (bX3_checkNode_25 11 _ rfl)
theorem dX3_checkNode_412 : decode cX3_checkNode 412 = .ok (.invokevirtual 543, 3) := dz_182 (bX3_checkNode_25 12 _ rfl) (bX3_checkNode_25 13 _ rfl) (bX3_checkNode_25 14 _ rfl)
theorem dX3_checkNode_415 : decode cX3_checkNode 415 = .ok (.istore 5, 2) := dz_54 (bX3_checkNode_25 15 _ rfl) (bX3_checkNode_26 0 _ rfl)
theorem dX3_checkNode_417 : decode cX3_checkNode 417 = .ok (.aload_n 0, 1) := dz_42 (bX3_checkNode_26 1 _ rfl)
theorem dX3_checkNode_418 : decode cX3_checkNode 418 = .ok (.getfield 37, 3) := dz_180 (bX3_checkNode_26 2 _ rfl) (bX3_checkNode_26 3 _ rfl) (bX3_checkNode_26 4 _ rfl)
theorem dX3_checkNode_421 : decode cX3_checkNode 421 = .ok (.iload_n 2, 1) := dz_28 (bX3_checkNode_26 5 _ rfl)
theorem dX3_checkNode_422 : decode cX3_checkNode 422 = .ok (.iload 5, 2) := dz_21 (bX3_checkNode_26 6 _ rfl) (bX3_checkNode_26 7 _ rfl)
theorem dX3_checkNode_424 : decode cX3_checkNode 424 = .ok (.iastore, 1) := dz_79 (bX3_checkNode_26 8 _ rfl)
theorem dX3_checkNode_425 : decode cX3_checkNode 425 = .ok (.iload 5, 2) := dz_21 (bX3_checkNode_26 9 _ rfl) (bX3_checkNode_26 10 _ rfl)
theorem dX3_checkNode_427 : decode cX3_checkNode 427 = .ok (.iconst 5, 1) := dz_8 (bX3_checkNode_26 11 _ rfl)
theorem dX3_checkNode_428 : decode cX3_checkNode 428 = .ok (.if_icmp .eq 7, 3) := dz_159 (bX3_checkNode_26 12 _ rfl) (bX3_checkNode_26 13 _ rfl) (bX3_checkNode_26 14 _ rfl)
theorem dX3_checkNode_431 : decode cX3_checkNode 431 = .ok (.iconst 1, 1) := dz_4 (bX3_checkNode_26 15 _ rfl)
theorem dX3_checkNode_432 : decode cX3_checkNode 432 = .ok (.goto 4, 3) := dz_167 (bX3_checkNode_27 0 _ rfl) (bX3_checkNode_27 1 _ rfl) (bX3_checkNode_27 2 _ rfl)
theorem dX3_checkNode_435 : decode cX3_checkNode 435 = .ok (.iconst 0, 1) := dz_3 (bX3_checkNode_27 3 _ rfl)
theorem dX3_checkNode_436 : decode cX3_checkNode 436 = .ok (.ireturn, 1) := dz_172 (bX3_checkNode_27 4 _ rfl)
def m_X3_checkNode_417 (x2 : Int32) (x5 : Int32)  (σ : ch_S) : Option (Int32 × ch_S) := (ch_mw σ fX3_typeOf x2 x5).bind fun σ1 => if x5 = 5 then (some ((0, σ1))) else (some ((1, σ1)))
theorem s_X3_checkNode_417 {g : State} {m : Nat} {w : ch_W} {x2 : Int32} {x5 : Int32} {σ : ch_S} {res : Int32 × ch_S} {Q : Outcome → ch_W → Prop} (h : m_X3_checkNode_417 x2 x5 σ = some res) (hk : (fun r => ch_eI Q (r.1, ch_put m w r.2)) res) : ch_FT g false mX3_checkNode 5 417 [some (va_rf (some m)), none, some (.int x2), none, none, some (.int x5), none, none] [] (ch_put m w σ) Q := by
  unfold m_X3_checkNode_417 at h
  refine ch_aload_n 0 (some m) dX3_checkNode_417 rfl (mp_gA 20 dX3_checkNode_418 fl_X3_37 rfl (ch_iload_n 2 _ dX3_checkNode_421 rfl (ch_iload 5 _ dX3_checkNode_422 rfl (mp_iast dX3_checkNode_424 mk_20 rfl h (fun σ1 h => ?_)))))
  refine ch_iload 5 _ dX3_checkNode_425 rfl (ch_iconst _ 5 dX3_checkNode_427 rfl (cp_icmp_eq _ _ (tgt := 435) dX3_checkNode_428 rfl h (fun h => ?_) (fun h => ?_)))
  · obtain rfl := Option.some.inj h
    exact ch_iconst _ 0 dX3_checkNode_435 rfl (ch_ireturn _ dX3_checkNode_436 rfl rfl hk)
  · obtain rfl := Option.some.inj h
    exact ch_iconst _ 1 dX3_checkNode_431 rfl (ch_goto 436 dX3_checkNode_432 rfl (ch_ireturn _ dX3_checkNode_436 rfl rfl hk))

def m_X3_checkNode_215 (x2 : Int32) (y0 : Int32) (σ : ch_S) : Option (Int32 × ch_S) := m_X3_checkNode_417 x2 y0 σ
theorem s_X3_checkNode_215 {g : State} {m : Nat} {w : ch_W} {x2 : Int32} {y0 : Int32} {σ : ch_S} {res : Int32 × ch_S} {Q : Outcome → ch_W → Prop} (h : m_X3_checkNode_215 x2 y0 σ = some res) (hk : (fun r => ch_eI Q (r.1, ch_put m w r.2)) res) : ch_FT g false mX3_checkNode 5 215 [some (va_rf (some m)), none, some (.int x2), none, none, none, none, none] [.int y0] (ch_put m w σ) Q := by
  unfold m_X3_checkNode_215 at h
  exact ch_istore 5 _ (ls1 := [some (va_rf (some m)), none, some (.int x2), none, none, some (.int y0), none, none]) dX3_checkNode_215 (Nat.le_of_ble_eq_true rfl) rfl (ch_goto 417 dX3_checkNode_217 rfl (ch_FT.wk (ch_wS (ch_wN (ch_wS (ch_wN (ch_wN (ch_wS (ch_wN (ch_wN ch_w0)))))))) (s_X3_checkNode_417  h hk)))

def m_X3_checkNode_214 (x2 : Int32)  (σ : ch_S) : Option (Int32 × ch_S) := m_X3_checkNode_215 x2 5 σ
theorem s_X3_checkNode_214 {g : State} {m : Nat} {w : ch_W} {x2 : Int32} {σ : ch_S} {res : Int32 × ch_S} {Q : Outcome → ch_W → Prop} (h : m_X3_checkNode_214 x2 σ = some res) (hk : (fun r => ch_eI Q (r.1, ch_put m w r.2)) res) : ch_FT g false mX3_checkNode 5 214 [some (va_rf (some m)), none, some (.int x2), none, none, none, none, none] [] (ch_put m w σ) Q := by
  unfold m_X3_checkNode_214 at h
  exact ch_iconst _ 5 dX3_checkNode_214 rfl (ch_FT.wk (ch_wS (ch_wN (ch_wS (ch_wN (ch_wN (ch_wN (ch_wN (ch_wN ch_w0)))))))) (s_X3_checkNode_215  h hk))

def m_X3_checkNode_298 (x2 : Int32) (y0 : Int32) (σ : ch_S) : Option (Int32 × ch_S) := m_X3_checkNode_417 x2 y0 σ
theorem s_X3_checkNode_298 {g : State} {m : Nat} {w : ch_W} {x2 : Int32} {y0 : Int32} {σ : ch_S} {res : Int32 × ch_S} {Q : Outcome → ch_W → Prop} (h : m_X3_checkNode_298 x2 y0 σ = some res) (hk : (fun r => ch_eI Q (r.1, ch_put m w r.2)) res) : ch_FT g false mX3_checkNode 5 298 [some (va_rf (some m)), none, some (.int x2), none, none, none, none, none] [.int y0] (ch_put m w σ) Q := by
  unfold m_X3_checkNode_298 at h
  exact ch_istore 5 _ (ls1 := [some (va_rf (some m)), none, some (.int x2), none, none, some (.int y0), none, none]) dX3_checkNode_298 (Nat.le_of_ble_eq_true rfl) rfl (ch_goto 417 dX3_checkNode_300 rfl (ch_FT.wk (ch_wS (ch_wN (ch_wS (ch_wN (ch_wN (ch_wS (ch_wN (ch_wN ch_w0)))))))) (s_X3_checkNode_417  h hk)))

def m_X3_checkNode_277 (x2 : Int32)  (σ : ch_S) : Option (Int32 × ch_S) := m_X3_checkNode_298 x2 5 σ
theorem s_X3_checkNode_277 {g : State} {m : Nat} {w : ch_W} {x2 : Int32} {σ : ch_S} {res : Int32 × ch_S} {Q : Outcome → ch_W → Prop} (h : m_X3_checkNode_277 x2 σ = some res) (hk : (fun r => ch_eI Q (r.1, ch_put m w r.2)) res) : ch_FT g false mX3_checkNode 5 277 [some (va_rf (some m)), none, some (.int x2), none, none, none, none, none] [] (ch_put m w σ) Q := by
  unfold m_X3_checkNode_277 at h
  exact ch_iconst _ 5 dX3_checkNode_277 rfl (ch_goto 298 dX3_checkNode_278 rfl (ch_FT.wk (ch_wS (ch_wN (ch_wS (ch_wN (ch_wN (ch_wN (ch_wN (ch_wN ch_w0)))))))) (s_X3_checkNode_298  h hk)))

def m_X3_checkNode_264 (x2 : Int32) (x6 : Int32) (y0 : Int32) (σ : ch_S) : Option (Int32 × ch_S) := if y0 = 0 then (m_X3_checkNode_277 x2 σ) else (if x6 = 5 then (m_X3_checkNode_277 x2 σ) else ((ch_ma σ fX3_is x2).bind fun v1 => if v1 = 11 then (m_X3_checkNode_298 x2 1 σ) else (m_X3_checkNode_298 x2 x6 σ)))
theorem s_X3_checkNode_264 {g : State} {m : Nat} {w : ch_W} {x2 : Int32} {x6 : Int32} {y0 : Int32} {σ : ch_S} {res : Int32 × ch_S} {Q : Outcome → ch_W → Prop} (h : m_X3_checkNode_264 x2 x6 y0 σ = some res) (hk : (fun r => ch_eI Q (r.1, ch_put m w r.2)) res) : ch_FT g false mX3_checkNode 5 264 [some (va_rf (some m)), none, some (.int x2), none, none, none, some (.int x6), none] [.int y0] (ch_put m w σ) Q := by
  unfold m_X3_checkNode_264 at h
  refine ch_istore 7 _ (ls1 := [some (va_rf (some m)), none, some (.int x2), none, none, none, some (.int x6), some (.int y0)]) dX3_checkNode_264 (Nat.le_of_ble_eq_true rfl) rfl (ch_iload 7 _ dX3_checkNode_266 rfl (cp_if_eq _ (tgt := 277) dX3_checkNode_268 rfl h (fun h => ?_) (fun h => ?_)))
  · exact ch_FT.wk (ch_wS (ch_wN (ch_wS (ch_wN (ch_wN (ch_wN (ch_wN (ch_wN ch_w0)))))))) (s_X3_checkNode_277  h hk)
  · refine ch_iload 6 _ dX3_checkNode_271 rfl (ch_iconst _ 5 dX3_checkNode_273 rfl (cp_icmp_ne _ _ (tgt := 281) dX3_checkNode_274 rfl h (fun h => ?_) (fun h => ?_)))
    · refine ch_aload_n 0 (some m) dX3_checkNode_281 rfl (mp_gA 16 dX3_checkNode_282 fl_X3_25 rfl (ch_iload_n 2 _ dX3_checkNode_285 rfl (mp_iald dX3_checkNode_286 mk_16 h (fun v1 h => ?_))))
      refine ch_bipush _ 11 dX3_checkNode_287 rfl (cp_icmp_ne _ _ (tgt := 296) dX3_checkNode_289 rfl h (fun h => ?_) (fun h => ?_))
      · exact ch_iload 6 _ dX3_checkNode_296 rfl (ch_FT.wk (ch_wS (ch_wN (ch_wS (ch_wN (ch_wN (ch_wN (ch_wN (ch_wN ch_w0)))))))) (s_X3_checkNode_298  h hk))
      · exact ch_iconst _ 1 dX3_checkNode_292 rfl (ch_goto 298 dX3_checkNode_293 rfl (ch_FT.wk (ch_wS (ch_wN (ch_wS (ch_wN (ch_wN (ch_wN (ch_wN (ch_wN ch_w0)))))))) (s_X3_checkNode_298  h hk)))
    · exact ch_FT.wk (ch_wS (ch_wN (ch_wS (ch_wN (ch_wN (ch_wN (ch_wN (ch_wN ch_w0)))))))) (s_X3_checkNode_277  h hk)

def m_X3_checkNode_259 (x2 : Int32) (x6 : Int32)  (σ : ch_S) : Option (Int32 × ch_S) := m_X3_checkNode_264 x2 x6 1 σ
theorem s_X3_checkNode_259 {g : State} {m : Nat} {w : ch_W} {x2 : Int32} {x6 : Int32} {σ : ch_S} {res : Int32 × ch_S} {Q : Outcome → ch_W → Prop} (h : m_X3_checkNode_259 x2 x6 σ = some res) (hk : (fun r => ch_eI Q (r.1, ch_put m w r.2)) res) : ch_FT g false mX3_checkNode 5 259 [some (va_rf (some m)), none, some (.int x2), none, none, none, some (.int x6), none] [] (ch_put m w σ) Q := by
  unfold m_X3_checkNode_259 at h
  exact ch_iconst _ 1 dX3_checkNode_259 rfl (ch_goto 264 dX3_checkNode_260 rfl (ch_FT.wk (ch_wS (ch_wN (ch_wS (ch_wN (ch_wN (ch_wN (ch_wS (ch_wN ch_w0)))))))) (s_X3_checkNode_264  h hk)))

def m_X3_checkNode_317 (x2 : Int32) (y0 : Int32) (σ : ch_S) : Option (Int32 × ch_S) := m_X3_checkNode_417 x2 y0 σ
theorem s_X3_checkNode_317 {g : State} {m : Nat} {w : ch_W} {x2 : Int32} {y0 : Int32} {σ : ch_S} {res : Int32 × ch_S} {Q : Outcome → ch_W → Prop} (h : m_X3_checkNode_317 x2 y0 σ = some res) (hk : (fun r => ch_eI Q (r.1, ch_put m w r.2)) res) : ch_FT g false mX3_checkNode 5 317 [some (va_rf (some m)), none, some (.int x2), none, none, none, none, none] [.int y0] (ch_put m w σ) Q := by
  unfold m_X3_checkNode_317 at h
  exact ch_istore 5 _ (ls1 := [some (va_rf (some m)), none, some (.int x2), none, none, some (.int y0), none, none]) dX3_checkNode_317 (Nat.le_of_ble_eq_true rfl) rfl (ch_goto 417 dX3_checkNode_319 rfl (ch_FT.wk (ch_wS (ch_wN (ch_wS (ch_wN (ch_wN (ch_wS (ch_wN (ch_wN ch_w0)))))))) (s_X3_checkNode_417  h hk)))

def m_X3_checkNode_336 (x2 : Int32) (y0 : Int32) (σ : ch_S) : Option (Int32 × ch_S) := m_X3_checkNode_417 x2 y0 σ
theorem s_X3_checkNode_336 {g : State} {m : Nat} {w : ch_W} {x2 : Int32} {y0 : Int32} {σ : ch_S} {res : Int32 × ch_S} {Q : Outcome → ch_W → Prop} (h : m_X3_checkNode_336 x2 y0 σ = some res) (hk : (fun r => ch_eI Q (r.1, ch_put m w r.2)) res) : ch_FT g false mX3_checkNode 5 336 [some (va_rf (some m)), none, some (.int x2), none, none, none, none, none] [.int y0] (ch_put m w σ) Q := by
  unfold m_X3_checkNode_336 at h
  exact ch_istore 5 _ (ls1 := [some (va_rf (some m)), none, some (.int x2), none, none, some (.int y0), none, none]) dX3_checkNode_336 (Nat.le_of_ble_eq_true rfl) rfl (ch_goto 417 dX3_checkNode_338 rfl (ch_FT.wk (ch_wS (ch_wN (ch_wS (ch_wN (ch_wN (ch_wS (ch_wN (ch_wN ch_w0)))))))) (s_X3_checkNode_417  h hk)))

def m_X3_checkNode_356 (x2 : Int32) (y0 : Int32) (σ : ch_S) : Option (Int32 × ch_S) := m_X3_checkNode_417 x2 y0 σ
theorem s_X3_checkNode_356 {g : State} {m : Nat} {w : ch_W} {x2 : Int32} {y0 : Int32} {σ : ch_S} {res : Int32 × ch_S} {Q : Outcome → ch_W → Prop} (h : m_X3_checkNode_356 x2 y0 σ = some res) (hk : (fun r => ch_eI Q (r.1, ch_put m w r.2)) res) : ch_FT g false mX3_checkNode 5 356 [some (va_rf (some m)), none, some (.int x2), none, none, none, none, none] [.int y0] (ch_put m w σ) Q := by
  unfold m_X3_checkNode_356 at h
  exact ch_istore 5 _ (ls1 := [some (va_rf (some m)), none, some (.int x2), none, none, some (.int y0), none, none]) dX3_checkNode_356 (Nat.le_of_ble_eq_true rfl) rfl (ch_goto 417 dX3_checkNode_358 rfl (ch_FT.wk (ch_wS (ch_wN (ch_wS (ch_wN (ch_wN (ch_wS (ch_wN (ch_wN ch_w0)))))))) (s_X3_checkNode_417  h hk)))

def m_X3_checkNode_387 (x2 : Int32) (y0 : Int32) (σ : ch_S) : Option (Int32 × ch_S) := m_X3_checkNode_417 x2 y0 σ
theorem s_X3_checkNode_387 {g : State} {m : Nat} {w : ch_W} {x2 : Int32} {y0 : Int32} {σ : ch_S} {res : Int32 × ch_S} {Q : Outcome → ch_W → Prop} (h : m_X3_checkNode_387 x2 y0 σ = some res) (hk : (fun r => ch_eI Q (r.1, ch_put m w r.2)) res) : ch_FT g false mX3_checkNode 5 387 [some (va_rf (some m)), none, some (.int x2), none, none, none, none, none] [.int y0] (ch_put m w σ) Q := by
  unfold m_X3_checkNode_387 at h
  exact ch_istore 5 _ (ls1 := [some (va_rf (some m)), none, some (.int x2), none, none, some (.int y0), none, none]) dX3_checkNode_387 (Nat.le_of_ble_eq_true rfl) rfl (ch_goto 417 dX3_checkNode_389 rfl (ch_FT.wk (ch_wS (ch_wN (ch_wS (ch_wN (ch_wN (ch_wS (ch_wN (ch_wN ch_w0)))))))) (s_X3_checkNode_417  h hk)))

def m_X3_checkNode_386 (x2 : Int32)  (σ : ch_S) : Option (Int32 × ch_S) := m_X3_checkNode_387 x2 5 σ
theorem s_X3_checkNode_386 {g : State} {m : Nat} {w : ch_W} {x2 : Int32} {σ : ch_S} {res : Int32 × ch_S} {Q : Outcome → ch_W → Prop} (h : m_X3_checkNode_386 x2 σ = some res) (hk : (fun r => ch_eI Q (r.1, ch_put m w r.2)) res) : ch_FT g false mX3_checkNode 5 386 [some (va_rf (some m)), none, some (.int x2), none, none, none, none, none] [] (ch_put m w σ) Q := by
  unfold m_X3_checkNode_386 at h
  exact ch_iconst _ 5 dX3_checkNode_386 rfl (ch_FT.wk (ch_wS (ch_wN (ch_wS (ch_wN (ch_wN (ch_wN (ch_wN (ch_wN ch_w0)))))))) (s_X3_checkNode_387  h hk))

def m_X3_checkNode (x1 : Int32) (x2 : Int32) (σ : ch_S) : Option (Int32 × ch_S) := (ch_ma σ fX3_one x2).bind fun v1 => (ch_ma σ fX3_two x2).bind fun v2 => (ch_ma σ fX3_is x2).bind fun v3 => if v3 = 0 then (m_X3_checkNode_417 x2 0 σ) else (if v3 = 1 then (m_X3_checkNode_417 x2 4 σ) else (if v3 = 2 then (m_X3_checkNode_417 x2 (10 + (σ.1 fX3_here)) σ) else (if v3 = 3 then (m_X3_checkNode_417 x2 0 σ) else (if v3 = 4 then ((m_X3_named x1 x2 σ).bind fun p9 => m_X3_checkNode_417 x2 p9.1 p9.2) else (if v3 = 5 then ((m_X3_meantClass x2 σ).bind fun p11 => m_X3_checkNode_417 x2 p11.1 p11.2) else (if v3 = 6 then ((m_X3_field x2 v1 σ).bind fun p13 => m_X3_checkNode_417 x2 p13.1 p13.2) else (if v3 = 7 then ((ch_ma σ fX3_typeOf v1).bind fun v15 => if v15 = 2 then ((ch_ma σ fX3_typeOf v2).bind fun v16 => if v16 = 0 then (m_X3_checkNode_215 x2 0 σ) else (m_X3_checkNode_214 x2 σ)) else (m_X3_checkNode_214 x2 σ)) else (if v3 = 8 then ((m_X3_call x2 v1 σ).bind fun p17 => m_X3_checkNode_417 x2 p17.1 p17.2) else (if v3 = 9 then ((m_X3_call x2 v1 σ).bind fun p19 => m_X3_checkNode_417 x2 p19.1 p19.2) else (if v3 = 10 then ((m_X3_meantClass x2 σ).bind fun p21 => (ch_ma p21.2 fX3_typeOf v1).bind fun v23 => if v23 < 10 then ((ch_ma p21.2 fX3_typeOf v1).bind fun v24 => if v24 = 4 then (m_X3_checkNode_259 x2 p21.1 p21.2) else (m_X3_checkNode_264 x2 p21.1 0 p21.2)) else (m_X3_checkNode_259 x2 p21.1 p21.2)) else (if v3 = 11 then ((m_X3_meantClass x2 σ).bind fun p25 => (ch_ma p25.2 fX3_typeOf v1).bind fun v27 => if v27 < 10 then ((ch_ma p25.2 fX3_typeOf v1).bind fun v28 => if v28 = 4 then (m_X3_checkNode_259 x2 p25.1 p25.2) else (m_X3_checkNode_264 x2 p25.1 0 p25.2)) else (m_X3_checkNode_259 x2 p25.1 p25.2)) else (if v3 = 12 then ((ch_ma σ fX3_typeOf v1).bind fun v29 => if v29 = 0 then (m_X3_checkNode_317 x2 2 σ) else (m_X3_checkNode_317 x2 5 σ)) else (if v3 = 13 then ((ch_ma σ fX3_typeOf v1).bind fun v30 => if v30 = 0 then (m_X3_checkNode_336 x2 0 σ) else (m_X3_checkNode_336 x2 5 σ)) else (if v3 = 14 then ((ch_ma σ fX3_typeOf v1).bind fun v31 => if v31 = 1 then (m_X3_checkNode_356 x2 1 σ) else (m_X3_checkNode_356 x2 5 σ)) else (if v3 = 15 then ((ch_ma σ fX3_of x2).bind fun v32 => (ch_ma σ fX3_typeOf v1).bind fun v33 => (ch_ma σ fX3_typeOf v2).bind fun v34 => (m_X3_compared v32 v33 v34 σ).bind fun v35 => m_X3_checkNode_417 x2 v35 σ) else (if v3 = 16 then ((ch_ma σ fX3_typeOf v1).bind fun v37 => if v37 = 1 then ((ch_ma σ fX3_typeOf v2).bind fun v38 => if v38 = 1 then (m_X3_checkNode_387 x2 1 σ) else (m_X3_checkNode_386 x2 σ)) else (m_X3_checkNode_386 x2 σ)) else (if v3 = 17 then ((ch_ma σ fX3_typeOf v1).bind fun v39 => if v39 = 1 then ((ch_ma σ fX3_typeOf v2).bind fun v40 => if v40 = 1 then (m_X3_checkNode_387 x2 1 σ) else (m_X3_checkNode_386 x2 σ)) else (m_X3_checkNode_386 x2 σ)) else (if v3 = 18 then ((ch_ma σ fX3_of x2).bind fun v41 => (ch_ma σ fX3_typeOf v1).bind fun v42 => (ch_ma σ fX3_typeOf v2).bind fun v43 => (m_X3_compared v41 v42 v43 σ).bind fun v44 => m_X3_checkNode_417 x2 v44 σ) else (if v3 = 19 then ((ch_ma σ fX3_of x2).bind fun v46 => (ch_ma σ fX3_typeOf v1).bind fun v47 => (ch_ma σ fX3_typeOf v2).bind fun v48 => (m_X3_compared v46 v47 v48 σ).bind fun v49 => m_X3_checkNode_417 x2 v49 σ) else (if v3 = 20 then ((ch_ma σ fX3_of x2).bind fun v51 => (ch_ma σ fX3_typeOf v1).bind fun v52 => (ch_ma σ fX3_typeOf v2).bind fun v53 => (m_X3_compared v51 v52 v53 σ).bind fun v54 => m_X3_checkNode_417 x2 v54 σ) else (if v3 = 21 then (m_X3_checkNode_417 x2 1 σ) else ((ch_ma σ fX3_of x2).bind fun v4 => (ch_ma σ fX3_typeOf v1).bind fun v5 => (ch_ma σ fX3_typeOf v2).bind fun v6 => (m_X3_compared v4 v5 v6 σ).bind fun v7 => m_X3_checkNode_417 x2 v7 σ))))))))))))))))))))))
theorem s_X3_checkNode {g : State} {m : Nat} {w : ch_W} {x1 : Int32} {x2 : Int32} {σ : ch_S} {res : Int32 × ch_S} {Q : Outcome → ch_W → Prop} (h : m_X3_checkNode x1 x2 σ = some res) (hk : (fun r => ch_eI Q (r.1, ch_put m w r.2)) res) : ch_CT g false yX3_checkNode 5 [.ref m, .int x1, .int x2] (ch_put m w σ) Q := by
  unfold m_X3_checkNode at h
  refine ch_ctL mX3_checkNode (ls := [some (va_rf (some m)), some (.int x1), some (.int x2), none, none, none, none, none]) q2099 rfl (ch_lyr (r := some m) (ch_lyi (ch_lyi ch_ly0))) (Nat.le_of_ble_eq_true rfl) rfl ?_
  refine ch_aload_n 0 (some m) dX3_checkNode_0 rfl (mp_gA 17 dX3_checkNode_1 fl_X3_28 rfl (ch_iload_n 2 _ dX3_checkNode_4 rfl (mp_iald dX3_checkNode_5 mk_17 h (fun v1 h => ?_))))
  refine ch_istore_n 3 _ (ls1 := [some (va_rf (some m)), some (.int x1), some (.int x2), some (.int v1), none, none, none, none]) dX3_checkNode_6 (Nat.le_of_ble_eq_true rfl) rfl (ch_aload_n 0 (some m) dX3_checkNode_7 rfl (mp_gA 18 dX3_checkNode_8 fl_X3_31 rfl (ch_iload_n 2 _ dX3_checkNode_11 rfl (mp_iald dX3_checkNode_12 mk_18 h (fun v2 h => ?_)))))
  refine ch_istore 4 _ (ls1 := [some (va_rf (some m)), some (.int x1), some (.int x2), some (.int v1), some (.int v2), none, none, none]) dX3_checkNode_13 (Nat.le_of_ble_eq_true rfl) rfl (ch_iconst _ 5 dX3_checkNode_15 rfl (ch_istore 5 _ (ls1 := [some (va_rf (some m)), some (.int x1), some (.int x2), some (.int v1), some (.int v2), some (.int 5), none, none]) dX3_checkNode_16 (Nat.le_of_ble_eq_true rfl) rfl (ch_aload_n 0 (some m) dX3_checkNode_18 rfl (mp_gA 16 dX3_checkNode_19 fl_X3_25 rfl (ch_iload_n 2 _ dX3_checkNode_22 rfl (mp_iald dX3_checkNode_23 mk_16 h (fun v3 h => ?_)))))))
  by_cases e0 : v3 = 0
  · have h := ch_ifT e0 h
    refine ch_tableIn _ (off := 104) (tgt := 128) dX3_checkNode_24 (by rw [e0]; decide) (by rw [e0]; decide) (by rw [e0]; rfl) rfl ?_
    exact ch_iconst _ 0 dX3_checkNode_128 rfl (ch_istore 5 _ (ls1 := [some (va_rf (some m)), some (.int x1), some (.int x2), some (.int v1), some (.int v2), some (.int 0), none, none]) dX3_checkNode_129 (Nat.le_of_ble_eq_true rfl) rfl (ch_goto 417 dX3_checkNode_131 rfl (ch_FT.wk (ch_wS (ch_wN (ch_wS (ch_wN (ch_wN (ch_wS (ch_wN (ch_wN ch_w0)))))))) (s_X3_checkNode_417  h hk))))
  replace h := ch_ifF e0 h
  by_cases e1 : v3 = 1
  · have h := ch_ifT e1 h
    refine ch_tableIn _ (off := 116) (tgt := 140) dX3_checkNode_24 (by rw [e1]; decide) (by rw [e1]; decide) (by rw [e1]; rfl) rfl ?_
    exact ch_iconst _ 4 dX3_checkNode_140 rfl (ch_istore 5 _ (ls1 := [some (va_rf (some m)), some (.int x1), some (.int x2), some (.int v1), some (.int v2), some (.int 4), none, none]) dX3_checkNode_141 (Nat.le_of_ble_eq_true rfl) rfl (ch_goto 417 dX3_checkNode_143 rfl (ch_FT.wk (ch_wS (ch_wN (ch_wS (ch_wN (ch_wN (ch_wS (ch_wN (ch_wN ch_w0)))))))) (s_X3_checkNode_417  h hk))))
  replace h := ch_ifF e1 h
  by_cases e2 : v3 = 2
  · have h := ch_ifT e2 h
    refine ch_tableIn _ (off := 122) (tgt := 146) dX3_checkNode_24 (by rw [e2]; decide) (by rw [e2]; decide) (by rw [e2]; rfl) rfl ?_
    exact ch_bipush _ 10 dX3_checkNode_146 rfl (ch_aload_n 0 (some m) dX3_checkNode_148 rfl (mp_gI 60 dX3_checkNode_149 fl_X3_470 rfl (ch_iadd _ _ dX3_checkNode_152 (ch_istore 5 _ (ls1 := [some (va_rf (some m)), some (.int x1), some (.int x2), some (.int v1), some (.int v2), some (.int (10 + (σ.1 fX3_here))), none, none]) dX3_checkNode_153 (Nat.le_of_ble_eq_true rfl) rfl (ch_goto 417 dX3_checkNode_155 rfl (ch_FT.wk (ch_wS (ch_wN (ch_wS (ch_wN (ch_wN (ch_wS (ch_wN (ch_wN ch_w0)))))))) (s_X3_checkNode_417  h hk)))))))
  replace h := ch_ifF e2 h
  by_cases e3 : v3 = 3
  · have h := ch_ifT e3 h
    refine ch_tableIn _ (off := 104) (tgt := 128) dX3_checkNode_24 (by rw [e3]; decide) (by rw [e3]; decide) (by rw [e3]; rfl) rfl ?_
    exact ch_iconst _ 0 dX3_checkNode_128 rfl (ch_istore 5 _ (ls1 := [some (va_rf (some m)), some (.int x1), some (.int x2), some (.int v1), some (.int v2), some (.int 0), none, none]) dX3_checkNode_129 (Nat.le_of_ble_eq_true rfl) rfl (ch_goto 417 dX3_checkNode_131 rfl (ch_FT.wk (ch_wS (ch_wN (ch_wS (ch_wN (ch_wN (ch_wS (ch_wN (ch_wN ch_w0)))))))) (s_X3_checkNode_417  h hk))))
  replace h := ch_ifF e3 h
  by_cases e4 : v3 = 4
  · have h := ch_ifT e4 h
    refine ch_tableIn _ (off := 134) (tgt := 158) dX3_checkNode_24 (by rw [e4]; decide) (by rw [e4]; decide) (by rw [e4]; rfl) rfl ?_
    obtain ⟨p9, hp10, h⟩ := ch_bd h
    refine ch_aload_n 0 (some m) dX3_checkNode_158 rfl (ch_iload_n 1 _ dX3_checkNode_159 rfl (ch_iload_n 2 _ dX3_checkNode_160 rfl (ch_iv yX3_named prog_14_method_73_code 5 (some .int) (ci := 3) (q := (RX3, TX3, 109)) (b := m) (d' := 3) (av := [.int x1, .int x2]) (rest := []) rfl dX3_checkNode_161 q2100 q2102 rfl qs154 q2103 can_X3_named (Nat.le_of_ble_eq_true rfl) (Nat.le_of_ble_eq_true rfl) ch_put_tag (cp_kI (v := p9.1) (w1 := ch_put m w p9.2) (fun Q' hq => s_X3_named hp10 hq) ?_))))
    exact ch_istore 5 _ (ls1 := [some (va_rf (some m)), some (.int x1), some (.int x2), some (.int v1), some (.int v2), some (.int p9.1), none, none]) dX3_checkNode_164 (Nat.le_of_ble_eq_true rfl) rfl (ch_goto 417 dX3_checkNode_166 rfl (ch_FT.wk (ch_wS (ch_wN (ch_wS (ch_wN (ch_wN (ch_wS (ch_wN (ch_wN ch_w0)))))))) (s_X3_checkNode_417  h hk)))
  replace h := ch_ifF e4 h
  by_cases e5 : v3 = 5
  · have h := ch_ifT e5 h
    refine ch_tableIn _ (off := 145) (tgt := 169) dX3_checkNode_24 (by rw [e5]; decide) (by rw [e5]; decide) (by rw [e5]; rfl) rfl ?_
    obtain ⟨p11, hp12, h⟩ := ch_bd h
    refine ch_aload_n 0 (some m) dX3_checkNode_169 rfl (ch_iload_n 2 _ dX3_checkNode_170 rfl (ch_iv yX3_meantClass prog_14_method_70_code 3 (some .int) (ci := 3) (q := (RX3, TX3, 109)) (b := m) (d' := 3) (av := [.int x2]) (rest := []) rfl dX3_checkNode_171 q2108 q2110 rfl qs156 q2111 can_X3_meantClass (Nat.le_of_ble_eq_true rfl) (Nat.le_of_ble_eq_true rfl) ch_put_tag (cp_kI (v := p11.1) (w1 := ch_put m w p11.2) (fun Q' hq => s_X3_meantClass hp12 hq) ?_)))
    exact ch_istore 5 _ (ls1 := [some (va_rf (some m)), some (.int x1), some (.int x2), some (.int v1), some (.int v2), some (.int p11.1), none, none]) dX3_checkNode_174 (Nat.le_of_ble_eq_true rfl) rfl (ch_goto 417 dX3_checkNode_176 rfl (ch_FT.wk (ch_wS (ch_wN (ch_wS (ch_wN (ch_wN (ch_wS (ch_wN (ch_wN ch_w0)))))))) (s_X3_checkNode_417  h hk)))
  replace h := ch_ifF e5 h
  by_cases e6 : v3 = 6
  · have h := ch_ifT e6 h
    refine ch_tableIn _ (off := 155) (tgt := 179) dX3_checkNode_24 (by rw [e6]; decide) (by rw [e6]; decide) (by rw [e6]; rfl) rfl ?_
    obtain ⟨p13, hp14, h⟩ := ch_bd h
    refine ch_aload_n 0 (some m) dX3_checkNode_179 rfl (ch_iload_n 2 _ dX3_checkNode_180 rfl (ch_iload_n 3 _ dX3_checkNode_181 rfl (ch_iv yX3_field prog_14_method_74_code 5 (some .int) (ci := 3) (q := (RX3, TX3, 109)) (b := m) (d' := 3) (av := [.int x2, .int v1]) (rest := []) rfl dX3_checkNode_182 q2112 q2114 rfl qs157 q2115 can_X3_field (Nat.le_of_ble_eq_true rfl) (Nat.le_of_ble_eq_true rfl) ch_put_tag (cp_kI (v := p13.1) (w1 := ch_put m w p13.2) (fun Q' hq => s_X3_field hp14 hq) ?_))))
    exact ch_istore 5 _ (ls1 := [some (va_rf (some m)), some (.int x1), some (.int x2), some (.int v1), some (.int v2), some (.int p13.1), none, none]) dX3_checkNode_185 (Nat.le_of_ble_eq_true rfl) rfl (ch_goto 417 dX3_checkNode_187 rfl (ch_FT.wk (ch_wS (ch_wN (ch_wS (ch_wN (ch_wN (ch_wS (ch_wN (ch_wN ch_w0)))))))) (s_X3_checkNode_417  h hk)))
  replace h := ch_ifF e6 h
  by_cases e7 : v3 = 7
  · have h := ch_ifT e7 h
    refine ch_tableIn _ (off := 166) (tgt := 190) dX3_checkNode_24 (by rw [e7]; decide) (by rw [e7]; decide) (by rw [e7]; rfl) rfl ?_
    refine ch_aload_n 0 (some m) dX3_checkNode_190 rfl (mp_gA 20 dX3_checkNode_191 fl_X3_37 rfl (ch_iload_n 3 _ dX3_checkNode_194 rfl (mp_iald dX3_checkNode_195 mk_20 h (fun v15 h => ?_))))
    refine ch_iconst _ 2 dX3_checkNode_196 rfl (cp_icmp_ne _ _ (tgt := 214) dX3_checkNode_197 rfl h (fun h => ?_) (fun h => ?_))
    · exact ch_FT.wk (ch_wS (ch_wN (ch_wS (ch_wN (ch_wN (ch_wN (ch_wN (ch_wN ch_w0)))))))) (s_X3_checkNode_214  h hk)
    · refine ch_aload_n 0 (some m) dX3_checkNode_200 rfl (mp_gA 20 dX3_checkNode_201 fl_X3_37 rfl (ch_iload 4 _ dX3_checkNode_204 rfl (mp_iald dX3_checkNode_206 mk_20 h (fun v16 h => ?_))))
      refine cp_if_ne _ (tgt := 214) dX3_checkNode_207 rfl h (fun h => ?_) (fun h => ?_)
      · exact ch_FT.wk (ch_wS (ch_wN (ch_wS (ch_wN (ch_wN (ch_wN (ch_wN (ch_wN ch_w0)))))))) (s_X3_checkNode_214  h hk)
      · exact ch_iconst _ 0 dX3_checkNode_210 rfl (ch_goto 215 dX3_checkNode_211 rfl (ch_FT.wk (ch_wS (ch_wN (ch_wS (ch_wN (ch_wN (ch_wN (ch_wN (ch_wN ch_w0)))))))) (s_X3_checkNode_215  h hk)))
  replace h := ch_ifF e7 h
  by_cases e8 : v3 = 8
  · have h := ch_ifT e8 h
    refine ch_tableIn _ (off := 196) (tgt := 220) dX3_checkNode_24 (by rw [e8]; decide) (by rw [e8]; decide) (by rw [e8]; rfl) rfl ?_
    obtain ⟨p17, hp18, h⟩ := ch_bd h
    refine ch_aload_n 0 (some m) dX3_checkNode_220 rfl (ch_iload_n 2 _ dX3_checkNode_221 rfl (ch_iload_n 3 _ dX3_checkNode_222 rfl (ch_iv yX3_call prog_14_method_75_code 8 (some .int) (ci := 3) (q := (RX3, TX3, 109)) (b := m) (d' := 4) (av := [.int x2, .int v1]) (rest := []) rfl dX3_checkNode_223 q2116 q2118 rfl qs158 q2119 can_X3_call (Nat.le_of_ble_eq_true rfl) (Nat.le_of_ble_eq_true rfl) ch_put_tag (cp_kI (v := p17.1) (w1 := ch_put m w p17.2) (fun Q' hq => s_X3_call hp18 hq) ?_))))
    exact ch_istore 5 _ (ls1 := [some (va_rf (some m)), some (.int x1), some (.int x2), some (.int v1), some (.int v2), some (.int p17.1), none, none]) dX3_checkNode_226 (Nat.le_of_ble_eq_true rfl) rfl (ch_goto 417 dX3_checkNode_228 rfl (ch_FT.wk (ch_wS (ch_wN (ch_wS (ch_wN (ch_wN (ch_wS (ch_wN (ch_wN ch_w0)))))))) (s_X3_checkNode_417  h hk)))
  replace h := ch_ifF e8 h
  by_cases e9 : v3 = 9
  · have h := ch_ifT e9 h
    refine ch_tableIn _ (off := 196) (tgt := 220) dX3_checkNode_24 (by rw [e9]; decide) (by rw [e9]; decide) (by rw [e9]; rfl) rfl ?_
    obtain ⟨p19, hp20, h⟩ := ch_bd h
    refine ch_aload_n 0 (some m) dX3_checkNode_220 rfl (ch_iload_n 2 _ dX3_checkNode_221 rfl (ch_iload_n 3 _ dX3_checkNode_222 rfl (ch_iv yX3_call prog_14_method_75_code 8 (some .int) (ci := 3) (q := (RX3, TX3, 109)) (b := m) (d' := 4) (av := [.int x2, .int v1]) (rest := []) rfl dX3_checkNode_223 q2116 q2118 rfl qs158 q2119 can_X3_call (Nat.le_of_ble_eq_true rfl) (Nat.le_of_ble_eq_true rfl) ch_put_tag (cp_kI (v := p19.1) (w1 := ch_put m w p19.2) (fun Q' hq => s_X3_call hp20 hq) ?_))))
    exact ch_istore 5 _ (ls1 := [some (va_rf (some m)), some (.int x1), some (.int x2), some (.int v1), some (.int v2), some (.int p19.1), none, none]) dX3_checkNode_226 (Nat.le_of_ble_eq_true rfl) rfl (ch_goto 417 dX3_checkNode_228 rfl (ch_FT.wk (ch_wS (ch_wN (ch_wS (ch_wN (ch_wN (ch_wS (ch_wN (ch_wN ch_w0)))))))) (s_X3_checkNode_417  h hk)))
  replace h := ch_ifF e9 h
  by_cases e10 : v3 = 10
  · have h := ch_ifT e10 h
    refine ch_tableIn _ (off := 207) (tgt := 231) dX3_checkNode_24 (by rw [e10]; decide) (by rw [e10]; decide) (by rw [e10]; rfl) rfl ?_
    obtain ⟨p21, hp22, h⟩ := ch_bd h
    refine ch_aload_n 0 (some m) dX3_checkNode_231 rfl (ch_iload_n 2 _ dX3_checkNode_232 rfl (ch_iv yX3_meantClass prog_14_method_70_code 3 (some .int) (ci := 3) (q := (RX3, TX3, 109)) (b := m) (d' := 3) (av := [.int x2]) (rest := []) rfl dX3_checkNode_233 q2108 q2110 rfl qs156 q2111 can_X3_meantClass (Nat.le_of_ble_eq_true rfl) (Nat.le_of_ble_eq_true rfl) ch_put_tag (cp_kI (v := p21.1) (w1 := ch_put m w p21.2) (fun Q' hq => s_X3_meantClass hp22 hq) ?_)))
    refine ch_istore 6 _ (ls1 := [some (va_rf (some m)), some (.int x1), some (.int x2), some (.int v1), some (.int v2), some (.int 5), some (.int p21.1), none]) dX3_checkNode_236 (Nat.le_of_ble_eq_true rfl) rfl (ch_aload_n 0 (some m) dX3_checkNode_238 rfl (mp_gA 20 dX3_checkNode_239 fl_X3_37 rfl (ch_iload_n 3 _ dX3_checkNode_242 rfl (mp_iald dX3_checkNode_243 mk_20 h (fun v23 h => ?_)))))
    refine ch_bipush _ 10 dX3_checkNode_244 rfl (cp_icmp_ge _ _ (tgt := 259) dX3_checkNode_246 rfl h (fun h => ?_) (fun h => ?_))
    · exact ch_FT.wk (ch_wS (ch_wN (ch_wS (ch_wN (ch_wN (ch_wN (ch_wS (ch_wN ch_w0)))))))) (s_X3_checkNode_259  h hk)
    · refine ch_aload_n 0 (some m) dX3_checkNode_249 rfl (mp_gA 20 dX3_checkNode_250 fl_X3_37 rfl (ch_iload_n 3 _ dX3_checkNode_253 rfl (mp_iald dX3_checkNode_254 mk_20 h (fun v24 h => ?_))))
      refine ch_iconst _ 4 dX3_checkNode_255 rfl (cp_icmp_ne _ _ (tgt := 263) dX3_checkNode_256 rfl h (fun h => ?_) (fun h => ?_))
      · exact ch_iconst _ 0 dX3_checkNode_263 rfl (ch_FT.wk (ch_wS (ch_wN (ch_wS (ch_wN (ch_wN (ch_wN (ch_wS (ch_wN ch_w0)))))))) (s_X3_checkNode_264  h hk))
      · exact ch_FT.wk (ch_wS (ch_wN (ch_wS (ch_wN (ch_wN (ch_wN (ch_wS (ch_wN ch_w0)))))))) (s_X3_checkNode_259  h hk)
  replace h := ch_ifF e10 h
  by_cases e11 : v3 = 11
  · have h := ch_ifT e11 h
    refine ch_tableIn _ (off := 207) (tgt := 231) dX3_checkNode_24 (by rw [e11]; decide) (by rw [e11]; decide) (by rw [e11]; rfl) rfl ?_
    obtain ⟨p25, hp26, h⟩ := ch_bd h
    refine ch_aload_n 0 (some m) dX3_checkNode_231 rfl (ch_iload_n 2 _ dX3_checkNode_232 rfl (ch_iv yX3_meantClass prog_14_method_70_code 3 (some .int) (ci := 3) (q := (RX3, TX3, 109)) (b := m) (d' := 3) (av := [.int x2]) (rest := []) rfl dX3_checkNode_233 q2108 q2110 rfl qs156 q2111 can_X3_meantClass (Nat.le_of_ble_eq_true rfl) (Nat.le_of_ble_eq_true rfl) ch_put_tag (cp_kI (v := p25.1) (w1 := ch_put m w p25.2) (fun Q' hq => s_X3_meantClass hp26 hq) ?_)))
    refine ch_istore 6 _ (ls1 := [some (va_rf (some m)), some (.int x1), some (.int x2), some (.int v1), some (.int v2), some (.int 5), some (.int p25.1), none]) dX3_checkNode_236 (Nat.le_of_ble_eq_true rfl) rfl (ch_aload_n 0 (some m) dX3_checkNode_238 rfl (mp_gA 20 dX3_checkNode_239 fl_X3_37 rfl (ch_iload_n 3 _ dX3_checkNode_242 rfl (mp_iald dX3_checkNode_243 mk_20 h (fun v27 h => ?_)))))
    refine ch_bipush _ 10 dX3_checkNode_244 rfl (cp_icmp_ge _ _ (tgt := 259) dX3_checkNode_246 rfl h (fun h => ?_) (fun h => ?_))
    · exact ch_FT.wk (ch_wS (ch_wN (ch_wS (ch_wN (ch_wN (ch_wN (ch_wS (ch_wN ch_w0)))))))) (s_X3_checkNode_259  h hk)
    · refine ch_aload_n 0 (some m) dX3_checkNode_249 rfl (mp_gA 20 dX3_checkNode_250 fl_X3_37 rfl (ch_iload_n 3 _ dX3_checkNode_253 rfl (mp_iald dX3_checkNode_254 mk_20 h (fun v28 h => ?_))))
      refine ch_iconst _ 4 dX3_checkNode_255 rfl (cp_icmp_ne _ _ (tgt := 263) dX3_checkNode_256 rfl h (fun h => ?_) (fun h => ?_))
      · exact ch_iconst _ 0 dX3_checkNode_263 rfl (ch_FT.wk (ch_wS (ch_wN (ch_wS (ch_wN (ch_wN (ch_wN (ch_wS (ch_wN ch_w0)))))))) (s_X3_checkNode_264  h hk))
      · exact ch_FT.wk (ch_wS (ch_wN (ch_wS (ch_wN (ch_wN (ch_wN (ch_wS (ch_wN ch_w0)))))))) (s_X3_checkNode_259  h hk)
  replace h := ch_ifF e11 h
  by_cases e12 : v3 = 12
  · have h := ch_ifT e12 h
    refine ch_tableIn _ (off := 279) (tgt := 303) dX3_checkNode_24 (by rw [e12]; decide) (by rw [e12]; decide) (by rw [e12]; rfl) rfl ?_
    refine ch_aload_n 0 (some m) dX3_checkNode_303 rfl (mp_gA 20 dX3_checkNode_304 fl_X3_37 rfl (ch_iload_n 3 _ dX3_checkNode_307 rfl (mp_iald dX3_checkNode_308 mk_20 h (fun v29 h => ?_))))
    refine cp_if_ne _ (tgt := 316) dX3_checkNode_309 rfl h (fun h => ?_) (fun h => ?_)
    · exact ch_iconst _ 5 dX3_checkNode_316 rfl (ch_FT.wk (ch_wS (ch_wN (ch_wS (ch_wN (ch_wN (ch_wN (ch_wN (ch_wN ch_w0)))))))) (s_X3_checkNode_317  h hk))
    · exact ch_iconst _ 2 dX3_checkNode_312 rfl (ch_goto 317 dX3_checkNode_313 rfl (ch_FT.wk (ch_wS (ch_wN (ch_wS (ch_wN (ch_wN (ch_wN (ch_wN (ch_wN ch_w0)))))))) (s_X3_checkNode_317  h hk)))
  replace h := ch_ifF e12 h
  by_cases e13 : v3 = 13
  · have h := ch_ifT e13 h
    refine ch_tableIn _ (off := 298) (tgt := 322) dX3_checkNode_24 (by rw [e13]; decide) (by rw [e13]; decide) (by rw [e13]; rfl) rfl ?_
    refine ch_aload_n 0 (some m) dX3_checkNode_322 rfl (mp_gA 20 dX3_checkNode_323 fl_X3_37 rfl (ch_iload_n 3 _ dX3_checkNode_326 rfl (mp_iald dX3_checkNode_327 mk_20 h (fun v30 h => ?_))))
    refine cp_if_ne _ (tgt := 335) dX3_checkNode_328 rfl h (fun h => ?_) (fun h => ?_)
    · exact ch_iconst _ 5 dX3_checkNode_335 rfl (ch_FT.wk (ch_wS (ch_wN (ch_wS (ch_wN (ch_wN (ch_wN (ch_wN (ch_wN ch_w0)))))))) (s_X3_checkNode_336  h hk))
    · exact ch_iconst _ 0 dX3_checkNode_331 rfl (ch_goto 336 dX3_checkNode_332 rfl (ch_FT.wk (ch_wS (ch_wN (ch_wS (ch_wN (ch_wN (ch_wN (ch_wN (ch_wN ch_w0)))))))) (s_X3_checkNode_336  h hk)))
  replace h := ch_ifF e13 h
  by_cases e14 : v3 = 14
  · have h := ch_ifT e14 h
    refine ch_tableIn _ (off := 317) (tgt := 341) dX3_checkNode_24 (by rw [e14]; decide) (by rw [e14]; decide) (by rw [e14]; rfl) rfl ?_
    refine ch_aload_n 0 (some m) dX3_checkNode_341 rfl (mp_gA 20 dX3_checkNode_342 fl_X3_37 rfl (ch_iload_n 3 _ dX3_checkNode_345 rfl (mp_iald dX3_checkNode_346 mk_20 h (fun v31 h => ?_))))
    refine ch_iconst _ 1 dX3_checkNode_347 rfl (cp_icmp_ne _ _ (tgt := 355) dX3_checkNode_348 rfl h (fun h => ?_) (fun h => ?_))
    · exact ch_iconst _ 5 dX3_checkNode_355 rfl (ch_FT.wk (ch_wS (ch_wN (ch_wS (ch_wN (ch_wN (ch_wN (ch_wN (ch_wN ch_w0)))))))) (s_X3_checkNode_356  h hk))
    · exact ch_iconst _ 1 dX3_checkNode_351 rfl (ch_goto 356 dX3_checkNode_352 rfl (ch_FT.wk (ch_wS (ch_wN (ch_wS (ch_wN (ch_wN (ch_wN (ch_wN (ch_wN ch_w0)))))))) (s_X3_checkNode_356  h hk)))
  replace h := ch_ifF e14 h
  by_cases e15 : v3 = 15
  · have h := ch_ifT e15 h
    refine ch_tableIn _ (off := 368) (tgt := 392) dX3_checkNode_24 (by rw [e15]; decide) (by rw [e15]; decide) (by rw [e15]; rfl) rfl ?_
    refine ch_aload_n 0 (some m) dX3_checkNode_392 rfl (ch_aload_n 0 (some m) dX3_checkNode_393 rfl (mp_gA 19 dX3_checkNode_394 fl_X3_34 rfl (ch_iload_n 2 _ dX3_checkNode_397 rfl (mp_iald dX3_checkNode_398 mk_19 h (fun v32 h => ?_)))))
    refine ch_aload_n 0 (some m) dX3_checkNode_399 rfl (mp_gA 20 dX3_checkNode_400 fl_X3_37 rfl (ch_iload_n 3 _ dX3_checkNode_403 rfl (mp_iald dX3_checkNode_404 mk_20 h (fun v33 h => ?_))))
    refine ch_aload_n 0 (some m) dX3_checkNode_405 rfl (mp_gA 20 dX3_checkNode_406 fl_X3_37 rfl (ch_iload 4 _ dX3_checkNode_409 rfl (mp_iald dX3_checkNode_411 mk_20 h (fun v34 h => ?_))))
    obtain ⟨v35, hp36, h⟩ := ch_bd h
    refine ch_iv yX3_compared prog_14_method_72_code 5 (some .int) (ci := 3) (q := (RX3, TX3, 109)) (b := m) (d' := 4) (av := [.int v32, .int v33, .int v34]) (rest := []) rfl dX3_checkNode_412 q2128 q2130 rfl qs161 q2131 can_X3_compared (Nat.le_of_ble_eq_true rfl) (Nat.le_of_ble_eq_true rfl) ch_put_tag (cp_kI (v := v35) (w1 := ch_put m w σ) (fun Q' hq => s_X3_compared hp36 hq) ?_)
    exact ch_istore 5 _ (ls1 := [some (va_rf (some m)), some (.int x1), some (.int x2), some (.int v1), some (.int v2), some (.int v35), none, none]) dX3_checkNode_415 (Nat.le_of_ble_eq_true rfl) rfl (ch_FT.wk (ch_wS (ch_wN (ch_wS (ch_wN (ch_wN (ch_wS (ch_wN (ch_wN ch_w0)))))))) (s_X3_checkNode_417  h hk))
  replace h := ch_ifF e15 h
  by_cases e16 : v3 = 16
  · have h := ch_ifT e16 h
    refine ch_tableIn _ (off := 337) (tgt := 361) dX3_checkNode_24 (by rw [e16]; decide) (by rw [e16]; decide) (by rw [e16]; rfl) rfl ?_
    refine ch_aload_n 0 (some m) dX3_checkNode_361 rfl (mp_gA 20 dX3_checkNode_362 fl_X3_37 rfl (ch_iload_n 3 _ dX3_checkNode_365 rfl (mp_iald dX3_checkNode_366 mk_20 h (fun v37 h => ?_))))
    refine ch_iconst _ 1 dX3_checkNode_367 rfl (cp_icmp_ne _ _ (tgt := 386) dX3_checkNode_368 rfl h (fun h => ?_) (fun h => ?_))
    · exact ch_FT.wk (ch_wS (ch_wN (ch_wS (ch_wN (ch_wN (ch_wN (ch_wN (ch_wN ch_w0)))))))) (s_X3_checkNode_386  h hk)
    · refine ch_aload_n 0 (some m) dX3_checkNode_371 rfl (mp_gA 20 dX3_checkNode_372 fl_X3_37 rfl (ch_iload 4 _ dX3_checkNode_375 rfl (mp_iald dX3_checkNode_377 mk_20 h (fun v38 h => ?_))))
      refine ch_iconst _ 1 dX3_checkNode_378 rfl (cp_icmp_ne _ _ (tgt := 386) dX3_checkNode_379 rfl h (fun h => ?_) (fun h => ?_))
      · exact ch_FT.wk (ch_wS (ch_wN (ch_wS (ch_wN (ch_wN (ch_wN (ch_wN (ch_wN ch_w0)))))))) (s_X3_checkNode_386  h hk)
      · exact ch_iconst _ 1 dX3_checkNode_382 rfl (ch_goto 387 dX3_checkNode_383 rfl (ch_FT.wk (ch_wS (ch_wN (ch_wS (ch_wN (ch_wN (ch_wN (ch_wN (ch_wN ch_w0)))))))) (s_X3_checkNode_387  h hk)))
  replace h := ch_ifF e16 h
  by_cases e17 : v3 = 17
  · have h := ch_ifT e17 h
    refine ch_tableIn _ (off := 337) (tgt := 361) dX3_checkNode_24 (by rw [e17]; decide) (by rw [e17]; decide) (by rw [e17]; rfl) rfl ?_
    refine ch_aload_n 0 (some m) dX3_checkNode_361 rfl (mp_gA 20 dX3_checkNode_362 fl_X3_37 rfl (ch_iload_n 3 _ dX3_checkNode_365 rfl (mp_iald dX3_checkNode_366 mk_20 h (fun v39 h => ?_))))
    refine ch_iconst _ 1 dX3_checkNode_367 rfl (cp_icmp_ne _ _ (tgt := 386) dX3_checkNode_368 rfl h (fun h => ?_) (fun h => ?_))
    · exact ch_FT.wk (ch_wS (ch_wN (ch_wS (ch_wN (ch_wN (ch_wN (ch_wN (ch_wN ch_w0)))))))) (s_X3_checkNode_386  h hk)
    · refine ch_aload_n 0 (some m) dX3_checkNode_371 rfl (mp_gA 20 dX3_checkNode_372 fl_X3_37 rfl (ch_iload 4 _ dX3_checkNode_375 rfl (mp_iald dX3_checkNode_377 mk_20 h (fun v40 h => ?_))))
      refine ch_iconst _ 1 dX3_checkNode_378 rfl (cp_icmp_ne _ _ (tgt := 386) dX3_checkNode_379 rfl h (fun h => ?_) (fun h => ?_))
      · exact ch_FT.wk (ch_wS (ch_wN (ch_wS (ch_wN (ch_wN (ch_wN (ch_wN (ch_wN ch_w0)))))))) (s_X3_checkNode_386  h hk)
      · exact ch_iconst _ 1 dX3_checkNode_382 rfl (ch_goto 387 dX3_checkNode_383 rfl (ch_FT.wk (ch_wS (ch_wN (ch_wS (ch_wN (ch_wN (ch_wN (ch_wN (ch_wN ch_w0)))))))) (s_X3_checkNode_387  h hk)))
  replace h := ch_ifF e17 h
  by_cases e18 : v3 = 18
  · have h := ch_ifT e18 h
    refine ch_tableIn _ (off := 368) (tgt := 392) dX3_checkNode_24 (by rw [e18]; decide) (by rw [e18]; decide) (by rw [e18]; rfl) rfl ?_
    refine ch_aload_n 0 (some m) dX3_checkNode_392 rfl (ch_aload_n 0 (some m) dX3_checkNode_393 rfl (mp_gA 19 dX3_checkNode_394 fl_X3_34 rfl (ch_iload_n 2 _ dX3_checkNode_397 rfl (mp_iald dX3_checkNode_398 mk_19 h (fun v41 h => ?_)))))
    refine ch_aload_n 0 (some m) dX3_checkNode_399 rfl (mp_gA 20 dX3_checkNode_400 fl_X3_37 rfl (ch_iload_n 3 _ dX3_checkNode_403 rfl (mp_iald dX3_checkNode_404 mk_20 h (fun v42 h => ?_))))
    refine ch_aload_n 0 (some m) dX3_checkNode_405 rfl (mp_gA 20 dX3_checkNode_406 fl_X3_37 rfl (ch_iload 4 _ dX3_checkNode_409 rfl (mp_iald dX3_checkNode_411 mk_20 h (fun v43 h => ?_))))
    obtain ⟨v44, hp45, h⟩ := ch_bd h
    refine ch_iv yX3_compared prog_14_method_72_code 5 (some .int) (ci := 3) (q := (RX3, TX3, 109)) (b := m) (d' := 4) (av := [.int v41, .int v42, .int v43]) (rest := []) rfl dX3_checkNode_412 q2128 q2130 rfl qs161 q2131 can_X3_compared (Nat.le_of_ble_eq_true rfl) (Nat.le_of_ble_eq_true rfl) ch_put_tag (cp_kI (v := v44) (w1 := ch_put m w σ) (fun Q' hq => s_X3_compared hp45 hq) ?_)
    exact ch_istore 5 _ (ls1 := [some (va_rf (some m)), some (.int x1), some (.int x2), some (.int v1), some (.int v2), some (.int v44), none, none]) dX3_checkNode_415 (Nat.le_of_ble_eq_true rfl) rfl (ch_FT.wk (ch_wS (ch_wN (ch_wS (ch_wN (ch_wN (ch_wS (ch_wN (ch_wN ch_w0)))))))) (s_X3_checkNode_417  h hk))
  replace h := ch_ifF e18 h
  by_cases e19 : v3 = 19
  · have h := ch_ifT e19 h
    refine ch_tableIn _ (off := 368) (tgt := 392) dX3_checkNode_24 (by rw [e19]; decide) (by rw [e19]; decide) (by rw [e19]; rfl) rfl ?_
    refine ch_aload_n 0 (some m) dX3_checkNode_392 rfl (ch_aload_n 0 (some m) dX3_checkNode_393 rfl (mp_gA 19 dX3_checkNode_394 fl_X3_34 rfl (ch_iload_n 2 _ dX3_checkNode_397 rfl (mp_iald dX3_checkNode_398 mk_19 h (fun v46 h => ?_)))))
    refine ch_aload_n 0 (some m) dX3_checkNode_399 rfl (mp_gA 20 dX3_checkNode_400 fl_X3_37 rfl (ch_iload_n 3 _ dX3_checkNode_403 rfl (mp_iald dX3_checkNode_404 mk_20 h (fun v47 h => ?_))))
    refine ch_aload_n 0 (some m) dX3_checkNode_405 rfl (mp_gA 20 dX3_checkNode_406 fl_X3_37 rfl (ch_iload 4 _ dX3_checkNode_409 rfl (mp_iald dX3_checkNode_411 mk_20 h (fun v48 h => ?_))))
    obtain ⟨v49, hp50, h⟩ := ch_bd h
    refine ch_iv yX3_compared prog_14_method_72_code 5 (some .int) (ci := 3) (q := (RX3, TX3, 109)) (b := m) (d' := 4) (av := [.int v46, .int v47, .int v48]) (rest := []) rfl dX3_checkNode_412 q2128 q2130 rfl qs161 q2131 can_X3_compared (Nat.le_of_ble_eq_true rfl) (Nat.le_of_ble_eq_true rfl) ch_put_tag (cp_kI (v := v49) (w1 := ch_put m w σ) (fun Q' hq => s_X3_compared hp50 hq) ?_)
    exact ch_istore 5 _ (ls1 := [some (va_rf (some m)), some (.int x1), some (.int x2), some (.int v1), some (.int v2), some (.int v49), none, none]) dX3_checkNode_415 (Nat.le_of_ble_eq_true rfl) rfl (ch_FT.wk (ch_wS (ch_wN (ch_wS (ch_wN (ch_wN (ch_wS (ch_wN (ch_wN ch_w0)))))))) (s_X3_checkNode_417  h hk))
  replace h := ch_ifF e19 h
  by_cases e20 : v3 = 20
  · have h := ch_ifT e20 h
    refine ch_tableIn _ (off := 368) (tgt := 392) dX3_checkNode_24 (by rw [e20]; decide) (by rw [e20]; decide) (by rw [e20]; rfl) rfl ?_
    refine ch_aload_n 0 (some m) dX3_checkNode_392 rfl (ch_aload_n 0 (some m) dX3_checkNode_393 rfl (mp_gA 19 dX3_checkNode_394 fl_X3_34 rfl (ch_iload_n 2 _ dX3_checkNode_397 rfl (mp_iald dX3_checkNode_398 mk_19 h (fun v51 h => ?_)))))
    refine ch_aload_n 0 (some m) dX3_checkNode_399 rfl (mp_gA 20 dX3_checkNode_400 fl_X3_37 rfl (ch_iload_n 3 _ dX3_checkNode_403 rfl (mp_iald dX3_checkNode_404 mk_20 h (fun v52 h => ?_))))
    refine ch_aload_n 0 (some m) dX3_checkNode_405 rfl (mp_gA 20 dX3_checkNode_406 fl_X3_37 rfl (ch_iload 4 _ dX3_checkNode_409 rfl (mp_iald dX3_checkNode_411 mk_20 h (fun v53 h => ?_))))
    obtain ⟨v54, hp55, h⟩ := ch_bd h
    refine ch_iv yX3_compared prog_14_method_72_code 5 (some .int) (ci := 3) (q := (RX3, TX3, 109)) (b := m) (d' := 4) (av := [.int v51, .int v52, .int v53]) (rest := []) rfl dX3_checkNode_412 q2128 q2130 rfl qs161 q2131 can_X3_compared (Nat.le_of_ble_eq_true rfl) (Nat.le_of_ble_eq_true rfl) ch_put_tag (cp_kI (v := v54) (w1 := ch_put m w σ) (fun Q' hq => s_X3_compared hp55 hq) ?_)
    exact ch_istore 5 _ (ls1 := [some (va_rf (some m)), some (.int x1), some (.int x2), some (.int v1), some (.int v2), some (.int v54), none, none]) dX3_checkNode_415 (Nat.le_of_ble_eq_true rfl) rfl (ch_FT.wk (ch_wS (ch_wN (ch_wS (ch_wN (ch_wN (ch_wS (ch_wN (ch_wN ch_w0)))))))) (s_X3_checkNode_417  h hk))
  replace h := ch_ifF e20 h
  by_cases e21 : v3 = 21
  · have h := ch_ifT e21 h
    refine ch_tableIn _ (off := 110) (tgt := 134) dX3_checkNode_24 (by rw [e21]; decide) (by rw [e21]; decide) (by rw [e21]; rfl) rfl ?_
    exact ch_iconst _ 1 dX3_checkNode_134 rfl (ch_istore 5 _ (ls1 := [some (va_rf (some m)), some (.int x1), some (.int x2), some (.int v1), some (.int v2), some (.int 1), none, none]) dX3_checkNode_135 (Nat.le_of_ble_eq_true rfl) rfl (ch_goto 417 dX3_checkNode_137 rfl (ch_FT.wk (ch_wS (ch_wN (ch_wS (ch_wN (ch_wN (ch_wS (ch_wN (ch_wN ch_w0)))))))) (s_X3_checkNode_417  h hk))))
  replace h := ch_ifF e21 h
  refine ch_tableOut _ (tgt := 392) dX3_checkNode_24 (by have t0 := ch_ne (n := 0) e0 rfl; have t1 := ch_ne (n := 1) e1 rfl; have t2 := ch_ne (n := 2) e2 rfl; have t3 := ch_ne (n := 3) e3 rfl; have t4 := ch_ne (n := 4) e4 rfl; have t5 := ch_ne (n := 5) e5 rfl; have t6 := ch_ne (n := 6) e6 rfl; have t7 := ch_ne (n := 7) e7 rfl; have t8 := ch_ne (n := 8) e8 rfl; have t9 := ch_ne (n := 9) e9 rfl; have t10 := ch_ne (n := 10) e10 rfl; have t11 := ch_ne (n := 11) e11 rfl; have t12 := ch_ne (n := 12) e12 rfl; have t13 := ch_ne (n := 13) e13 rfl; have t14 := ch_ne (n := 14) e14 rfl; have t15 := ch_ne (n := 15) e15 rfl; have t16 := ch_ne (n := 16) e16 rfl; have t17 := ch_ne (n := 17) e17 rfl; have t18 := ch_ne (n := 18) e18 rfl; have t19 := ch_ne (n := 19) e19 rfl; have t20 := ch_ne (n := 20) e20 rfl; have t21 := ch_ne (n := 21) e21 rfl; omega) rfl ?_
  refine ch_aload_n 0 (some m) dX3_checkNode_392 rfl (ch_aload_n 0 (some m) dX3_checkNode_393 rfl (mp_gA 19 dX3_checkNode_394 fl_X3_34 rfl (ch_iload_n 2 _ dX3_checkNode_397 rfl (mp_iald dX3_checkNode_398 mk_19 h (fun v4 h => ?_)))))
  refine ch_aload_n 0 (some m) dX3_checkNode_399 rfl (mp_gA 20 dX3_checkNode_400 fl_X3_37 rfl (ch_iload_n 3 _ dX3_checkNode_403 rfl (mp_iald dX3_checkNode_404 mk_20 h (fun v5 h => ?_))))
  refine ch_aload_n 0 (some m) dX3_checkNode_405 rfl (mp_gA 20 dX3_checkNode_406 fl_X3_37 rfl (ch_iload 4 _ dX3_checkNode_409 rfl (mp_iald dX3_checkNode_411 mk_20 h (fun v6 h => ?_))))
  obtain ⟨v7, hp8, h⟩ := ch_bd h
  refine ch_iv yX3_compared prog_14_method_72_code 5 (some .int) (ci := 3) (q := (RX3, TX3, 109)) (b := m) (d' := 4) (av := [.int v4, .int v5, .int v6]) (rest := []) rfl dX3_checkNode_412 q2128 q2130 rfl qs161 q2131 can_X3_compared (Nat.le_of_ble_eq_true rfl) (Nat.le_of_ble_eq_true rfl) ch_put_tag (cp_kI (v := v7) (w1 := ch_put m w σ) (fun Q' hq => s_X3_compared hp8 hq) ?_)
  exact ch_istore 5 _ (ls1 := [some (va_rf (some m)), some (.int x1), some (.int x2), some (.int v1), some (.int v2), some (.int v7), none, none]) dX3_checkNode_415 (Nat.le_of_ble_eq_true rfl) rfl (ch_FT.wk (ch_wS (ch_wN (ch_wS (ch_wN (ch_wN (ch_wS (ch_wN (ch_wN ch_w0)))))))) (s_X3_checkNode_417  h hk))

theorem bX3_checkNodes_0 : ch_ck cX3_checkNodes 0 [4, 54, 4, 28, 54, 5, 21, 5, 29, 163, 0, 23, 21, 4, 153, 0] := ch_ckof (by decide +kernel)
theorem bX3_checkNodes_1 : ch_ck cX3_checkNodes 16 [18, 42, 27, 21, 5, 182, 2, 15, 54, 4, 132, 5, 1, 167, 255, 233] := ch_ckof (by decide +kernel)
theorem bX3_checkNodes_2 : ch_ck cX3_checkNodes 32 [28, 54, 5, 21, 5, 29, 163, 0, 54, 21, 4, 153, 0, 49, 42, 180] := ch_ckof (by decide +kernel)
theorem bX3_checkNodes_3 : ch_ck cX3_checkNodes 48 [0, 37, 21, 5, 46, 6, 160, 0, 25, 42, 180, 0, 46, 27, 46, 16] := ch_ckof (by decide +kernel)
theorem bX3_checkNodes_4 : ch_ck cX3_checkNodes 64 [7, 160, 0, 18, 21, 5, 42, 180, 0, 55, 27, 46, 160, 0, 7, 4] := ch_ckof (by decide +kernel)
theorem bX3_checkNodes_5 : ch_ck cX3_checkNodes 80 [167, 0, 4, 3, 54, 4, 132, 5, 1, 167, 255, 202, 21, 4, 172] := ch_ckof (by decide +kernel)
theorem dX3_checkNodes_0 : decode cX3_checkNodes 0 = .ok (.iconst 1, 1) := dz_4 (bX3_checkNodes_0 0 _ rfl)
theorem dX3_checkNodes_1 : decode cX3_checkNodes 1 = .ok (.istore 4, 2) := dz_54 (bX3_checkNodes_0 1 _ rfl) (bX3_checkNodes_0 2 _ rfl)
theorem dX3_checkNodes_3 : decode cX3_checkNodes 3 = .ok (.iload_n 2, 1) := dz_28 (bX3_checkNodes_0 3 _ rfl)
theorem dX3_checkNodes_4 : decode cX3_checkNodes 4 = .ok (.istore 5, 2) := dz_54 (bX3_checkNodes_0 4 _ rfl) (bX3_checkNodes_0 5 _ rfl)
theorem dX3_checkNodes_6 : decode cX3_checkNodes 6 = .ok (.iload 5, 2) := dz_21 (bX3_checkNodes_0 6 _ rfl) (bX3_checkNodes_0 7 _ rfl)
theorem dX3_checkNodes_8 : decode cX3_checkNodes 8 = .ok (.iload_n 3, 1) := dz_29 (bX3_checkNodes_0 8 _ rfl)
theorem dX3_checkNodes_9 : decode cX3_checkNodes 9 = .ok (.if_icmp .gt 23, 3) := dz_163 (bX3_checkNodes_0 9 _ rfl) (bX3_checkNodes_0 10 _ rfl) (bX3_checkNodes_0 11 _ rfl)
theorem dX3_checkNodes_12 : decode cX3_checkNodes 12 = .ok (.iload 4, 2) := dz_21 (bX3_checkNodes_0 12 _ rfl) (bX3_checkNodes_0 13 _ rfl)
theorem dX3_checkNodes_14 : decode cX3_checkNodes 14 = .ok (.ifCond .eq 18, 3) := dz_153 (bX3_checkNodes_0 14 _ rfl) (bX3_checkNodes_0 15 _ rfl) (bX3_checkNodes_1 0 _ rfl)
theorem dX3_checkNodes_17 : decode cX3_checkNodes 17 = .ok (.aload_n 0, 1) := dz_42 (bX3_checkNodes_1 1 _ rfl)
theorem dX3_checkNodes_18 : decode cX3_checkNodes 18 = .ok (.iload_n 1, 1) := dz_27 (bX3_checkNodes_1 2 _ rfl)
theorem dX3_checkNodes_19 : decode cX3_checkNodes 19 = .ok (.iload 5, 2) := dz_21 (bX3_checkNodes_1 3 _ rfl) (bX3_checkNodes_1 4 _ rfl)
theorem dX3_checkNodes_21 : decode cX3_checkNodes 21 = .ok (.invokevirtual 527, 3) := dz_182 (bX3_checkNodes_1 5 _ rfl) (bX3_checkNodes_1 6 _ rfl) (bX3_checkNodes_1 7 _ rfl)
theorem dX3_checkNodes_24 : decode cX3_checkNodes 24 = .ok (.istore 4, 2) := dz_54 (bX3_checkNodes_1 8 _ rfl) (bX3_checkNodes_1 9 _ rfl)
theorem dX3_checkNodes_26 : decode cX3_checkNodes 26 = .ok (.iinc 5 1, 3) := dz_132 (bX3_checkNodes_1 10 _ rfl) (bX3_checkNodes_1 11 _ rfl) (bX3_checkNodes_1 12 _ rfl)
theorem dX3_checkNodes_29 : decode cX3_checkNodes 29 = .ok (.goto (-23), 3) := dz_167 (bX3_checkNodes_1 13 _ rfl) (bX3_checkNodes_1 14 _ rfl) (bX3_checkNodes_1 15 _ rfl)
theorem dX3_checkNodes_32 : decode cX3_checkNodes 32 = .ok (.iload_n 2, 1) := dz_28 (bX3_checkNodes_2 0 _ rfl)
theorem dX3_checkNodes_33 : decode cX3_checkNodes 33 = .ok (.istore 5, 2) := dz_54 (bX3_checkNodes_2 1 _ rfl) (bX3_checkNodes_2 2 _ rfl)
theorem dX3_checkNodes_35 : decode cX3_checkNodes 35 = .ok (.iload 5, 2) := dz_21 (bX3_checkNodes_2 3 _ rfl) (bX3_checkNodes_2 4 _ rfl)
theorem dX3_checkNodes_37 : decode cX3_checkNodes 37 = .ok (.iload_n 3, 1) := dz_29 (bX3_checkNodes_2 5 _ rfl)
theorem dX3_checkNodes_38 : decode cX3_checkNodes 38 = .ok (.if_icmp .gt 54, 3) := dz_163 (bX3_checkNodes_2 6 _ rfl) (bX3_checkNodes_2 7 _ rfl) (bX3_checkNodes_2 8 _ rfl)
theorem dX3_checkNodes_41 : decode cX3_checkNodes 41 = .ok (.iload 4, 2) := dz_21 (bX3_checkNodes_2 9 _ rfl) (bX3_checkNodes_2 10 _ rfl)
theorem dX3_checkNodes_43 : decode cX3_checkNodes 43 = .ok (.ifCond .eq 49, 3) := dz_153 (bX3_checkNodes_2 11 _ rfl) (bX3_checkNodes_2 12 _ rfl) (bX3_checkNodes_2 13 _ rfl)
theorem dX3_checkNodes_46 : decode cX3_checkNodes 46 = .ok (.aload_n 0, 1) := dz_42 (bX3_checkNodes_2 14 _ rfl)
theorem dX3_checkNodes_47 : decode cX3_checkNodes 47 = .ok (.getfield 37, 3) := dz_180 (bX3_checkNodes_2 15 _ rfl) (bX3_checkNodes_3 0 _ rfl) (bX3_checkNodes_3 1 _ rfl)
theorem dX3_checkNodes_50 : decode cX3_checkNodes 50 = .ok (.iload 5, 2) := dz_21 (bX3_checkNodes_3 2 _ rfl) (bX3_checkNodes_3 3 _ rfl)
theorem dX3_checkNodes_52 : decode cX3_checkNodes 52 = .ok (.iaload, 1) := dz_46 (bX3_checkNodes_3 4 _ rfl)
theorem dX3_checkNodes_53 : decode cX3_checkNodes 53 = .ok (.iconst 3, 1) := dz_6 (bX3_checkNodes_3 5 _ rfl)
theorem dX3_checkNodes_54 : decode cX3_checkNodes 54 = .ok (.if_icmp .ne 25, 3) := dz_160 (bX3_checkNodes_3 6 _ rfl) (bX3_checkNodes_3 7 _ rfl) (bX3_checkNodes_3 8 _ rfl)
theorem dX3_checkNodes_57 : decode cX3_checkNodes 57 = .ok (.aload_n 0, 1) := dz_42 (bX3_checkNodes_3 9 _ rfl)
theorem dX3_checkNodes_58 : decode cX3_checkNodes 58 = .ok (.getfield 46, 3) := dz_180 (bX3_checkNodes_3 10 _ rfl) (bX3_checkNodes_3 11 _ rfl) (bX3_checkNodes_3 12 _ rfl)
theorem dX3_checkNodes_61 : decode cX3_checkNodes 61 = .ok (.iload_n 1, 1) := dz_27 (bX3_checkNodes_3 13 _ rfl)
theorem dX3_checkNodes_62 : decode cX3_checkNodes 62 = .ok (.iaload, 1) := dz_46 (bX3_checkNodes_3 14 _ rfl)
theorem dX3_checkNodes_63 : decode cX3_checkNodes 63 = .ok (.bipush 7, 2) := dz_16 (bX3_checkNodes_3 15 _ rfl) (bX3_checkNodes_4 0 _ rfl)
theorem dX3_checkNodes_65 : decode cX3_checkNodes 65 = .ok (.if_icmp .ne 18, 3) := dz_160 (bX3_checkNodes_4 1 _ rfl) (bX3_checkNodes_4 2 _ rfl) (bX3_checkNodes_4 3 _ rfl)
theorem dX3_checkNodes_68 : decode cX3_checkNodes 68 = .ok (.iload 5, 2) := dz_21 (bX3_checkNodes_4 4 _ rfl) (bX3_checkNodes_4 5 _ rfl)
theorem dX3_checkNodes_70 : decode cX3_checkNodes 70 = .ok (.aload_n 0, 1) := dz_42 (bX3_checkNodes_4 6 _ rfl)
theorem dX3_checkNodes_71 : decode cX3_checkNodes 71 = .ok (.getfield 55, 3) := dz_180 (bX3_checkNodes_4 7 _ rfl) (bX3_checkNodes_4 8 _ rfl) (bX3_checkNodes_4 9 _ rfl)
theorem dX3_checkNodes_74 : decode cX3_checkNodes 74 = .ok (.iload_n 1, 1) := dz_27 (bX3_checkNodes_4 10 _ rfl)
theorem dX3_checkNodes_75 : decode cX3_checkNodes 75 = .ok (.iaload, 1) := dz_46 (bX3_checkNodes_4 11 _ rfl)
theorem dX3_checkNodes_76 : decode cX3_checkNodes 76 = .ok (.if_icmp .ne 7, 3) := dz_160 (bX3_checkNodes_4 12 _ rfl) (bX3_checkNodes_4 13 _ rfl) (bX3_checkNodes_4 14 _ rfl)
theorem dX3_checkNodes_79 : decode cX3_checkNodes 79 = .ok (.iconst 1, 1) := dz_4 (bX3_checkNodes_4 15 _ rfl)
theorem dX3_checkNodes_80 : decode cX3_checkNodes 80 = .ok (.goto 4, 3) := dz_167 (bX3_checkNodes_5 0 _ rfl) (bX3_checkNodes_5 1 _ rfl) (bX3_checkNodes_5 2 _ rfl)
theorem dX3_checkNodes_83 : decode cX3_checkNodes 83 = .ok (.iconst 0, 1) := dz_3 (bX3_checkNodes_5 3 _ rfl)
theorem dX3_checkNodes_84 : decode cX3_checkNodes 84 = .ok (.istore 4, 2) := dz_54 (bX3_checkNodes_5 4 _ rfl) (bX3_checkNodes_5 5 _ rfl)
theorem dX3_checkNodes_86 : decode cX3_checkNodes 86 = .ok (.iinc 5 1, 3) := dz_132 (bX3_checkNodes_5 6 _ rfl) (bX3_checkNodes_5 7 _ rfl) (bX3_checkNodes_5 8 _ rfl)
theorem dX3_checkNodes_89 : decode cX3_checkNodes 89 = .ok (.goto (-54), 3) := dz_167 (bX3_checkNodes_5 9 _ rfl) (bX3_checkNodes_5 10 _ rfl) (bX3_checkNodes_5 11 _ rfl)
theorem dX3_checkNodes_92 : decode cX3_checkNodes 92 = .ok (.iload 4, 2) := dz_21 (bX3_checkNodes_5 12 _ rfl) (bX3_checkNodes_5 13 _ rfl)
theorem dX3_checkNodes_94 : decode cX3_checkNodes 94 = .ok (.ireturn, 1) := dz_172 (bX3_checkNodes_5 14 _ rfl)
def m_X3_checkNodes_35 (x1 : Int32) (x3 : Int32) (x4 : Int32) (x5 : Int32)  (σ : ch_S) : Option ((Int32 × Int32) ⊕ (Int32 × ch_S)) := if x3 < x5 then ((ch_bit x4).bind fun v => some (.inr ((v, σ)))) else (if x4 = 0 then ((ch_bit x4).bind fun v => some (.inr ((v, σ)))) else ((ch_ma σ fX3_typeOf x5).bind fun v1 => if v1 = 3 then ((ch_ma σ fX3_statementIs x1).bind fun v2 => if v2 = 7 then ((ch_ma σ fX3_value x1).bind fun v3 => if x5 = v3 then (some (.inl (1, x5 + 1))) else (some (.inl (0, x5 + 1)))) else (some (.inl (0, x5 + 1)))) else (some (.inl (1, x5 + 1)))))
theorem s_X3_checkNodes_35 {g : State} {m : Nat} {w : ch_W} {x1 : Int32} {x3 : Int32} {x4 : Int32} {x5 : Int32} {σ : ch_S} {res : (Int32 × Int32) ⊕ (Int32 × ch_S)} {Q : Outcome → ch_W → Prop} (h : m_X3_checkNodes_35 x1 x3 x4 x5 σ = some res) (hk : (ch_sm (fun s => ch_FT g false mX3_checkNodes 6 35 [some (va_rf (some m)), some (.int x1), none, some (.int x3), some (.int s.1), some (.int s.2)] [] (ch_put m w σ) Q) (fun r => ch_eI Q (r.1, ch_put m w r.2))) res) : ch_FT g false mX3_checkNodes 6 35 [some (va_rf (some m)), some (.int x1), none, some (.int x3), some (.int x4), some (.int x5)] [] (ch_put m w σ) Q := by
  unfold m_X3_checkNodes_35 at h
  refine ch_iload 5 _ dX3_checkNodes_35 rfl (ch_iload_n 3 _ dX3_checkNodes_37 rfl (cp_icmp_gt _ _ (tgt := 92) dX3_checkNodes_38 rfl h (fun h => ?_) (fun h => ?_)))
  · refine ch_iload 4 _ dX3_checkNodes_92 rfl (cp_zret _ dX3_checkNodes_94 rfl h (fun h => ?_))
    obtain rfl := Option.some.inj h
    exact hk
  · refine ch_iload 4 _ dX3_checkNodes_41 rfl (cp_if_eq _ (tgt := 92) dX3_checkNodes_43 rfl h (fun h => ?_) (fun h => ?_))
    · refine ch_iload 4 _ dX3_checkNodes_92 rfl (cp_zret _ dX3_checkNodes_94 rfl h (fun h => ?_))
      obtain rfl := Option.some.inj h
      exact hk
    · refine ch_aload_n 0 (some m) dX3_checkNodes_46 rfl (mp_gA 20 dX3_checkNodes_47 fl_X3_37 rfl (ch_iload 5 _ dX3_checkNodes_50 rfl (mp_iald dX3_checkNodes_52 mk_20 h (fun v1 h => ?_))))
      refine ch_iconst _ 3 dX3_checkNodes_53 rfl (cp_icmp_ne _ _ (tgt := 79) dX3_checkNodes_54 rfl h (fun h => ?_) (fun h => ?_))
      · refine ch_iconst _ 1 dX3_checkNodes_79 rfl (ch_goto 84 dX3_checkNodes_80 rfl (ch_istore 4 _ (ls1 := [some (va_rf (some m)), some (.int x1), none, some (.int x3), some (.int 1), some (.int x5)]) dX3_checkNodes_84 (Nat.le_of_ble_eq_true rfl) rfl (ch_iinc 5 _ _ (x5 + 1) (ls1 := [some (va_rf (some m)), some (.int x1), none, some (.int x3), some (.int 1), some (.int (x5 + 1))]) dX3_checkNodes_86 rfl rfl (Nat.le_of_ble_eq_true rfl) rfl (ch_goto 35 dX3_checkNodes_89 rfl (ch_FT.wk (ch_wS (ch_wS (ch_wN (ch_wS (ch_wS (ch_wS ch_w0)))))) ?_)))))
        obtain rfl := Option.some.inj h
        exact hk
      · refine ch_aload_n 0 (some m) dX3_checkNodes_57 rfl (mp_gA 26 dX3_checkNodes_58 fl_X3_46 rfl (ch_iload_n 1 _ dX3_checkNodes_61 rfl (mp_iald dX3_checkNodes_62 mk_26 h (fun v2 h => ?_))))
        refine ch_bipush _ 7 dX3_checkNodes_63 rfl (cp_icmp_ne _ _ (tgt := 83) dX3_checkNodes_65 rfl h (fun h => ?_) (fun h => ?_))
        · refine ch_iconst _ 0 dX3_checkNodes_83 rfl (ch_istore 4 _ (ls1 := [some (va_rf (some m)), some (.int x1), none, some (.int x3), some (.int 0), some (.int x5)]) dX3_checkNodes_84 (Nat.le_of_ble_eq_true rfl) rfl (ch_iinc 5 _ _ (x5 + 1) (ls1 := [some (va_rf (some m)), some (.int x1), none, some (.int x3), some (.int 0), some (.int (x5 + 1))]) dX3_checkNodes_86 rfl rfl (Nat.le_of_ble_eq_true rfl) rfl (ch_goto 35 dX3_checkNodes_89 rfl (ch_FT.wk (ch_wS (ch_wS (ch_wN (ch_wS (ch_wS (ch_wS ch_w0)))))) ?_))))
          obtain rfl := Option.some.inj h
          exact hk
        · refine ch_iload 5 _ dX3_checkNodes_68 rfl (ch_aload_n 0 (some m) dX3_checkNodes_70 rfl (mp_gA 29 dX3_checkNodes_71 fl_X3_55 rfl (ch_iload_n 1 _ dX3_checkNodes_74 rfl (mp_iald dX3_checkNodes_75 mk_29 h (fun v3 h => ?_)))))
          refine cp_icmp_ne _ _ (tgt := 83) dX3_checkNodes_76 rfl h (fun h => ?_) (fun h => ?_)
          · refine ch_iconst _ 0 dX3_checkNodes_83 rfl (ch_istore 4 _ (ls1 := [some (va_rf (some m)), some (.int x1), none, some (.int x3), some (.int 0), some (.int x5)]) dX3_checkNodes_84 (Nat.le_of_ble_eq_true rfl) rfl (ch_iinc 5 _ _ (x5 + 1) (ls1 := [some (va_rf (some m)), some (.int x1), none, some (.int x3), some (.int 0), some (.int (x5 + 1))]) dX3_checkNodes_86 rfl rfl (Nat.le_of_ble_eq_true rfl) rfl (ch_goto 35 dX3_checkNodes_89 rfl (ch_FT.wk (ch_wS (ch_wS (ch_wN (ch_wS (ch_wS (ch_wS ch_w0)))))) ?_))))
            obtain rfl := Option.some.inj h
            exact hk
          · refine ch_iconst _ 1 dX3_checkNodes_79 rfl (ch_goto 84 dX3_checkNodes_80 rfl (ch_istore 4 _ (ls1 := [some (va_rf (some m)), some (.int x1), none, some (.int x3), some (.int 1), some (.int x5)]) dX3_checkNodes_84 (Nat.le_of_ble_eq_true rfl) rfl (ch_iinc 5 _ _ (x5 + 1) (ls1 := [some (va_rf (some m)), some (.int x1), none, some (.int x3), some (.int 1), some (.int (x5 + 1))]) dX3_checkNodes_86 rfl rfl (Nat.le_of_ble_eq_true rfl) rfl (ch_goto 35 dX3_checkNodes_89 rfl (ch_FT.wk (ch_wS (ch_wS (ch_wN (ch_wS (ch_wS (ch_wS ch_w0)))))) ?_)))))
            obtain rfl := Option.some.inj h
            exact hk
theorem sl_X3_checkNodes_35 {g : State} {m : Nat} {w : ch_W} {x1 : Int32} {x3 : Int32} {σ : ch_S} {a : Int32 × Int32} {res : Int32 × ch_S} {Q : Outcome → ch_W → Prop} (h : ch_loop (fun (s : Int32 × Int32) => m_X3_checkNodes_35 x1 x3 s.1 s.2 σ) a = some res) (hk : (fun r => ch_eI Q (r.1, ch_put m w r.2)) res) : ch_FT g false mX3_checkNodes 6 35 [some (va_rf (some m)), some (.int x1), none, some (.int x3), some (.int a.1), some (.int a.2)] [] (ch_put m w σ) Q := by
  refine ch_loop_ind (fun (a : Int32 × Int32) (r : Int32 × ch_S) => (fun r => ch_eI Q (r.1, ch_put m w r.2)) r → ch_FT g false mX3_checkNodes 6 35 [some (va_rf (some m)), some (.int x1), none, some (.int x3), some (.int a.1), some (.int a.2)] [] (ch_put m w σ) Q) ?_ ?_ a res h hk
  · intro a a2 b h1 ih hk
    exact s_X3_checkNodes_35  h1 (ih hk)
  · intro a b h1 hk
    exact s_X3_checkNodes_35  h1 hk

def m_X3_checkNodes_6 (x1 : Int32) (x2 : Int32) (x3 : Int32) (x4 : Int32) (x5 : Int32)  (σ : ch_S) : Option ((Int32 × Int32 × ch_S) ⊕ (Int32 × ch_S)) := if x3 < x5 then ((ch_loop (fun (s : Int32 × Int32) => m_X3_checkNodes_35 x1 x3 s.1 s.2 σ) (x4, x2)).bind fun r => some (.inr (r))) else (if x4 = 0 then ((ch_loop (fun (s : Int32 × Int32) => m_X3_checkNodes_35 x1 x3 s.1 s.2 σ) (x4, x2)).bind fun r => some (.inr (r))) else ((m_X3_checkNode x1 x5 σ).bind fun p1 => some (.inl (p1.1, x5 + 1, p1.2))))
theorem s_X3_checkNodes_6 {g : State} {m : Nat} {w : ch_W} {x1 : Int32} {x2 : Int32} {x3 : Int32} {x4 : Int32} {x5 : Int32} {σ : ch_S} {res : (Int32 × Int32 × ch_S) ⊕ (Int32 × ch_S)} {Q : Outcome → ch_W → Prop} (h : m_X3_checkNodes_6 x1 x2 x3 x4 x5 σ = some res) (hk : (ch_sm (fun s => ch_FT g false mX3_checkNodes 6 6 [some (va_rf (some m)), some (.int x1), some (.int x2), some (.int x3), some (.int s.1), some (.int s.2.1)] [] (ch_put m w s.2.2) Q) (fun r => ch_eI Q (r.1, ch_put m w r.2))) res) : ch_FT g false mX3_checkNodes 6 6 [some (va_rf (some m)), some (.int x1), some (.int x2), some (.int x3), some (.int x4), some (.int x5)] [] (ch_put m w σ) Q := by
  unfold m_X3_checkNodes_6 at h
  refine ch_iload 5 _ dX3_checkNodes_6 rfl (ch_iload_n 3 _ dX3_checkNodes_8 rfl (cp_icmp_gt _ _ (tgt := 32) dX3_checkNodes_9 rfl h (fun h => ?_) (fun h => ?_)))
  · obtain ⟨r, hr, h⟩ := ch_bd h
    obtain rfl := Option.some.inj h
    exact ch_iload_n 2 _ dX3_checkNodes_32 rfl (ch_istore 5 _ (ls1 := [some (va_rf (some m)), some (.int x1), some (.int x2), some (.int x3), some (.int x4), some (.int x2)]) dX3_checkNodes_33 (Nat.le_of_ble_eq_true rfl) rfl (ch_FT.wk (ch_wS (ch_wS (ch_wN (ch_wS (ch_wS (ch_wS ch_w0)))))) (sl_X3_checkNodes_35  hr hk)))
  · refine ch_iload 4 _ dX3_checkNodes_12 rfl (cp_if_eq _ (tgt := 32) dX3_checkNodes_14 rfl h (fun h => ?_) (fun h => ?_))
    · obtain ⟨r, hr, h⟩ := ch_bd h
      obtain rfl := Option.some.inj h
      exact ch_iload_n 2 _ dX3_checkNodes_32 rfl (ch_istore 5 _ (ls1 := [some (va_rf (some m)), some (.int x1), some (.int x2), some (.int x3), some (.int x4), some (.int x2)]) dX3_checkNodes_33 (Nat.le_of_ble_eq_true rfl) rfl (ch_FT.wk (ch_wS (ch_wS (ch_wN (ch_wS (ch_wS (ch_wS ch_w0)))))) (sl_X3_checkNodes_35  hr hk)))
    · obtain ⟨p1, hp2, h⟩ := ch_bd h
      refine ch_aload_n 0 (some m) dX3_checkNodes_17 rfl (ch_iload_n 1 _ dX3_checkNodes_18 rfl (ch_iload 5 _ dX3_checkNodes_19 rfl (ch_iv yX3_checkNode prog_14_method_69_code 8 (some .boolean) (ci := 3) (q := (RX3, TX3, 109)) (b := m) (d' := 5) (av := [.int x1, .int x5]) (rest := []) rfl dX3_checkNodes_21 q2096 q2098 rfl qs153 q2099 can_X3_checkNode (Nat.le_of_ble_eq_true rfl) (Nat.le_of_ble_eq_true rfl) ch_put_tag (cp_kI (v := p1.1) (w1 := ch_put m w p1.2) (fun Q' hq => s_X3_checkNode hp2 hq) ?_))))
      refine ch_istore 4 _ (ls1 := [some (va_rf (some m)), some (.int x1), some (.int x2), some (.int x3), some (.int p1.1), some (.int x5)]) dX3_checkNodes_24 (Nat.le_of_ble_eq_true rfl) rfl (ch_iinc 5 _ _ (x5 + 1) (ls1 := [some (va_rf (some m)), some (.int x1), some (.int x2), some (.int x3), some (.int p1.1), some (.int (x5 + 1))]) dX3_checkNodes_26 rfl rfl (Nat.le_of_ble_eq_true rfl) rfl (ch_goto 6 dX3_checkNodes_29 rfl (ch_FT.wk (ch_wS (ch_wS (ch_wS (ch_wS (ch_wS (ch_wS ch_w0)))))) ?_)))
      obtain rfl := Option.some.inj h
      exact hk
theorem sl_X3_checkNodes_6 {g : State} {m : Nat} {w : ch_W} {x1 : Int32} {x2 : Int32} {x3 : Int32} {a : Int32 × Int32 × ch_S} {res : Int32 × ch_S} {Q : Outcome → ch_W → Prop} (h : ch_loop (fun (s : Int32 × Int32 × ch_S) => m_X3_checkNodes_6 x1 x2 x3 s.1 s.2.1 s.2.2) a = some res) (hk : (fun r => ch_eI Q (r.1, ch_put m w r.2)) res) : ch_FT g false mX3_checkNodes 6 6 [some (va_rf (some m)), some (.int x1), some (.int x2), some (.int x3), some (.int a.1), some (.int a.2.1)] [] (ch_put m w a.2.2) Q := by
  refine ch_loop_ind (fun (a : Int32 × Int32 × ch_S) (r : Int32 × ch_S) => (fun r => ch_eI Q (r.1, ch_put m w r.2)) r → ch_FT g false mX3_checkNodes 6 6 [some (va_rf (some m)), some (.int x1), some (.int x2), some (.int x3), some (.int a.1), some (.int a.2.1)] [] (ch_put m w a.2.2) Q) ?_ ?_ a res h hk
  · intro a a2 b h1 ih hk
    exact s_X3_checkNodes_6  h1 (ih hk)
  · intro a b h1 hk
    exact s_X3_checkNodes_6  h1 hk

def m_X3_checkNodes (x1 : Int32) (x2 : Int32) (x3 : Int32) (σ : ch_S) : Option (Int32 × ch_S) := ch_loop (fun (s : Int32 × Int32 × ch_S) => m_X3_checkNodes_6 x1 x2 x3 s.1 s.2.1 s.2.2) (1, x2, σ)
theorem s_X3_checkNodes {g : State} {m : Nat} {w : ch_W} {x1 : Int32} {x2 : Int32} {x3 : Int32} {σ : ch_S} {res : Int32 × ch_S} {Q : Outcome → ch_W → Prop} (h : m_X3_checkNodes x1 x2 x3 σ = some res) (hk : (fun r => ch_eI Q (r.1, ch_put m w r.2)) res) : ch_CT g false yX3_checkNodes 6 [.ref m, .int x1, .int x2, .int x3] (ch_put m w σ) Q := by
  unfold m_X3_checkNodes at h
  refine ch_ctL mX3_checkNodes (ls := [some (va_rf (some m)), some (.int x1), some (.int x2), some (.int x3), none, none]) q2095 rfl (ch_lyr (r := some m) (ch_lyi (ch_lyi (ch_lyi ch_ly0)))) (Nat.le_of_ble_eq_true rfl) rfl ?_
  exact ch_iconst _ 1 dX3_checkNodes_0 rfl (ch_istore 4 _ (ls1 := [some (va_rf (some m)), some (.int x1), some (.int x2), some (.int x3), some (.int 1), none]) dX3_checkNodes_1 (Nat.le_of_ble_eq_true rfl) rfl (ch_iload_n 2 _ dX3_checkNodes_3 rfl (ch_istore 5 _ (ls1 := [some (va_rf (some m)), some (.int x1), some (.int x2), some (.int x3), some (.int 1), some (.int x2)]) dX3_checkNodes_4 (Nat.le_of_ble_eq_true rfl) rfl (ch_FT.wk (ch_wS (ch_wS (ch_wS (ch_wS (ch_wS (ch_wS ch_w0)))))) (sl_X3_checkNodes_6  h hk)))))

theorem bX3_typeOfValue_0 : ch_ck cX3_typeOfValue 0 [42, 180, 0, 55, 27, 46, 156, 0, 7, 6, 167, 0, 14, 42, 180, 0] := ch_ckof (by decide +kernel)
theorem bX3_typeOfValue_1 : ch_ck cX3_typeOfValue 16 [37, 42, 180, 0, 55, 27, 46, 46, 172] := ch_ckof (by decide +kernel)
theorem dX3_typeOfValue_0 : decode cX3_typeOfValue 0 = .ok (.aload_n 0, 1) := dz_42 (bX3_typeOfValue_0 0 _ rfl)
theorem dX3_typeOfValue_1 : decode cX3_typeOfValue 1 = .ok (.getfield 55, 3) := dz_180 (bX3_typeOfValue_0 1 _ rfl) (bX3_typeOfValue_0 2 _ rfl) (bX3_typeOfValue_0 3 _ rfl)
theorem dX3_typeOfValue_4 : decode cX3_typeOfValue 4 = .ok (.iload_n 1, 1) := dz_27 (bX3_typeOfValue_0 4 _ rfl)
theorem dX3_typeOfValue_5 : decode cX3_typeOfValue 5 = .ok (.iaload, 1) := dz_46 (bX3_typeOfValue_0 5 _ rfl)
theorem dX3_typeOfValue_6 : decode cX3_typeOfValue 6 = .ok (.ifCond .ge 7, 3) := dz_156 (bX3_typeOfValue_0 6 _ rfl) (bX3_typeOfValue_0 7 _ rfl) (bX3_typeOfValue_0 8 _ rfl)
theorem dX3_typeOfValue_9 : decode cX3_typeOfValue 9 = .ok (.iconst 3, 1) := dz_6 (bX3_typeOfValue_0 9 _ rfl)
theorem dX3_typeOfValue_10 : decode cX3_typeOfValue 10 = .ok (.goto 14, 3) := dz_167 (bX3_typeOfValue_0 10 _ rfl) (bX3_typeOfValue_0 11 _ rfl) (bX3_typeOfValue_0 12 _ rfl)
theorem dX3_typeOfValue_13 : decode cX3_typeOfValue 13 = .ok (.aload_n 0, 1) := dz_42 (bX3_typeOfValue_0 13 _ rfl)
theorem dX3_typeOfValue_14 : decode cX3_typeOfValue 14 = .ok (.getfield 37, 3) := dz_180 (bX3_typeOfValue_0 14 _ rfl) (bX3_typeOfValue_0 15 _ rfl) (bX3_typeOfValue_1 0 _ rfl)
theorem dX3_typeOfValue_17 : decode cX3_typeOfValue 17 = .ok (.aload_n 0, 1) := dz_42 (bX3_typeOfValue_1 1 _ rfl)
theorem dX3_typeOfValue_18 : decode cX3_typeOfValue 18 = .ok (.getfield 55, 3) := dz_180 (bX3_typeOfValue_1 2 _ rfl) (bX3_typeOfValue_1 3 _ rfl) (bX3_typeOfValue_1 4 _ rfl)
theorem dX3_typeOfValue_21 : decode cX3_typeOfValue 21 = .ok (.iload_n 1, 1) := dz_27 (bX3_typeOfValue_1 5 _ rfl)
theorem dX3_typeOfValue_22 : decode cX3_typeOfValue 22 = .ok (.iaload, 1) := dz_46 (bX3_typeOfValue_1 6 _ rfl)
theorem dX3_typeOfValue_23 : decode cX3_typeOfValue 23 = .ok (.iaload, 1) := dz_46 (bX3_typeOfValue_1 7 _ rfl)
theorem dX3_typeOfValue_24 : decode cX3_typeOfValue 24 = .ok (.ireturn, 1) := dz_172 (bX3_typeOfValue_1 8 _ rfl)
def m_X3_typeOfValue (x1 : Int32) (σ : ch_S) : Option (Int32) := (ch_ma σ fX3_value x1).bind fun v1 => if v1 < 0 then (some (3)) else ((ch_ma σ fX3_value x1).bind fun v2 => (ch_ma σ fX3_typeOf v2).bind fun v3 => some (v3))
theorem s_X3_typeOfValue {g : State} {m : Nat} {w : ch_W} {x1 : Int32} {σ : ch_S} {res : Int32} {Q : Outcome → ch_W → Prop} (h : m_X3_typeOfValue x1 σ = some res) (hk : (fun r => ch_eI Q (r, ch_put m w σ)) res) : ch_CT g false yX3_typeOfValue 2 [.ref m, .int x1] (ch_put m w σ) Q := by
  unfold m_X3_typeOfValue at h
  refine ch_ctL mX3_typeOfValue (ls := [some (va_rf (some m)), some (.int x1)]) q2138 rfl (ch_lyr (r := some m) (ch_lyi ch_ly0)) (Nat.le_of_ble_eq_true rfl) rfl ?_
  refine ch_aload_n 0 (some m) dX3_typeOfValue_0 rfl (mp_gA 29 dX3_typeOfValue_1 fl_X3_55 rfl (ch_iload_n 1 _ dX3_typeOfValue_4 rfl (mp_iald dX3_typeOfValue_5 mk_29 h (fun v1 h => ?_))))
  refine cp_if_ge _ (tgt := 13) dX3_typeOfValue_6 rfl h (fun h => ?_) (fun h => ?_)
  · refine ch_aload_n 0 (some m) dX3_typeOfValue_13 rfl (mp_gA 20 dX3_typeOfValue_14 fl_X3_37 rfl (ch_aload_n 0 (some m) dX3_typeOfValue_17 rfl (mp_gA 29 dX3_typeOfValue_18 fl_X3_55 rfl (ch_iload_n 1 _ dX3_typeOfValue_21 rfl (mp_iald dX3_typeOfValue_22 mk_29 h (fun v2 h => ?_))))))
    refine mp_iald dX3_typeOfValue_23 mk_20 h (fun v3 h => ?_)
    obtain rfl := Option.some.inj h
    exact ch_ireturn _ dX3_typeOfValue_24 rfl rfl hk
  · obtain rfl := Option.some.inj h
    exact ch_iconst _ 3 dX3_typeOfValue_9 rfl (ch_goto 24 dX3_typeOfValue_10 rfl (ch_ireturn _ dX3_typeOfValue_24 rfl rfl hk))

theorem bX3_isPlain_0 : ch_ck cX3_isPlain 0 [27, 153, 0, 8, 27, 4, 160, 0, 7, 4, 167, 0, 4, 3, 172] := ch_ckof (by decide +kernel)
theorem dX3_isPlain_0 : decode cX3_isPlain 0 = .ok (.iload_n 1, 1) := dz_27 (bX3_isPlain_0 0 _ rfl)
theorem dX3_isPlain_1 : decode cX3_isPlain 1 = .ok (.ifCond .eq 8, 3) := dz_153 (bX3_isPlain_0 1 _ rfl) (bX3_isPlain_0 2 _ rfl) (bX3_isPlain_0 3 _ rfl)
theorem dX3_isPlain_4 : decode cX3_isPlain 4 = .ok (.iload_n 1, 1) := dz_27 (bX3_isPlain_0 4 _ rfl)
theorem dX3_isPlain_5 : decode cX3_isPlain 5 = .ok (.iconst 1, 1) := dz_4 (bX3_isPlain_0 5 _ rfl)
theorem dX3_isPlain_6 : decode cX3_isPlain 6 = .ok (.if_icmp .ne 7, 3) := dz_160 (bX3_isPlain_0 6 _ rfl) (bX3_isPlain_0 7 _ rfl) (bX3_isPlain_0 8 _ rfl)
theorem dX3_isPlain_9 : decode cX3_isPlain 9 = .ok (.iconst 1, 1) := dz_4 (bX3_isPlain_0 9 _ rfl)
theorem dX3_isPlain_10 : decode cX3_isPlain 10 = .ok (.goto 4, 3) := dz_167 (bX3_isPlain_0 10 _ rfl) (bX3_isPlain_0 11 _ rfl) (bX3_isPlain_0 12 _ rfl)
theorem dX3_isPlain_13 : decode cX3_isPlain 13 = .ok (.iconst 0, 1) := dz_3 (bX3_isPlain_0 13 _ rfl)
theorem dX3_isPlain_14 : decode cX3_isPlain 14 = .ok (.ireturn, 1) := dz_172 (bX3_isPlain_0 14 _ rfl)
def m_X3_isPlain (x1 : Int32) (σ : ch_S) : Option (Int32) := if x1 = 0 then (some (1)) else (if x1 = 1 then (some (1)) else (some (0)))
theorem s_X3_isPlain {g : State} {m : Nat} {w : ch_W} {x1 : Int32} {σ : ch_S} {res : Int32} {Q : Outcome → ch_W → Prop} (h : m_X3_isPlain x1 σ = some res) (hk : (fun r => ch_eI Q (r, ch_put m w σ)) res) : ch_CT g false yX3_isPlain 2 [.ref m, .int x1] (ch_put m w σ) Q := by
  unfold m_X3_isPlain at h
  refine ch_ctL mX3_isPlain (ls := [some (va_rf (some m)), some (.int x1)]) q2142 rfl (ch_lyr (r := some m) (ch_lyi ch_ly0)) (Nat.le_of_ble_eq_true rfl) rfl ?_
  refine ch_iload_n 1 _ dX3_isPlain_0 rfl (cp_if_eq _ (tgt := 9) dX3_isPlain_1 rfl h (fun h => ?_) (fun h => ?_))
  · obtain rfl := Option.some.inj h
    exact ch_iconst _ 1 dX3_isPlain_9 rfl (ch_goto 14 dX3_isPlain_10 rfl (ch_ireturn _ dX3_isPlain_14 rfl rfl hk))
  · refine ch_iload_n 1 _ dX3_isPlain_4 rfl (ch_iconst _ 1 dX3_isPlain_5 rfl (cp_icmp_ne _ _ (tgt := 13) dX3_isPlain_6 rfl h (fun h => ?_) (fun h => ?_)))
    · obtain rfl := Option.some.inj h
      exact ch_iconst _ 0 dX3_isPlain_13 rfl (ch_ireturn _ dX3_isPlain_14 rfl rfl hk)
    · obtain rfl := Option.some.inj h
      exact ch_iconst _ 1 dX3_isPlain_9 rfl (ch_goto 14 dX3_isPlain_10 rfl (ch_ireturn _ dX3_isPlain_14 rfl rfl hk))

theorem bX3_checkPlace_0 : ch_ck cX3_checkPlace 0 [42, 180, 0, 58, 27, 46, 62, 42, 180, 0, 25, 29, 46, 16, 18, 159] := ch_ckof (by decide +kernel)
theorem bX3_checkPlace_1 : ch_ck cX3_checkPlace 16 [0, 17, 42, 28, 42, 180, 0, 37, 29, 46, 182, 1, 243, 154, 0, 5] := ch_ckof (by decide +kernel)
theorem bX3_checkPlace_2 : ch_ck cX3_checkPlace 32 [3, 172, 42, 180, 0, 25, 29, 46, 16, 19, 160, 0, 15, 42, 180, 0] := ch_ckof (by decide +kernel)
theorem bX3_checkPlace_3 : ch_ck cX3_checkPlace 48 [134, 42, 180, 0, 34, 29, 46, 4, 84, 4, 172] := ch_ckof (by decide +kernel)
theorem dX3_checkPlace_0 : decode cX3_checkPlace 0 = .ok (.aload_n 0, 1) := dz_42 (bX3_checkPlace_0 0 _ rfl)
theorem dX3_checkPlace_1 : decode cX3_checkPlace 1 = .ok (.getfield 58, 3) := dz_180 (bX3_checkPlace_0 1 _ rfl) (bX3_checkPlace_0 2 _ rfl) (bX3_checkPlace_0 3 _ rfl)
theorem dX3_checkPlace_4 : decode cX3_checkPlace 4 = .ok (.iload_n 1, 1) := dz_27 (bX3_checkPlace_0 4 _ rfl)
theorem dX3_checkPlace_5 : decode cX3_checkPlace 5 = .ok (.iaload, 1) := dz_46 (bX3_checkPlace_0 5 _ rfl)
theorem dX3_checkPlace_6 : decode cX3_checkPlace 6 = .ok (.istore_n 3, 1) := dz_62 (bX3_checkPlace_0 6 _ rfl)
theorem dX3_checkPlace_7 : decode cX3_checkPlace 7 = .ok (.aload_n 0, 1) := dz_42 (bX3_checkPlace_0 7 _ rfl)
theorem dX3_checkPlace_8 : decode cX3_checkPlace 8 = .ok (.getfield 25, 3) := dz_180 (bX3_checkPlace_0 8 _ rfl) (bX3_checkPlace_0 9 _ rfl) (bX3_checkPlace_0 10 _ rfl)
theorem dX3_checkPlace_11 : decode cX3_checkPlace 11 = .ok (.iload_n 3, 1) := dz_29 (bX3_checkPlace_0 11 _ rfl)
theorem dX3_checkPlace_12 : decode cX3_checkPlace 12 = .ok (.iaload, 1) := dz_46 (bX3_checkPlace_0 12 _ rfl)
theorem dX3_checkPlace_13 : decode cX3_checkPlace 13 = .ok (.bipush 18, 2) := dz_16 (bX3_checkPlace_0 13 _ rfl) (bX3_checkPlace_0 14 _ rfl)
theorem dX3_checkPlace_15 : decode cX3_checkPlace 15 = .ok (.if_icmp .eq 17, 3) := dz_159 (bX3_checkPlace_0 15 _ rfl) (bX3_checkPlace_1 0 _ rfl) (bX3_checkPlace_1 1 _ rfl)
theorem dX3_checkPlace_18 : decode cX3_checkPlace 18 = .ok (.aload_n 0, 1) := dz_42 (bX3_checkPlace_1 2 _ rfl)
theorem dX3_checkPlace_19 : decode cX3_checkPlace 19 = .ok (.iload_n 2, 1) := dz_28 (bX3_checkPlace_1 3 _ rfl)
theorem dX3_checkPlace_20 : decode cX3_checkPlace 20 = .ok (.aload_n 0, 1) := dz_42 (bX3_checkPlace_1 4 _ rfl)
theorem dX3_checkPlace_21 : decode cX3_checkPlace 21 = .ok (.getfield 37, 3) := dz_180 (bX3_checkPlace_1 5 _ rfl) (bX3_checkPlace_1 6 _ rfl) (bX3_checkPlace_1 7 _ rfl)
theorem dX3_checkPlace_24 : decode cX3_checkPlace 24 = .ok (.iload_n 3, 1) := dz_29 (bX3_checkPlace_1 8 _ rfl)
theorem dX3_checkPlace_25 : decode cX3_checkPlace 25 = .ok (.iaload, 1) := dz_46 (bX3_checkPlace_1 9 _ rfl)
theorem dX3_checkPlace_26 : decode cX3_checkPlace 26 = .ok (.invokevirtual 499, 3) := dz_182 (bX3_checkPlace_1 10 _ rfl) (bX3_checkPlace_1 11 _ rfl) (bX3_checkPlace_1 12 _ rfl)
theorem dX3_checkPlace_29 : decode cX3_checkPlace 29 = .ok (.ifCond .ne 5, 3) := dz_154 (bX3_checkPlace_1 13 _ rfl) (bX3_checkPlace_1 14 _ rfl) (bX3_checkPlace_1 15 _ rfl)
theorem dX3_checkPlace_32 : decode cX3_checkPlace 32 = .ok (.iconst 0, 1) := dz_3 (bX3_checkPlace_2 0 _ rfl)
theorem dX3_checkPlace_33 : decode cX3_checkPlace 33 = .ok (.ireturn, 1) := dz_172 (bX3_checkPlace_2 1 _ rfl)
theorem dX3_checkPlace_34 : decode cX3_checkPlace 34 = .ok (.aload_n 0, 1) := dz_42 (bX3_checkPlace_2 2 _ rfl)
theorem dX3_checkPlace_35 : decode cX3_checkPlace 35 = .ok (.getfield 25, 3) := dz_180 (bX3_checkPlace_2 3 _ rfl) (bX3_checkPlace_2 4 _ rfl) (bX3_checkPlace_2 5 _ rfl)
theorem dX3_checkPlace_38 : decode cX3_checkPlace 38 = .ok (.iload_n 3, 1) := dz_29 (bX3_checkPlace_2 6 _ rfl)
theorem dX3_checkPlace_39 : decode cX3_checkPlace 39 = .ok (.iaload, 1) := dz_46 (bX3_checkPlace_2 7 _ rfl)
theorem dX3_checkPlace_40 : decode cX3_checkPlace 40 = .ok (.bipush 19, 2) := dz_16 (bX3_checkPlace_2 8 _ rfl) (bX3_checkPlace_2 9 _ rfl)
theorem dX3_checkPlace_42 : decode cX3_checkPlace 42 = .ok (.if_icmp .ne 15, 3) := dz_160 (bX3_checkPlace_2 10 _ rfl) (bX3_checkPlace_2 11 _ rfl) (bX3_checkPlace_2 12 _ rfl)
theorem dX3_checkPlace_45 : decode cX3_checkPlace 45 = .ok (.aload_n 0, 1) := dz_42 (bX3_checkPlace_2 13 _ rfl)
theorem dX3_checkPlace_46 : decode cX3_checkPlace 46 = .ok (.getfield 134, 3) := dz_180 (bX3_checkPlace_2 14 _ rfl) (bX3_checkPlace_2 15 _ rfl) (bX3_checkPlace_3 0 _ rfl)
theorem dX3_checkPlace_49 : decode cX3_checkPlace 49 = .ok (.aload_n 0, 1) := dz_42 (bX3_checkPlace_3 1 _ rfl)
theorem dX3_checkPlace_50 : decode cX3_checkPlace 50 = .ok (.getfield 34, 3) := dz_180 (bX3_checkPlace_3 2 _ rfl) (bX3_checkPlace_3 3 _ rfl) (bX3_checkPlace_3 4 _ rfl)
theorem dX3_checkPlace_53 : decode cX3_checkPlace 53 = .ok (.iload_n 3, 1) := dz_29 (bX3_checkPlace_3 5 _ rfl)
theorem dX3_checkPlace_54 : decode cX3_checkPlace 54 = .ok (.iaload, 1) := dz_46 (bX3_checkPlace_3 6 _ rfl)
theorem dX3_checkPlace_55 : decode cX3_checkPlace 55 = .ok (.iconst 1, 1) := dz_4 (bX3_checkPlace_3 7 _ rfl)
theorem dX3_checkPlace_56 : decode cX3_checkPlace 56 = .ok (.bastore, 1) := dz_84 (bX3_checkPlace_3 8 _ rfl)
theorem dX3_checkPlace_57 : decode cX3_checkPlace 57 = .ok (.iconst 1, 1) := dz_4 (bX3_checkPlace_3 9 _ rfl)
theorem dX3_checkPlace_58 : decode cX3_checkPlace 58 = .ok (.ireturn, 1) := dz_172 (bX3_checkPlace_3 10 _ rfl)
def m_X3_checkPlace (x1 : Int32) (x2 : Int32) (σ : ch_S) : Option (Int32 × ch_S) := (ch_ma σ fX3_target x1).bind fun v1 => (ch_ma σ fX3_is v1).bind fun v2 => if v2 = 18 then (some ((0, σ))) else ((ch_ma σ fX3_typeOf v1).bind fun v3 => (m_X3_isSub x2 v3 σ).bind fun v4 => if v4 = 0 then (some ((0, σ))) else ((ch_ma σ fX3_is v1).bind fun v6 => if v6 = 19 then ((ch_ma σ fX3_of v1).bind fun v7 => (ch_bit 1).bind fun _ => (ch_mw σ fX3_isSet v7 1).bind fun σ8 => some ((1, σ8))) else (some ((1, σ)))))
theorem s_X3_checkPlace {g : State} {m : Nat} {w : ch_W} {x1 : Int32} {x2 : Int32} {σ : ch_S} {res : Int32 × ch_S} {Q : Outcome → ch_W → Prop} (h : m_X3_checkPlace x1 x2 σ = some res) (hk : (fun r => ch_eI Q (r.1, ch_put m w r.2)) res) : ch_CT g false yX3_checkPlace 4 [.ref m, .int x1, .int x2] (ch_put m w σ) Q := by
  unfold m_X3_checkPlace at h
  refine ch_ctL mX3_checkPlace (ls := [some (va_rf (some m)), some (.int x1), some (.int x2), none]) q2146 rfl (ch_lyr (r := some m) (ch_lyi (ch_lyi ch_ly0))) (Nat.le_of_ble_eq_true rfl) rfl ?_
  refine ch_aload_n 0 (some m) dX3_checkPlace_0 rfl (mp_gA 30 dX3_checkPlace_1 fl_X3_58 rfl (ch_iload_n 1 _ dX3_checkPlace_4 rfl (mp_iald dX3_checkPlace_5 mk_30 h (fun v1 h => ?_))))
  refine ch_istore_n 3 _ (ls1 := [some (va_rf (some m)), some (.int x1), some (.int x2), some (.int v1)]) dX3_checkPlace_6 (Nat.le_of_ble_eq_true rfl) rfl (ch_aload_n 0 (some m) dX3_checkPlace_7 rfl (mp_gA 16 dX3_checkPlace_8 fl_X3_25 rfl (ch_iload_n 3 _ dX3_checkPlace_11 rfl (mp_iald dX3_checkPlace_12 mk_16 h (fun v2 h => ?_)))))
  refine ch_bipush _ 18 dX3_checkPlace_13 rfl (cp_icmp_eq _ _ (tgt := 32) dX3_checkPlace_15 rfl h (fun h => ?_) (fun h => ?_))
  · obtain rfl := Option.some.inj h
    exact ch_iconst _ 0 dX3_checkPlace_32 rfl (ch_ireturn _ dX3_checkPlace_33 rfl rfl hk)
  · refine ch_aload_n 0 (some m) dX3_checkPlace_18 rfl (ch_iload_n 2 _ dX3_checkPlace_19 rfl (ch_aload_n 0 (some m) dX3_checkPlace_20 rfl (mp_gA 20 dX3_checkPlace_21 fl_X3_37 rfl (ch_iload_n 3 _ dX3_checkPlace_24 rfl (mp_iald dX3_checkPlace_25 mk_20 h (fun v3 h => ?_))))))
    obtain ⟨v4, hp5, h⟩ := ch_bd h
    refine ch_iv yX3_isSub prog_14_method_46_code 3 (some .boolean) (ci := 3) (q := (RX3, TX3, 109)) (b := m) (d' := 3) (av := [.int x2, .int v3]) (rest := []) rfl dX3_checkPlace_26 q2120 q2122 rfl qs159 q2123 can_X3_isSub (Nat.le_of_ble_eq_true rfl) (Nat.le_of_ble_eq_true rfl) ch_put_tag (cp_kI (v := v4) (w1 := ch_put m w σ) (fun Q' hq => s_X3_isSub hp5 hq) ?_)
    refine cp_if_ne _ (tgt := 34) dX3_checkPlace_29 rfl h (fun h => ?_) (fun h => ?_)
    · refine ch_aload_n 0 (some m) dX3_checkPlace_34 rfl (mp_gA 16 dX3_checkPlace_35 fl_X3_25 rfl (ch_iload_n 3 _ dX3_checkPlace_38 rfl (mp_iald dX3_checkPlace_39 mk_16 h (fun v6 h => ?_))))
      refine ch_bipush _ 19 dX3_checkPlace_40 rfl (cp_icmp_ne _ _ (tgt := 57) dX3_checkPlace_42 rfl h (fun h => ?_) (fun h => ?_))
      · obtain rfl := Option.some.inj h
        exact ch_iconst _ 1 dX3_checkPlace_57 rfl (ch_ireturn _ dX3_checkPlace_58 rfl rfl hk)
      · refine ch_aload_n 0 (some m) dX3_checkPlace_45 rfl (mp_gA 65 dX3_checkPlace_46 fl_X3_134 rfl (ch_aload_n 0 (some m) dX3_checkPlace_49 rfl (mp_gA 19 dX3_checkPlace_50 fl_X3_34 rfl (ch_iload_n 3 _ dX3_checkPlace_53 rfl (mp_iald dX3_checkPlace_54 mk_19 h (fun v7 h => ?_))))))
        refine ch_iconst _ 1 dX3_checkPlace_55 rfl (mp_zast dX3_checkPlace_56 mk_65 rfl h (fun σ8 h => ?_))
        obtain rfl := Option.some.inj h
        exact ch_iconst _ 1 dX3_checkPlace_57 rfl (ch_ireturn _ dX3_checkPlace_58 rfl rfl hk)
    · obtain rfl := Option.some.inj h
      exact ch_iconst _ 0 dX3_checkPlace_32 rfl (ch_ireturn _ dX3_checkPlace_33 rfl rfl hk)

theorem bX3_keepSets_0 : ch_ck cX3_keepSets 0 [3, 61, 28, 42, 180, 1, 211, 162, 0, 42, 42, 180, 0, 138, 17, 3] := ch_ckof (by decide +kernel)
theorem bX3_keepSets_1 : ch_ck cX3_keepSets 16 [232, 27, 104, 28, 96, 42, 180, 1, 220, 154, 0, 12, 42, 180, 0, 134] := ch_ckof (by decide +kernel)
theorem bX3_keepSets_2 : ch_ck cX3_keepSets 32 [28, 51, 153, 0, 7, 4, 167, 0, 4, 3, 84, 132, 2, 1, 167, 255] := ch_ckof (by decide +kernel)
theorem bX3_keepSets_3 : ch_ck cX3_keepSets 48 [212, 177] := ch_ckof (by decide +kernel)
theorem dX3_keepSets_0 : decode cX3_keepSets 0 = .ok (.iconst 0, 1) := dz_3 (bX3_keepSets_0 0 _ rfl)
theorem dX3_keepSets_1 : decode cX3_keepSets 1 = .ok (.istore_n 2, 1) := dz_61 (bX3_keepSets_0 1 _ rfl)
theorem dX3_keepSets_2 : decode cX3_keepSets 2 = .ok (.iload_n 2, 1) := dz_28 (bX3_keepSets_0 2 _ rfl)
theorem dX3_keepSets_3 : decode cX3_keepSets 3 = .ok (.aload_n 0, 1) := dz_42 (bX3_keepSets_0 3 _ rfl)
theorem dX3_keepSets_4 : decode cX3_keepSets 4 = .ok (.getfield 467, 3) := dz_180 (bX3_keepSets_0 4 _ rfl) (bX3_keepSets_0 5 _ rfl) (bX3_keepSets_0 6 _ rfl)
theorem dX3_keepSets_7 : decode cX3_keepSets 7 = .ok (.if_icmp .ge 42, 3) := dz_162 (bX3_keepSets_0 7 _ rfl) (bX3_keepSets_0 8 _ rfl) (bX3_keepSets_0 9 _ rfl)
theorem dX3_keepSets_10 : decode cX3_keepSets 10 = .ok (.aload_n 0, 1) := dz_42 (bX3_keepSets_0 10 _ rfl)
theorem dX3_keepSets_11 : decode cX3_keepSets 11 = .ok (.getfield 138, 3) := dz_180 (bX3_keepSets_0 11 _ rfl) (bX3_keepSets_0 12 _ rfl) (bX3_keepSets_0 13 _ rfl)
theorem dX3_keepSets_14 : decode cX3_keepSets 14 = .ok (.sipush 1000, 3) := dz_17 (bX3_keepSets_0 14 _ rfl) (bX3_keepSets_0 15 _ rfl) (bX3_keepSets_1 0 _ rfl)
theorem dX3_keepSets_17 : decode cX3_keepSets 17 = .ok (.iload_n 1, 1) := dz_27 (bX3_keepSets_1 1 _ rfl)
theorem dX3_keepSets_18 : decode cX3_keepSets 18 = .ok (.imul, 1) := dz_104 (bX3_keepSets_1 2 _ rfl)
theorem dX3_keepSets_19 : decode cX3_keepSets 19 = .ok (.iload_n 2, 1) := dz_28 (bX3_keepSets_1 3 _ rfl)
theorem dX3_keepSets_20 : decode cX3_keepSets 20 = .ok (.iadd, 1) := dz_96 (bX3_keepSets_1 4 _ rfl)
theorem dX3_keepSets_21 : decode cX3_keepSets 21 = .ok (.aload_n 0, 1) := dz_42 (bX3_keepSets_1 5 _ rfl)
theorem dX3_keepSets_22 : decode cX3_keepSets 22 = .ok (.getfield 476, 3) := dz_180 (bX3_keepSets_1 6 _ rfl) (bX3_keepSets_1 7 _ rfl) (bX3_keepSets_1 8 _ rfl)
theorem dX3_keepSets_25 : decode cX3_keepSets 25 = .ok (.ifCond .ne 12, 3) := dz_154 (bX3_keepSets_1 9 _ rfl) (bX3_keepSets_1 10 _ rfl) (bX3_keepSets_1 11 _ rfl)
theorem dX3_keepSets_28 : decode cX3_keepSets 28 = .ok (.aload_n 0, 1) := dz_42 (bX3_keepSets_1 12 _ rfl)
theorem dX3_keepSets_29 : decode cX3_keepSets 29 = .ok (.getfield 134, 3) := dz_180 (bX3_keepSets_1 13 _ rfl) (bX3_keepSets_1 14 _ rfl) (bX3_keepSets_1 15 _ rfl)
theorem dX3_keepSets_32 : decode cX3_keepSets 32 = .ok (.iload_n 2, 1) := dz_28 (bX3_keepSets_2 0 _ rfl)
theorem dX3_keepSets_33 : decode cX3_keepSets 33 = .ok (.baload, 1) := dz_51 (bX3_keepSets_2 1 _ rfl)
theorem dX3_keepSets_34 : decode cX3_keepSets 34 = .ok (.ifCond .eq 7, 3) := dz_153 (bX3_keepSets_2 2 _ rfl) (bX3_keepSets_2 3 _ rfl) (bX3_keepSets_2 4 _ rfl)
theorem dX3_keepSets_37 : decode cX3_keepSets 37 = .ok (.iconst 1, 1) := dz_4 (bX3_keepSets_2 5 _ rfl)
theorem dX3_keepSets_38 : decode cX3_keepSets 38 = .ok (.goto 4, 3) := dz_167 (bX3_keepSets_2 6 _ rfl) (bX3_keepSets_2 7 _ rfl) (bX3_keepSets_2 8 _ rfl)
theorem dX3_keepSets_41 : decode cX3_keepSets 41 = .ok (.iconst 0, 1) := dz_3 (bX3_keepSets_2 9 _ rfl)
theorem dX3_keepSets_42 : decode cX3_keepSets 42 = .ok (.bastore, 1) := dz_84 (bX3_keepSets_2 10 _ rfl)
theorem dX3_keepSets_43 : decode cX3_keepSets 43 = .ok (.iinc 2 1, 3) := dz_132 (bX3_keepSets_2 11 _ rfl) (bX3_keepSets_2 12 _ rfl) (bX3_keepSets_2 13 _ rfl)
theorem dX3_keepSets_46 : decode cX3_keepSets 46 = .ok (.goto (-44), 3) := dz_167 (bX3_keepSets_2 14 _ rfl) (bX3_keepSets_2 15 _ rfl) (bX3_keepSets_3 0 _ rfl)
theorem dX3_keepSets_49 : decode cX3_keepSets 49 = .ok (.return_, 1) := dz_177 (bX3_keepSets_3 1 _ rfl)
def m_X3_keepSets_2 (x1 : Int32) (x2 : Int32)  (σ : ch_S) : Option ((Int32 × ch_S) ⊕ (ch_S)) := if x2 < (σ.1 fX3_variables) then (if (σ.1 fX3_dead) = 0 then ((ch_ma σ fX3_isSet x2).bind fun v2 => if v2 = 0 then ((ch_bit 0).bind fun _ => (ch_mw σ fX3_sets ((1000 * x1) + x2) 0).bind fun σ3 => some (.inl (x2 + 1, σ3))) else ((ch_bit 1).bind fun _ => (ch_mw σ fX3_sets ((1000 * x1) + x2) 1).bind fun σ4 => some (.inl (x2 + 1, σ4)))) else ((ch_bit 1).bind fun _ => (ch_mw σ fX3_sets ((1000 * x1) + x2) 1).bind fun σ1 => some (.inl (x2 + 1, σ1)))) else (some (.inr (σ)))
theorem s_X3_keepSets_2 {g : State} {m : Nat} {w : ch_W} {x1 : Int32} {x2 : Int32} {σ : ch_S} {res : (Int32 × ch_S) ⊕ (ch_S)} {Q : Outcome → ch_W → Prop} (h : m_X3_keepSets_2 x1 x2 σ = some res) (hk : (ch_sm (fun s => ch_FT g false mX3_keepSets 2 2 [some (va_rf (some m)), some (.int x1), some (.int s.1)] [] (ch_put m w s.2) Q) (fun r => ch_eV Q (ch_put m w r))) res) : ch_FT g false mX3_keepSets 2 2 [some (va_rf (some m)), some (.int x1), some (.int x2)] [] (ch_put m w σ) Q := by
  unfold m_X3_keepSets_2 at h
  refine ch_iload_n 2 _ dX3_keepSets_2 rfl (ch_aload_n 0 (some m) dX3_keepSets_3 rfl (mp_gI 62 dX3_keepSets_4 fl_X3_467 rfl (cp_icmp_ge _ _ (tgt := 49) dX3_keepSets_7 rfl h (fun h => ?_) (fun h => ?_))))
  · obtain rfl := Option.some.inj h
    exact ch_return dX3_keepSets_49 rfl hk
  · refine ch_aload_n 0 (some m) dX3_keepSets_10 rfl (mp_gA 67 dX3_keepSets_11 fl_X3_138 rfl (ch_sipush _ 1000 dX3_keepSets_14 rfl (ch_iload_n 1 _ dX3_keepSets_17 rfl (ch_imul _ _ dX3_keepSets_18 (ch_iload_n 2 _ dX3_keepSets_19 rfl (ch_iadd _ _ dX3_keepSets_20 (ch_aload_n 0 (some m) dX3_keepSets_21 rfl (?_))))))))
    refine mp_gI 66 dX3_keepSets_22 fl_X3_476 rfl (cp_if_ne _ (tgt := 37) dX3_keepSets_25 rfl h (fun h => ?_) (fun h => ?_))
    · refine ch_iconst _ 1 dX3_keepSets_37 rfl (ch_goto 42 dX3_keepSets_38 rfl (mp_zast dX3_keepSets_42 mk_67 rfl h (fun σ1 h => ?_)))
      refine ch_iinc 2 _ _ (x2 + 1) (ls1 := [some (va_rf (some m)), some (.int x1), some (.int (x2 + 1))]) dX3_keepSets_43 rfl rfl (Nat.le_of_ble_eq_true rfl) rfl (ch_goto 2 dX3_keepSets_46 rfl (ch_FT.wk (ch_wS (ch_wS (ch_wS ch_w0))) ?_))
      obtain rfl := Option.some.inj h
      exact hk
    · refine ch_aload_n 0 (some m) dX3_keepSets_28 rfl (mp_gA 65 dX3_keepSets_29 fl_X3_134 rfl (ch_iload_n 2 _ dX3_keepSets_32 rfl (mp_zald dX3_keepSets_33 mk_65 h (fun v2 h => ?_))))
      refine cp_if_eq _ (tgt := 41) dX3_keepSets_34 rfl h (fun h => ?_) (fun h => ?_)
      · refine ch_iconst _ 0 dX3_keepSets_41 rfl (mp_zast dX3_keepSets_42 mk_67 rfl h (fun σ3 h => ?_))
        refine ch_iinc 2 _ _ (x2 + 1) (ls1 := [some (va_rf (some m)), some (.int x1), some (.int (x2 + 1))]) dX3_keepSets_43 rfl rfl (Nat.le_of_ble_eq_true rfl) rfl (ch_goto 2 dX3_keepSets_46 rfl (ch_FT.wk (ch_wS (ch_wS (ch_wS ch_w0))) ?_))
        obtain rfl := Option.some.inj h
        exact hk
      · refine ch_iconst _ 1 dX3_keepSets_37 rfl (ch_goto 42 dX3_keepSets_38 rfl (mp_zast dX3_keepSets_42 mk_67 rfl h (fun σ4 h => ?_)))
        refine ch_iinc 2 _ _ (x2 + 1) (ls1 := [some (va_rf (some m)), some (.int x1), some (.int (x2 + 1))]) dX3_keepSets_43 rfl rfl (Nat.le_of_ble_eq_true rfl) rfl (ch_goto 2 dX3_keepSets_46 rfl (ch_FT.wk (ch_wS (ch_wS (ch_wS ch_w0))) ?_))
        obtain rfl := Option.some.inj h
        exact hk
theorem sl_X3_keepSets_2 {g : State} {m : Nat} {w : ch_W} {x1 : Int32} {a : Int32 × ch_S} {res : ch_S} {Q : Outcome → ch_W → Prop} (h : ch_loop (fun (s : Int32 × ch_S) => m_X3_keepSets_2 x1 s.1 s.2) a = some res) (hk : (fun r => ch_eV Q (ch_put m w r)) res) : ch_FT g false mX3_keepSets 2 2 [some (va_rf (some m)), some (.int x1), some (.int a.1)] [] (ch_put m w a.2) Q := by
  refine ch_loop_ind (fun (a : Int32 × ch_S) (r : ch_S) => (fun r => ch_eV Q (ch_put m w r)) r → ch_FT g false mX3_keepSets 2 2 [some (va_rf (some m)), some (.int x1), some (.int a.1)] [] (ch_put m w a.2) Q) ?_ ?_ a res h hk
  · intro a a2 b h1 ih hk
    exact s_X3_keepSets_2  h1 (ih hk)
  · intro a b h1 hk
    exact s_X3_keepSets_2  h1 hk

def m_X3_keepSets (x1 : Int32) (σ : ch_S) : Option (ch_S) := ch_loop (fun (s : Int32 × ch_S) => m_X3_keepSets_2 x1 s.1 s.2) (0, σ)
theorem s_X3_keepSets {g : State} {m : Nat} {w : ch_W} {x1 : Int32} {σ : ch_S} {res : ch_S} {Q : Outcome → ch_W → Prop} (h : m_X3_keepSets x1 σ = some res) (hk : (fun r => ch_eV Q (ch_put m w r)) res) : ch_CT g false yX3_keepSets 2 [.ref m, .int x1] (ch_put m w σ) Q := by
  unfold m_X3_keepSets at h
  refine ch_ctL mX3_keepSets (ls := [some (va_rf (some m)), some (.int x1), none]) q2154 rfl (ch_lyr (r := some m) (ch_lyi ch_ly0)) (Nat.le_of_ble_eq_true rfl) rfl ?_
  exact ch_iconst _ 0 dX3_keepSets_0 rfl (ch_istore_n 2 _ (ls1 := [some (va_rf (some m)), some (.int x1), some (.int 0)]) dX3_keepSets_1 (Nat.le_of_ble_eq_true rfl) rfl (ch_FT.wk (ch_wS (ch_wS (ch_wS ch_w0))) (sl_X3_keepSets_2  h hk)))

theorem bX3_backSets_0 : ch_ck cX3_backSets 0 [3, 61, 28, 42, 180, 1, 211, 162, 0, 27, 42, 180, 0, 134, 28, 42] := ch_ckof (by decide +kernel)
theorem bX3_backSets_1 : ch_ck cX3_backSets 16 [180, 0, 138, 17, 3, 232, 27, 104, 28, 96, 51, 84, 132, 2, 1, 167] := ch_ckof (by decide +kernel)
theorem bX3_backSets_2 : ch_ck cX3_backSets 32 [255, 227, 177] := ch_ckof (by decide +kernel)
theorem dX3_backSets_0 : decode cX3_backSets 0 = .ok (.iconst 0, 1) := dz_3 (bX3_backSets_0 0 _ rfl)
theorem dX3_backSets_1 : decode cX3_backSets 1 = .ok (.istore_n 2, 1) := dz_61 (bX3_backSets_0 1 _ rfl)
theorem dX3_backSets_2 : decode cX3_backSets 2 = .ok (.iload_n 2, 1) := dz_28 (bX3_backSets_0 2 _ rfl)
theorem dX3_backSets_3 : decode cX3_backSets 3 = .ok (.aload_n 0, 1) := dz_42 (bX3_backSets_0 3 _ rfl)
theorem dX3_backSets_4 : decode cX3_backSets 4 = .ok (.getfield 467, 3) := dz_180 (bX3_backSets_0 4 _ rfl) (bX3_backSets_0 5 _ rfl) (bX3_backSets_0 6 _ rfl)
theorem dX3_backSets_7 : decode cX3_backSets 7 = .ok (.if_icmp .ge 27, 3) := dz_162 (bX3_backSets_0 7 _ rfl) (bX3_backSets_0 8 _ rfl) (bX3_backSets_0 9 _ rfl)
theorem dX3_backSets_10 : decode cX3_backSets 10 = .ok (.aload_n 0, 1) := dz_42 (bX3_backSets_0 10 _ rfl)
theorem dX3_backSets_11 : decode cX3_backSets 11 = .ok (.getfield 134, 3) := dz_180 (bX3_backSets_0 11 _ rfl) (bX3_backSets_0 12 _ rfl) (bX3_backSets_0 13 _ rfl)
theorem dX3_backSets_14 : decode cX3_backSets 14 = .ok (.iload_n 2, 1) := dz_28 (bX3_backSets_0 14 _ rfl)
theorem dX3_backSets_15 : decode cX3_backSets 15 = .ok (.aload_n 0, 1) := dz_42 (bX3_backSets_0 15 _ rfl)
theorem dX3_backSets_16 : decode cX3_backSets 16 = .ok (.getfield 138, 3) := dz_180 (bX3_backSets_1 0 _ rfl) (bX3_backSets_1 1 _ rfl) (bX3_backSets_1 2 _ rfl)
theorem dX3_backSets_19 : decode cX3_backSets 19 = .ok (.sipush 1000, 3) := dz_17 (bX3_backSets_1 3 _ rfl) (bX3_backSets_1 4 _ rfl) (bX3_backSets_1 5 _ rfl)
theorem dX3_backSets_22 : decode cX3_backSets 22 = .ok (.iload_n 1, 1) := dz_27 (bX3_backSets_1 6 _ rfl)
theorem dX3_backSets_23 : decode cX3_backSets 23 = .ok (.imul, 1) := dz_104 (bX3_backSets_1 7 _ rfl)
theorem dX3_backSets_24 : decode cX3_backSets 24 = .ok (.iload_n 2, 1) := dz_28 (bX3_backSets_1 8 _ rfl)
theorem dX3_backSets_25 : decode cX3_backSets 25 = .ok (.iadd, 1) := dz_96 (bX3_backSets_1 9 _ rfl)
theorem dX3_backSets_26 : decode cX3_backSets 26 = .ok (.baload, 1) := dz_51 (bX3_backSets_1 10 _ rfl)
theorem dX3_backSets_27 : decode cX3_backSets 27 = .ok (.bastore, 1) := dz_84 (bX3_backSets_1 11 _ rfl)
theorem dX3_backSets_28 : decode cX3_backSets 28 = .ok (.iinc 2 1, 3) := dz_132 (bX3_backSets_1 12 _ rfl) (bX3_backSets_1 13 _ rfl) (bX3_backSets_1 14 _ rfl)
theorem dX3_backSets_31 : decode cX3_backSets 31 = .ok (.goto (-29), 3) := dz_167 (bX3_backSets_1 15 _ rfl) (bX3_backSets_2 0 _ rfl) (bX3_backSets_2 1 _ rfl)
theorem dX3_backSets_34 : decode cX3_backSets 34 = .ok (.return_, 1) := dz_177 (bX3_backSets_2 2 _ rfl)
def m_X3_backSets_2 (x1 : Int32) (x2 : Int32)  (σ : ch_S) : Option ((Int32 × ch_S) ⊕ (ch_S)) := if x2 < (σ.1 fX3_variables) then ((ch_ma σ fX3_sets ((1000 * x1) + x2)).bind fun v1 => (ch_bit v1).bind fun _ => (ch_mw σ fX3_isSet x2 v1).bind fun σ2 => some (.inl (x2 + 1, σ2))) else (some (.inr (σ)))
theorem s_X3_backSets_2 {g : State} {m : Nat} {w : ch_W} {x1 : Int32} {x2 : Int32} {σ : ch_S} {res : (Int32 × ch_S) ⊕ (ch_S)} {Q : Outcome → ch_W → Prop} (h : m_X3_backSets_2 x1 x2 σ = some res) (hk : (ch_sm (fun s => ch_FT g false mX3_backSets 2 2 [some (va_rf (some m)), some (.int x1), some (.int s.1)] [] (ch_put m w s.2) Q) (fun r => ch_eV Q (ch_put m w r))) res) : ch_FT g false mX3_backSets 2 2 [some (va_rf (some m)), some (.int x1), some (.int x2)] [] (ch_put m w σ) Q := by
  unfold m_X3_backSets_2 at h
  refine ch_iload_n 2 _ dX3_backSets_2 rfl (ch_aload_n 0 (some m) dX3_backSets_3 rfl (mp_gI 62 dX3_backSets_4 fl_X3_467 rfl (cp_icmp_ge _ _ (tgt := 34) dX3_backSets_7 rfl h (fun h => ?_) (fun h => ?_))))
  · obtain rfl := Option.some.inj h
    exact ch_return dX3_backSets_34 rfl hk
  · refine ch_aload_n 0 (some m) dX3_backSets_10 rfl (mp_gA 65 dX3_backSets_11 fl_X3_134 rfl (ch_iload_n 2 _ dX3_backSets_14 rfl (ch_aload_n 0 (some m) dX3_backSets_15 rfl (mp_gA 67 dX3_backSets_16 fl_X3_138 rfl (ch_sipush _ 1000 dX3_backSets_19 rfl (ch_iload_n 1 _ dX3_backSets_22 rfl (ch_imul _ _ dX3_backSets_23 (?_))))))))
    refine ch_iload_n 2 _ dX3_backSets_24 rfl (ch_iadd _ _ dX3_backSets_25 (mp_zald dX3_backSets_26 mk_67 h (fun v1 h => ?_)))
    refine mp_zast dX3_backSets_27 mk_65 rfl h (fun σ2 h => ?_)
    refine ch_iinc 2 _ _ (x2 + 1) (ls1 := [some (va_rf (some m)), some (.int x1), some (.int (x2 + 1))]) dX3_backSets_28 rfl rfl (Nat.le_of_ble_eq_true rfl) rfl (ch_goto 2 dX3_backSets_31 rfl (ch_FT.wk (ch_wS (ch_wS (ch_wS ch_w0))) ?_))
    obtain rfl := Option.some.inj h
    exact hk
theorem sl_X3_backSets_2 {g : State} {m : Nat} {w : ch_W} {x1 : Int32} {a : Int32 × ch_S} {res : ch_S} {Q : Outcome → ch_W → Prop} (h : ch_loop (fun (s : Int32 × ch_S) => m_X3_backSets_2 x1 s.1 s.2) a = some res) (hk : (fun r => ch_eV Q (ch_put m w r)) res) : ch_FT g false mX3_backSets 2 2 [some (va_rf (some m)), some (.int x1), some (.int a.1)] [] (ch_put m w a.2) Q := by
  refine ch_loop_ind (fun (a : Int32 × ch_S) (r : ch_S) => (fun r => ch_eV Q (ch_put m w r)) r → ch_FT g false mX3_backSets 2 2 [some (va_rf (some m)), some (.int x1), some (.int a.1)] [] (ch_put m w a.2) Q) ?_ ?_ a res h hk
  · intro a a2 b h1 ih hk
    exact s_X3_backSets_2  h1 (ih hk)
  · intro a b h1 hk
    exact s_X3_backSets_2  h1 hk

def m_X3_backSets (x1 : Int32) (σ : ch_S) : Option (ch_S) := ch_loop (fun (s : Int32 × ch_S) => m_X3_backSets_2 x1 s.1 s.2) (0, σ)
theorem s_X3_backSets {g : State} {m : Nat} {w : ch_W} {x1 : Int32} {σ : ch_S} {res : ch_S} {Q : Outcome → ch_W → Prop} (h : m_X3_backSets x1 σ = some res) (hk : (fun r => ch_eV Q (ch_put m w r)) res) : ch_CT g false yX3_backSets 2 [.ref m, .int x1] (ch_put m w σ) Q := by
  unfold m_X3_backSets at h
  refine ch_ctL mX3_backSets (ls := [some (va_rf (some m)), some (.int x1), none]) q2158 rfl (ch_lyr (r := some m) (ch_lyi ch_ly0)) (Nat.le_of_ble_eq_true rfl) rfl ?_
  exact ch_iconst _ 0 dX3_backSets_0 rfl (ch_istore_n 2 _ (ls1 := [some (va_rf (some m)), some (.int x1), some (.int 0)]) dX3_backSets_1 (Nat.le_of_ble_eq_true rfl) rfl (ch_FT.wk (ch_wS (ch_wS (ch_wS ch_w0))) (sl_X3_backSets_2  h hk)))

theorem bX3_joinSets_0 : ch_ck cX3_joinSets 0 [3, 62, 29, 42, 180, 1, 211, 162, 0, 55, 42, 180, 0, 134, 29, 42] := ch_ckof (by decide +kernel)
theorem bX3_joinSets_1 : ch_ck cX3_joinSets 16 [180, 1, 220, 154, 0, 12, 42, 180, 0, 134, 29, 51, 153, 0, 26, 28] := ch_ckof (by decide +kernel)
theorem bX3_joinSets_2 : ch_ck cX3_joinSets 32 [154, 0, 18, 42, 180, 0, 138, 17, 3, 232, 27, 104, 29, 96, 51, 153] := ch_ckof (by decide +kernel)
theorem bX3_joinSets_3 : ch_ck cX3_joinSets 48 [0, 7, 4, 167, 0, 4, 3, 84, 132, 3, 1, 167, 255, 199, 42, 42] := ch_ckof (by decide +kernel)
theorem bX3_joinSets_4 : ch_ck cX3_joinSets 64 [180, 1, 220, 153, 0, 11, 28, 153, 0, 7, 4, 167, 0, 4, 3, 181] := ch_ckof (by decide +kernel)
theorem bX3_joinSets_5 : ch_ck cX3_joinSets 80 [1, 220, 177] := ch_ckof (by decide +kernel)
theorem dX3_joinSets_0 : decode cX3_joinSets 0 = .ok (.iconst 0, 1) := dz_3 (bX3_joinSets_0 0 _ rfl)
theorem dX3_joinSets_1 : decode cX3_joinSets 1 = .ok (.istore_n 3, 1) := dz_62 (bX3_joinSets_0 1 _ rfl)
theorem dX3_joinSets_2 : decode cX3_joinSets 2 = .ok (.iload_n 3, 1) := dz_29 (bX3_joinSets_0 2 _ rfl)
theorem dX3_joinSets_3 : decode cX3_joinSets 3 = .ok (.aload_n 0, 1) := dz_42 (bX3_joinSets_0 3 _ rfl)
theorem dX3_joinSets_4 : decode cX3_joinSets 4 = .ok (.getfield 467, 3) := dz_180 (bX3_joinSets_0 4 _ rfl) (bX3_joinSets_0 5 _ rfl) (bX3_joinSets_0 6 _ rfl)
theorem dX3_joinSets_7 : decode cX3_joinSets 7 = .ok (.if_icmp .ge 55, 3) := dz_162 (bX3_joinSets_0 7 _ rfl) (bX3_joinSets_0 8 _ rfl) (bX3_joinSets_0 9 _ rfl)
theorem dX3_joinSets_10 : decode cX3_joinSets 10 = .ok (.aload_n 0, 1) := dz_42 (bX3_joinSets_0 10 _ rfl)
theorem dX3_joinSets_11 : decode cX3_joinSets 11 = .ok (.getfield 134, 3) := dz_180 (bX3_joinSets_0 11 _ rfl) (bX3_joinSets_0 12 _ rfl) (bX3_joinSets_0 13 _ rfl)
theorem dX3_joinSets_14 : decode cX3_joinSets 14 = .ok (.iload_n 3, 1) := dz_29 (bX3_joinSets_0 14 _ rfl)
theorem dX3_joinSets_15 : decode cX3_joinSets 15 = .ok (.aload_n 0, 1) := dz_42 (bX3_joinSets_0 15 _ rfl)
theorem dX3_joinSets_16 : decode cX3_joinSets 16 = .ok (.getfield 476, 3) := dz_180 (bX3_joinSets_1 0 _ rfl) (bX3_joinSets_1 1 _ rfl) (bX3_joinSets_1 2 _ rfl)
theorem dX3_joinSets_19 : decode cX3_joinSets 19 = .ok (.ifCond .ne 12, 3) := dz_154 (bX3_joinSets_1 3 _ rfl) (bX3_joinSets_1 4 _ rfl) (bX3_joinSets_1 5 _ rfl)
theorem dX3_joinSets_22 : decode cX3_joinSets 22 = .ok (.aload_n 0, 1) := dz_42 (bX3_joinSets_1 6 _ rfl)
theorem dX3_joinSets_23 : decode cX3_joinSets 23 = .ok (.getfield 134, 3) := dz_180 (bX3_joinSets_1 7 _ rfl) (bX3_joinSets_1 8 _ rfl) (bX3_joinSets_1 9 _ rfl)
theorem dX3_joinSets_26 : decode cX3_joinSets 26 = .ok (.iload_n 3, 1) := dz_29 (bX3_joinSets_1 10 _ rfl)
theorem dX3_joinSets_27 : decode cX3_joinSets 27 = .ok (.baload, 1) := dz_51 (bX3_joinSets_1 11 _ rfl)
theorem dX3_joinSets_28 : decode cX3_joinSets 28 = .ok (.ifCond .eq 26, 3) := dz_153 (bX3_joinSets_1 12 _ rfl) (bX3_joinSets_1 13 _ rfl) (bX3_joinSets_1 14 _ rfl)
theorem dX3_joinSets_31 : decode cX3_joinSets 31 = .ok (.iload_n 2, 1) := dz_28 (bX3_joinSets_1 15 _ rfl)
theorem dX3_joinSets_32 : decode cX3_joinSets 32 = .ok (.ifCond .ne 18, 3) := dz_154 (bX3_joinSets_2 0 _ rfl) (bX3_joinSets_2 1 _ rfl) (bX3_joinSets_2 2 _ rfl)
theorem dX3_joinSets_35 : decode cX3_joinSets 35 = .ok (.aload_n 0, 1) := dz_42 (bX3_joinSets_2 3 _ rfl)
theorem dX3_joinSets_36 : decode cX3_joinSets 36 = .ok (.getfield 138, 3) := dz_180 (bX3_joinSets_2 4 _ rfl) (bX3_joinSets_2 5 _ rfl) (bX3_joinSets_2 6 _ rfl)
theorem dX3_joinSets_39 : decode cX3_joinSets 39 = .ok (.sipush 1000, 3) := dz_17 (bX3_joinSets_2 7 _ rfl) (bX3_joinSets_2 8 _ rfl) (bX3_joinSets_2 9 _ rfl)
theorem dX3_joinSets_42 : decode cX3_joinSets 42 = .ok (.iload_n 1, 1) := dz_27 (bX3_joinSets_2 10 _ rfl)
theorem dX3_joinSets_43 : decode cX3_joinSets 43 = .ok (.imul, 1) := dz_104 (bX3_joinSets_2 11 _ rfl)
theorem dX3_joinSets_44 : decode cX3_joinSets 44 = .ok (.iload_n 3, 1) := dz_29 (bX3_joinSets_2 12 _ rfl)
theorem dX3_joinSets_45 : decode cX3_joinSets 45 = .ok (.iadd, 1) := dz_96 (bX3_joinSets_2 13 _ rfl)
theorem dX3_joinSets_46 : decode cX3_joinSets 46 = .ok (.baload, 1) := dz_51 (bX3_joinSets_2 14 _ rfl)
theorem dX3_joinSets_47 : decode cX3_joinSets 47 = .ok (.ifCond .eq 7, 3) := dz_153 (bX3_joinSets_2 15 _ rfl) (bX3_joinSets_3 0 _ rfl) (bX3_joinSets_3 1 _ rfl)
theorem dX3_joinSets_50 : decode cX3_joinSets 50 = .ok (.iconst 1, 1) := dz_4 (bX3_joinSets_3 2 _ rfl)
theorem dX3_joinSets_51 : decode cX3_joinSets 51 = .ok (.goto 4, 3) := dz_167 (bX3_joinSets_3 3 _ rfl) (bX3_joinSets_3 4 _ rfl) (bX3_joinSets_3 5 _ rfl)
theorem dX3_joinSets_54 : decode cX3_joinSets 54 = .ok (.iconst 0, 1) := dz_3 (bX3_joinSets_3 6 _ rfl)
theorem dX3_joinSets_55 : decode cX3_joinSets 55 = .ok (.bastore, 1) := dz_84 (bX3_joinSets_3 7 _ rfl)
theorem dX3_joinSets_56 : decode cX3_joinSets 56 = .ok (.iinc 3 1, 3) := dz_132 (bX3_joinSets_3 8 _ rfl) (bX3_joinSets_3 9 _ rfl) (bX3_joinSets_3 10 _ rfl)
theorem dX3_joinSets_59 : decode cX3_joinSets 59 = .ok (.goto (-57), 3) := dz_167 (bX3_joinSets_3 11 _ rfl) (bX3_joinSets_3 12 _ rfl) (bX3_joinSets_3 13 _ rfl)
theorem dX3_joinSets_62 : decode cX3_joinSets 62 = .ok (.aload_n 0, 1) := dz_42 (bX3_joinSets_3 14 _ rfl)
theorem dX3_joinSets_63 : decode cX3_joinSets 63 = .ok (.aload_n 0, 1) := dz_42 (bX3_joinSets_3 15 _ rfl)
theorem dX3_joinSets_64 : decode cX3_joinSets 64 = .ok (.getfield 476, 3) := dz_180 (bX3_joinSets_4 0 _ rfl) (bX3_joinSets_4 1 _ rfl) (bX3_joinSets_4 2 _ rfl)
theorem dX3_joinSets_67 : decode cX3_joinSets 67 = .ok (.ifCond .eq 11, 3) := dz_153 (bX3_joinSets_4 3 _ rfl) (bX3_joinSets_4 4 _ rfl) (bX3_joinSets_4 5 _ rfl)
theorem dX3_joinSets_70 : decode cX3_joinSets 70 = .ok (.iload_n 2, 1) := dz_28 (bX3_joinSets_4 6 _ rfl)
theorem dX3_joinSets_71 : decode cX3_joinSets 71 = .ok (.ifCond .eq 7, 3) := dz_153 (bX3_joinSets_4 7 _ rfl) (bX3_joinSets_4 8 _ rfl) (bX3_joinSets_4 9 _ rfl)
theorem dX3_joinSets_74 : decode cX3_joinSets 74 = .ok (.iconst 1, 1) := dz_4 (bX3_joinSets_4 10 _ rfl)
theorem dX3_joinSets_75 : decode cX3_joinSets 75 = .ok (.goto 4, 3) := dz_167 (bX3_joinSets_4 11 _ rfl) (bX3_joinSets_4 12 _ rfl) (bX3_joinSets_4 13 _ rfl)
theorem dX3_joinSets_78 : decode cX3_joinSets 78 = .ok (.iconst 0, 1) := dz_3 (bX3_joinSets_4 14 _ rfl)
theorem dX3_joinSets_79 : decode cX3_joinSets 79 = .ok (.putfield 476, 3) := dz_181 (bX3_joinSets_4 15 _ rfl) (bX3_joinSets_5 0 _ rfl) (bX3_joinSets_5 1 _ rfl)
theorem dX3_joinSets_82 : decode cX3_joinSets 82 = .ok (.return_, 1) := dz_177 (bX3_joinSets_5 2 _ rfl)
def m_X3_joinSets_31 (x1 : Int32) (x2 : Int32) (x3 : Int32) (y0 : Int32) (σ : ch_S) : Option ((Int32 × ch_S) ⊕ (ch_S)) := if x2 = 0 then ((ch_ma σ fX3_sets ((1000 * x1) + x3)).bind fun v2 => if v2 = 0 then ((ch_bit 0).bind fun _ => (ch_mw σ fX3_isSet y0 0).bind fun σ3 => some (.inl (x3 + 1, σ3))) else ((ch_bit 1).bind fun _ => (ch_mw σ fX3_isSet y0 1).bind fun σ4 => some (.inl (x3 + 1, σ4)))) else ((ch_bit 1).bind fun _ => (ch_mw σ fX3_isSet y0 1).bind fun σ1 => some (.inl (x3 + 1, σ1)))
theorem s_X3_joinSets_31 {g : State} {m : Nat} {w : ch_W} {x1 : Int32} {x2 : Int32} {x3 : Int32} {y0 : Int32} {σ : ch_S} {res : (Int32 × ch_S) ⊕ (ch_S)} {Q : Outcome → ch_W → Prop} (h : m_X3_joinSets_31 x1 x2 x3 y0 σ = some res) (hk : (ch_sm (fun s => ch_FT g false mX3_joinSets 2 2 [some (va_rf (some m)), some (.int x1), some (.int x2), some (.int s.1)] [] (ch_put m w s.2) Q) (fun r => ch_eV Q (ch_put m w r))) res) : ch_FT g false mX3_joinSets 2 31 [some (va_rf (some m)), some (.int x1), some (.int x2), some (.int x3)] [.int y0, va_rf (ch_mr m fX3_isSet)] (ch_put m w σ) Q := by
  unfold m_X3_joinSets_31 at h
  refine ch_iload_n 2 _ dX3_joinSets_31 rfl (cp_if_ne _ (tgt := 50) dX3_joinSets_32 rfl h (fun h => ?_) (fun h => ?_))
  · refine ch_iconst _ 1 dX3_joinSets_50 rfl (ch_goto 55 dX3_joinSets_51 rfl (mp_zast dX3_joinSets_55 mk_65 rfl h (fun σ1 h => ?_)))
    refine ch_iinc 3 _ _ (x3 + 1) (ls1 := [some (va_rf (some m)), some (.int x1), some (.int x2), some (.int (x3 + 1))]) dX3_joinSets_56 rfl rfl (Nat.le_of_ble_eq_true rfl) rfl (ch_goto 2 dX3_joinSets_59 rfl (ch_FT.wk (ch_wS (ch_wS (ch_wS (ch_wS ch_w0)))) ?_))
    obtain rfl := Option.some.inj h
    exact hk
  · refine ch_aload_n 0 (some m) dX3_joinSets_35 rfl (mp_gA 67 dX3_joinSets_36 fl_X3_138 rfl (ch_sipush _ 1000 dX3_joinSets_39 rfl (ch_iload_n 1 _ dX3_joinSets_42 rfl (ch_imul _ _ dX3_joinSets_43 (ch_iload_n 3 _ dX3_joinSets_44 rfl (ch_iadd _ _ dX3_joinSets_45 (mp_zald dX3_joinSets_46 mk_67 h (fun v2 h => ?_))))))))
    refine cp_if_eq _ (tgt := 54) dX3_joinSets_47 rfl h (fun h => ?_) (fun h => ?_)
    · refine ch_iconst _ 0 dX3_joinSets_54 rfl (mp_zast dX3_joinSets_55 mk_65 rfl h (fun σ3 h => ?_))
      refine ch_iinc 3 _ _ (x3 + 1) (ls1 := [some (va_rf (some m)), some (.int x1), some (.int x2), some (.int (x3 + 1))]) dX3_joinSets_56 rfl rfl (Nat.le_of_ble_eq_true rfl) rfl (ch_goto 2 dX3_joinSets_59 rfl (ch_FT.wk (ch_wS (ch_wS (ch_wS (ch_wS ch_w0)))) ?_))
      obtain rfl := Option.some.inj h
      exact hk
    · refine ch_iconst _ 1 dX3_joinSets_50 rfl (ch_goto 55 dX3_joinSets_51 rfl (mp_zast dX3_joinSets_55 mk_65 rfl h (fun σ4 h => ?_)))
      refine ch_iinc 3 _ _ (x3 + 1) (ls1 := [some (va_rf (some m)), some (.int x1), some (.int x2), some (.int (x3 + 1))]) dX3_joinSets_56 rfl rfl (Nat.le_of_ble_eq_true rfl) rfl (ch_goto 2 dX3_joinSets_59 rfl (ch_FT.wk (ch_wS (ch_wS (ch_wS (ch_wS ch_w0)))) ?_))
      obtain rfl := Option.some.inj h
      exact hk

def m_X3_joinSets_2 (x1 : Int32) (x2 : Int32) (x3 : Int32)  (σ : ch_S) : Option ((Int32 × ch_S) ⊕ (ch_S)) := if x3 < (σ.1 fX3_variables) then (if (σ.1 fX3_dead) = 0 then ((ch_ma σ fX3_isSet x3).bind fun v4 => if v4 = 0 then ((ch_bit 0).bind fun _ => (ch_mw σ fX3_isSet x3 0).bind fun σ5 => some (.inl (x3 + 1, σ5))) else (m_X3_joinSets_31 x1 x2 x3 x3 σ)) else (m_X3_joinSets_31 x1 x2 x3 x3 σ)) else (if (σ.1 fX3_dead) = 0 then ((ch_bit 0).bind fun _ => (ch_mI σ fX3_dead 0).bind fun σ1 => some (.inr (σ1))) else (if x2 = 0 then ((ch_bit 0).bind fun _ => (ch_mI σ fX3_dead 0).bind fun σ2 => some (.inr (σ2))) else ((ch_bit 1).bind fun _ => (ch_mI σ fX3_dead 1).bind fun σ3 => some (.inr (σ3)))))
theorem s_X3_joinSets_2 {g : State} {m : Nat} {w : ch_W} {x1 : Int32} {x2 : Int32} {x3 : Int32} {σ : ch_S} {res : (Int32 × ch_S) ⊕ (ch_S)} {Q : Outcome → ch_W → Prop} (h : m_X3_joinSets_2 x1 x2 x3 σ = some res) (hk : (ch_sm (fun s => ch_FT g false mX3_joinSets 2 2 [some (va_rf (some m)), some (.int x1), some (.int x2), some (.int s.1)] [] (ch_put m w s.2) Q) (fun r => ch_eV Q (ch_put m w r))) res) : ch_FT g false mX3_joinSets 2 2 [some (va_rf (some m)), some (.int x1), some (.int x2), some (.int x3)] [] (ch_put m w σ) Q := by
  unfold m_X3_joinSets_2 at h
  refine ch_iload_n 3 _ dX3_joinSets_2 rfl (ch_aload_n 0 (some m) dX3_joinSets_3 rfl (mp_gI 62 dX3_joinSets_4 fl_X3_467 rfl (cp_icmp_ge _ _ (tgt := 62) dX3_joinSets_7 rfl h (fun h => ?_) (fun h => ?_))))
  · refine ch_aload_n 0 (some m) dX3_joinSets_62 rfl (ch_aload_n 0 (some m) dX3_joinSets_63 rfl (mp_gI 66 dX3_joinSets_64 fl_X3_476 rfl (cp_if_eq _ (tgt := 78) dX3_joinSets_67 rfl h (fun h => ?_) (fun h => ?_))))
    · refine ch_iconst _ 0 dX3_joinSets_78 rfl (mp_pZ (k := 66) dX3_joinSets_79 fl_X3_476 rfl rfl rfl h (fun σ1 h => ?_))
      obtain rfl := Option.some.inj h
      exact ch_return dX3_joinSets_82 rfl hk
    · refine ch_iload_n 2 _ dX3_joinSets_70 rfl (cp_if_eq _ (tgt := 78) dX3_joinSets_71 rfl h (fun h => ?_) (fun h => ?_))
      · refine ch_iconst _ 0 dX3_joinSets_78 rfl (mp_pZ (k := 66) dX3_joinSets_79 fl_X3_476 rfl rfl rfl h (fun σ2 h => ?_))
        obtain rfl := Option.some.inj h
        exact ch_return dX3_joinSets_82 rfl hk
      · refine ch_iconst _ 1 dX3_joinSets_74 rfl (ch_goto 79 dX3_joinSets_75 rfl (mp_pZ (k := 66) dX3_joinSets_79 fl_X3_476 rfl rfl rfl h (fun σ3 h => ?_)))
        obtain rfl := Option.some.inj h
        exact ch_return dX3_joinSets_82 rfl hk
  · refine ch_aload_n 0 (some m) dX3_joinSets_10 rfl (mp_gA 65 dX3_joinSets_11 fl_X3_134 rfl (ch_iload_n 3 _ dX3_joinSets_14 rfl (ch_aload_n 0 (some m) dX3_joinSets_15 rfl (mp_gI 66 dX3_joinSets_16 fl_X3_476 rfl (cp_if_ne _ (tgt := 31) dX3_joinSets_19 rfl h (fun h => ?_) (fun h => ?_))))))
    · exact ch_FT.wk (ch_wS (ch_wS (ch_wS (ch_wS ch_w0)))) (s_X3_joinSets_31  h hk)
    · refine ch_aload_n 0 (some m) dX3_joinSets_22 rfl (mp_gA 65 dX3_joinSets_23 fl_X3_134 rfl (ch_iload_n 3 _ dX3_joinSets_26 rfl (mp_zald dX3_joinSets_27 mk_65 h (fun v4 h => ?_))))
      refine cp_if_eq _ (tgt := 54) dX3_joinSets_28 rfl h (fun h => ?_) (fun h => ?_)
      · refine ch_iconst _ 0 dX3_joinSets_54 rfl (mp_zast dX3_joinSets_55 mk_65 rfl h (fun σ5 h => ?_))
        refine ch_iinc 3 _ _ (x3 + 1) (ls1 := [some (va_rf (some m)), some (.int x1), some (.int x2), some (.int (x3 + 1))]) dX3_joinSets_56 rfl rfl (Nat.le_of_ble_eq_true rfl) rfl (ch_goto 2 dX3_joinSets_59 rfl (ch_FT.wk (ch_wS (ch_wS (ch_wS (ch_wS ch_w0)))) ?_))
        obtain rfl := Option.some.inj h
        exact hk
      · exact ch_FT.wk (ch_wS (ch_wS (ch_wS (ch_wS ch_w0)))) (s_X3_joinSets_31  h hk)
theorem sl_X3_joinSets_2 {g : State} {m : Nat} {w : ch_W} {x1 : Int32} {x2 : Int32} {a : Int32 × ch_S} {res : ch_S} {Q : Outcome → ch_W → Prop} (h : ch_loop (fun (s : Int32 × ch_S) => m_X3_joinSets_2 x1 x2 s.1 s.2) a = some res) (hk : (fun r => ch_eV Q (ch_put m w r)) res) : ch_FT g false mX3_joinSets 2 2 [some (va_rf (some m)), some (.int x1), some (.int x2), some (.int a.1)] [] (ch_put m w a.2) Q := by
  refine ch_loop_ind (fun (a : Int32 × ch_S) (r : ch_S) => (fun r => ch_eV Q (ch_put m w r)) r → ch_FT g false mX3_joinSets 2 2 [some (va_rf (some m)), some (.int x1), some (.int x2), some (.int a.1)] [] (ch_put m w a.2) Q) ?_ ?_ a res h hk
  · intro a a2 b h1 ih hk
    exact s_X3_joinSets_2  h1 (ih hk)
  · intro a b h1 hk
    exact s_X3_joinSets_2  h1 hk

def m_X3_joinSets (x1 : Int32) (x2 : Int32) (σ : ch_S) : Option (ch_S) := ch_loop (fun (s : Int32 × ch_S) => m_X3_joinSets_2 x1 x2 s.1 s.2) (0, σ)
theorem s_X3_joinSets {g : State} {m : Nat} {w : ch_W} {x1 : Int32} {x2 : Int32} {σ : ch_S} {res : ch_S} {Q : Outcome → ch_W → Prop} (h : m_X3_joinSets x1 x2 σ = some res) (hk : (fun r => ch_eV Q (ch_put m w r)) res) : ch_CT g false yX3_joinSets 2 [.ref m, .int x1, .int x2] (ch_put m w σ) Q := by
  unfold m_X3_joinSets at h
  refine ch_ctL mX3_joinSets (ls := [some (va_rf (some m)), some (.int x1), some (.int x2), none]) q2162 rfl (ch_lyr (r := some m) (ch_lyi (ch_lyi ch_ly0))) (Nat.le_of_ble_eq_true rfl) rfl ?_
  exact ch_iconst _ 0 dX3_joinSets_0 rfl (ch_istore_n 3 _ (ls1 := [some (va_rf (some m)), some (.int x1), some (.int x2), some (.int 0)]) dX3_joinSets_1 (Nat.le_of_ble_eq_true rfl) rfl (ch_FT.wk (ch_wS (ch_wS (ch_wS (ch_wS ch_w0)))) (sl_X3_joinSets_2  h hk)))

theorem bX3_checkBlock_0 : ch_ck cX3_checkBlock 0 [42, 180, 1, 211, 62, 27, 54, 4, 21, 4, 155, 0, 29, 42, 180, 1] := ch_ckof (by decide +kernel)
theorem bX3_checkBlock_1 : ch_ck cX3_checkBlock 16 [153, 156, 0, 22, 42, 21, 4, 28, 182, 1, 230, 42, 180, 0, 76, 21] := ch_ckof (by decide +kernel)
theorem bX3_checkBlock_2 : ch_ck cX3_checkBlock 32 [4, 46, 54, 4, 167, 255, 228, 42, 29, 181, 1, 211, 177] := ch_ckof (by decide +kernel)
theorem dX3_checkBlock_0 : decode cX3_checkBlock 0 = .ok (.aload_n 0, 1) := dz_42 (bX3_checkBlock_0 0 _ rfl)
theorem dX3_checkBlock_1 : decode cX3_checkBlock 1 = .ok (.getfield 467, 3) := dz_180 (bX3_checkBlock_0 1 _ rfl) (bX3_checkBlock_0 2 _ rfl) (bX3_checkBlock_0 3 _ rfl)
theorem dX3_checkBlock_4 : decode cX3_checkBlock 4 = .ok (.istore_n 3, 1) := dz_62 (bX3_checkBlock_0 4 _ rfl)
theorem dX3_checkBlock_5 : decode cX3_checkBlock 5 = .ok (.iload_n 1, 1) := dz_27 (bX3_checkBlock_0 5 _ rfl)
theorem dX3_checkBlock_6 : decode cX3_checkBlock 6 = .ok (.istore 4, 2) := dz_54 (bX3_checkBlock_0 6 _ rfl) (bX3_checkBlock_0 7 _ rfl)
theorem dX3_checkBlock_8 : decode cX3_checkBlock 8 = .ok (.iload 4, 2) := dz_21 (bX3_checkBlock_0 8 _ rfl) (bX3_checkBlock_0 9 _ rfl)
theorem dX3_checkBlock_10 : decode cX3_checkBlock 10 = .ok (.ifCond .lt 29, 3) := dz_155 (bX3_checkBlock_0 10 _ rfl) (bX3_checkBlock_0 11 _ rfl) (bX3_checkBlock_0 12 _ rfl)
theorem dX3_checkBlock_13 : decode cX3_checkBlock 13 = .ok (.aload_n 0, 1) := dz_42 (bX3_checkBlock_0 13 _ rfl)
theorem dX3_checkBlock_14 : decode cX3_checkBlock 14 = .ok (.getfield 409, 3) := dz_180 (bX3_checkBlock_0 14 _ rfl) (bX3_checkBlock_0 15 _ rfl) (bX3_checkBlock_1 0 _ rfl)
theorem dX3_checkBlock_17 : decode cX3_checkBlock 17 = .ok (.ifCond .ge 22, 3) := dz_156 (bX3_checkBlock_1 1 _ rfl) (bX3_checkBlock_1 2 _ rfl) (bX3_checkBlock_1 3 _ rfl)
theorem dX3_checkBlock_20 : decode cX3_checkBlock 20 = .ok (.aload_n 0, 1) := dz_42 (bX3_checkBlock_1 4 _ rfl)
theorem dX3_checkBlock_21 : decode cX3_checkBlock 21 = .ok (.iload 4, 2) := dz_21 (bX3_checkBlock_1 5 _ rfl) (bX3_checkBlock_1 6 _ rfl)
theorem dX3_checkBlock_23 : decode cX3_checkBlock 23 = .ok (.iload_n 2, 1) := dz_28 (bX3_checkBlock_1 7 _ rfl)
theorem dX3_checkBlock_24 : decode cX3_checkBlock 24 = .ok (.invokevirtual 486, 3) := dz_182 (bX3_checkBlock_1 8 _ rfl) (bX3_checkBlock_1 9 _ rfl) (bX3_checkBlock_1 10 _ rfl)
theorem dX3_checkBlock_27 : decode cX3_checkBlock 27 = .ok (.aload_n 0, 1) := dz_42 (bX3_checkBlock_1 11 _ rfl)
theorem dX3_checkBlock_28 : decode cX3_checkBlock 28 = .ok (.getfield 76, 3) := dz_180 (bX3_checkBlock_1 12 _ rfl) (bX3_checkBlock_1 13 _ rfl) (bX3_checkBlock_1 14 _ rfl)
theorem dX3_checkBlock_31 : decode cX3_checkBlock 31 = .ok (.iload 4, 2) := dz_21 (bX3_checkBlock_1 15 _ rfl) (bX3_checkBlock_2 0 _ rfl)
theorem dX3_checkBlock_33 : decode cX3_checkBlock 33 = .ok (.iaload, 1) := dz_46 (bX3_checkBlock_2 1 _ rfl)
theorem dX3_checkBlock_34 : decode cX3_checkBlock 34 = .ok (.istore 4, 2) := dz_54 (bX3_checkBlock_2 2 _ rfl) (bX3_checkBlock_2 3 _ rfl)
theorem dX3_checkBlock_36 : decode cX3_checkBlock 36 = .ok (.goto (-28), 3) := dz_167 (bX3_checkBlock_2 4 _ rfl) (bX3_checkBlock_2 5 _ rfl) (bX3_checkBlock_2 6 _ rfl)
theorem dX3_checkBlock_39 : decode cX3_checkBlock 39 = .ok (.aload_n 0, 1) := dz_42 (bX3_checkBlock_2 7 _ rfl)
theorem dX3_checkBlock_40 : decode cX3_checkBlock 40 = .ok (.iload_n 3, 1) := dz_29 (bX3_checkBlock_2 8 _ rfl)
theorem dX3_checkBlock_41 : decode cX3_checkBlock 41 = .ok (.putfield 467, 3) := dz_181 (bX3_checkBlock_2 9 _ rfl) (bX3_checkBlock_2 10 _ rfl) (bX3_checkBlock_2 11 _ rfl)
theorem dX3_checkBlock_44 : decode cX3_checkBlock 44 = .ok (.return_, 1) := dz_177 (bX3_checkBlock_2 12 _ rfl)
def m_X3_checkBlock_8 (rc : Nat → Int32 → Int32 → ch_S → Option (ch_S)) (x2 : Int32) (x3 : Int32) (x4 : Int32)  (σ : ch_S) : Option ((Int32 × ch_S) ⊕ (ch_S)) := if x4 < 0 then ((ch_mI σ fX3_variables x3).bind fun σ1 => some (.inr (σ1))) else (if (σ.1 fX3_bad) < 0 then ((rc 1 x4 x2 σ).bind fun p3 => (ch_ma p3 fX3_nextOf x4).bind fun v5 => some (.inl (v5, p3))) else ((ch_mI σ fX3_variables x3).bind fun σ2 => some (.inr (σ2))))
theorem s_X3_checkBlock_8 {g : State} {d : Nat} {rc : Nat → Int32 → Int32 → ch_S → Option (ch_S)} {m : Nat} {w : ch_W} (hr1 : ∀ {z0 : Int32} {z1 : Int32} {σ : ch_S} {p : ch_S} {Q : Outcome → ch_W → Prop}, rc 1 z0 z1 σ = some p → ch_eV Q (ch_put m w p) → ch_CT g false yX3_checkOne (d + 7) [.ref m, .int z0, .int z1] (ch_put m w σ) Q)  {x2 : Int32} {x3 : Int32} {x4 : Int32} {σ : ch_S} {res : (Int32 × ch_S) ⊕ (ch_S)} {Q : Outcome → ch_W → Prop} (h : m_X3_checkBlock_8 rc x2 x3 x4 σ = some res) (hk : (ch_sm (fun s => ch_FT g false mX3_checkBlock (d + 8) 8 [some (va_rf (some m)), none, some (.int x2), some (.int x3), some (.int s.1)] [] (ch_put m w s.2) Q) (fun r => ch_eV Q (ch_put m w r))) res) : ch_FT g false mX3_checkBlock (d + 8) 8 [some (va_rf (some m)), none, some (.int x2), some (.int x3), some (.int x4)] [] (ch_put m w σ) Q := by
  unfold m_X3_checkBlock_8 at h
  refine ch_iload 4 _ dX3_checkBlock_8 rfl (cp_if_lt _ (tgt := 39) dX3_checkBlock_10 rfl h (fun h => ?_) (fun h => ?_))
  · refine ch_aload_n 0 (some m) dX3_checkBlock_39 rfl (ch_iload_n 3 _ dX3_checkBlock_40 rfl (mp_pI (k := 62) dX3_checkBlock_41 fl_X3_467 rfl rfl rfl h (fun σ1 h => ?_)))
    obtain rfl := Option.some.inj h
    exact ch_return dX3_checkBlock_44 rfl hk
  · refine ch_aload_n 0 (some m) dX3_checkBlock_13 rfl (mp_gI 58 dX3_checkBlock_14 fl_X3_409 rfl (cp_if_ge _ (tgt := 39) dX3_checkBlock_17 rfl h (fun h => ?_) (fun h => ?_)))
    · refine ch_aload_n 0 (some m) dX3_checkBlock_39 rfl (ch_iload_n 3 _ dX3_checkBlock_40 rfl (mp_pI (k := 62) dX3_checkBlock_41 fl_X3_467 rfl rfl rfl h (fun σ2 h => ?_)))
      obtain rfl := Option.some.inj h
      exact ch_return dX3_checkBlock_44 rfl hk
    · obtain ⟨p3, hp4, h⟩ := ch_bd h
      refine ch_aload_n 0 (some m) dX3_checkBlock_20 rfl (ch_iload 4 _ dX3_checkBlock_21 rfl (ch_iload_n 2 _ dX3_checkBlock_23 rfl (ch_iv yX3_checkOne prog_14_method_63_code 8 none (ci := 3) (q := (RX3, TX3, 109)) (b := m) (d' := (d + 7)) (av := [.int x4, .int x2]) (rest := []) rfl dX3_checkBlock_24 q2088 q2090 rfl qs151 q2091 can_X3_checkOne (Nat.le_refl _) (Nat.le_of_ble_eq_true rfl) ch_put_tag (cp_kV (w1 := ch_put m w p3) (fun Q' hq => hr1 hp4 hq) ?_))))
      refine ch_aload_n 0 (some m) dX3_checkBlock_27 rfl (mp_gA 36 dX3_checkBlock_28 fl_X3_76 rfl (ch_iload 4 _ dX3_checkBlock_31 rfl (mp_iald dX3_checkBlock_33 mk_36 h (fun v5 h => ?_))))
      refine ch_istore 4 _ (ls1 := [some (va_rf (some m)), none, some (.int x2), some (.int x3), some (.int v5)]) dX3_checkBlock_34 (Nat.le_of_ble_eq_true rfl) rfl (ch_goto 8 dX3_checkBlock_36 rfl (ch_FT.wk (ch_wS (ch_wN (ch_wS (ch_wS (ch_wS ch_w0))))) ?_))
      obtain rfl := Option.some.inj h
      exact hk
theorem sl_X3_checkBlock_8 {g : State} {d : Nat} {rc : Nat → Int32 → Int32 → ch_S → Option (ch_S)} {m : Nat} {w : ch_W} (hr1 : ∀ {z0 : Int32} {z1 : Int32} {σ : ch_S} {p : ch_S} {Q : Outcome → ch_W → Prop}, rc 1 z0 z1 σ = some p → ch_eV Q (ch_put m w p) → ch_CT g false yX3_checkOne (d + 7) [.ref m, .int z0, .int z1] (ch_put m w σ) Q)  {x2 : Int32} {x3 : Int32} {a : Int32 × ch_S} {res : ch_S} {Q : Outcome → ch_W → Prop} (h : ch_loop (fun (s : Int32 × ch_S) => m_X3_checkBlock_8 rc x2 x3 s.1 s.2) a = some res) (hk : (fun r => ch_eV Q (ch_put m w r)) res) : ch_FT g false mX3_checkBlock (d + 8) 8 [some (va_rf (some m)), none, some (.int x2), some (.int x3), some (.int a.1)] [] (ch_put m w a.2) Q := by
  refine ch_loop_ind (fun (a : Int32 × ch_S) (r : ch_S) => (fun r => ch_eV Q (ch_put m w r)) r → ch_FT g false mX3_checkBlock (d + 8) 8 [some (va_rf (some m)), none, some (.int x2), some (.int x3), some (.int a.1)] [] (ch_put m w a.2) Q) ?_ ?_ a res h hk
  · intro a a2 b h1 ih hk
    exact s_X3_checkBlock_8 hr1 h1 (ih hk)
  · intro a b h1 hk
    exact s_X3_checkBlock_8 hr1 h1 hk

def m_X3_checkBlock (rc : Nat → Int32 → Int32 → ch_S → Option (ch_S)) (x1 : Int32) (x2 : Int32) (σ : ch_S) : Option (ch_S) := ch_loop (fun (s : Int32 × ch_S) => m_X3_checkBlock_8 rc x2 (σ.1 fX3_variables) s.1 s.2) (x1, σ)
theorem s_X3_checkBlock {g : State} {d : Nat} {rc : Nat → Int32 → Int32 → ch_S → Option (ch_S)} {m : Nat} {w : ch_W} (hr1 : ∀ {z0 : Int32} {z1 : Int32} {σ : ch_S} {p : ch_S} {Q : Outcome → ch_W → Prop}, rc 1 z0 z1 σ = some p → ch_eV Q (ch_put m w p) → ch_CT g false yX3_checkOne (d + 7) [.ref m, .int z0, .int z1] (ch_put m w σ) Q)  {x1 : Int32} {x2 : Int32} {σ : ch_S} {res : ch_S} {Q : Outcome → ch_W → Prop} (h : m_X3_checkBlock rc x1 x2 σ = some res) (hk : (fun r => ch_eV Q (ch_put m w r)) res) : ch_CT g false yX3_checkBlock (d + 8) [.ref m, .int x1, .int x2] (ch_put m w σ) Q := by
  unfold m_X3_checkBlock at h
  refine ch_ctL mX3_checkBlock (ls := [some (va_rf (some m)), some (.int x1), some (.int x2), none, none]) q2087 rfl (ch_lyr (r := some m) (ch_lyi (ch_lyi ch_ly0))) (Nat.le_of_ble_eq_true rfl) rfl ?_
  exact ch_aload_n 0 (some m) dX3_checkBlock_0 rfl (mp_gI 62 dX3_checkBlock_1 fl_X3_467 rfl (ch_istore_n 3 _ (ls1 := [some (va_rf (some m)), some (.int x1), some (.int x2), some (.int (σ.1 fX3_variables)), none]) dX3_checkBlock_4 (Nat.le_of_ble_eq_true rfl) rfl (ch_iload_n 1 _ dX3_checkBlock_5 rfl (ch_istore 4 _ (ls1 := [some (va_rf (some m)), some (.int x1), some (.int x2), some (.int (σ.1 fX3_variables)), some (.int x1)]) dX3_checkBlock_6 (Nat.le_of_ble_eq_true rfl) rfl (ch_FT.wk (ch_wS (ch_wN (ch_wS (ch_wS (ch_wS ch_w0))))) (sl_X3_checkBlock_8 hr1 h hk))))))

theorem bX3_checkOne_0 : ch_ck cX3_checkOne 0 [42, 180, 0, 46, 27, 46, 62, 42, 180, 0, 55, 27, 46, 54, 4, 21] := ch_ckof (by decide +kernel)
theorem bX3_checkOne_1 : ch_ck cX3_checkOne 16 [4, 155, 0, 19, 42, 27, 42, 180, 0, 52, 27, 46, 21, 4, 182, 1] := ch_ckof (by decide +kernel)
theorem bX3_checkOne_2 : ch_ck cX3_checkOne 32 [233, 153, 0, 7, 4, 167, 0, 4, 3, 54, 5, 42, 27, 182, 1, 237] := ch_ckof (by decide +kernel)
theorem bX3_checkOne_3 : ch_ck cX3_checkOne 48 [54, 6, 29, 170, 0, 0, 1, 59, 0, 0, 0, 0, 0, 0, 0, 8] := ch_ckof (by decide +kernel)
theorem bX3_checkOne_4 : ch_ck cX3_checkOne 64 [0, 0, 0, 49, 0, 0, 1, 38, 0, 0, 1, 38, 0, 0, 0, 202] := ch_ckof (by decide +kernel)
theorem bX3_checkOne_5 : ch_ck cX3_checkOne 80 [0, 0, 0, 180, 0, 0, 1, 59, 0, 0, 0, 156, 0, 0, 1, 59] := ch_ckof (by decide +kernel)
theorem bX3_checkOne_6 : ch_ck cX3_checkOne 96 [0, 0, 1, 13, 42, 42, 180, 0, 61, 27, 46, 182, 1, 170, 54, 7] := ch_ckof (by decide +kernel)
theorem bX3_checkOne_7 : ch_ck cX3_checkOne 112 [21, 5, 153, 0, 42, 21, 7, 8, 159, 0, 36, 42, 42, 180, 0, 64] := ch_ckof (by decide +kernel)
theorem bX3_checkOne_8 : ch_ck cX3_checkOne 128 [27, 46, 182, 1, 240, 156, 0, 23, 21, 4, 155, 0, 14, 42, 21, 6] := ch_ckof (by decide +kernel)
theorem bX3_checkOne_9 : ch_ck cX3_checkOne 144 [21, 7, 182, 1, 243, 153, 0, 7, 4, 167, 0, 4, 3, 54, 5, 21] := ch_ckof (by decide +kernel)
theorem bX3_checkOne_10 : ch_ck cX3_checkOne 160 [5, 153, 0, 205, 42, 180, 0, 67, 27, 42, 180, 1, 211, 79, 42, 180] := ch_ckof (by decide +kernel)
theorem bX3_checkOne_11 : ch_ck cX3_checkOne 176 [0, 61, 27, 21, 7, 79, 42, 42, 180, 0, 64, 27, 46, 21, 7, 21] := ch_ckof (by decide +kernel)
theorem bX3_checkOne_12 : ch_ck cX3_checkOne 192 [4, 155, 0, 7, 4, 167, 0, 4, 3, 182, 1, 223, 167, 0, 162, 21] := ch_ckof (by decide +kernel)
theorem bX3_checkOne_13 : ch_ck cX3_checkOne 208 [5, 153, 0, 16, 42, 21, 6, 182, 1, 246, 153, 0, 7, 4, 167, 0] := ch_ckof (by decide +kernel)
theorem bX3_checkOne_14 : ch_ck cX3_checkOne 224 [4, 3, 54, 5, 167, 0, 138, 21, 5, 153, 0, 14, 21, 6, 16, 10] := ch_ckof (by decide +kernel)
theorem bX3_checkOne_15 : ch_ck cX3_checkOne 240 [161, 0, 7, 4, 167, 0, 4, 3, 54, 5, 167, 0, 116, 21, 5, 153] := ch_ckof (by decide +kernel)
theorem bX3_checkOne_16 : ch_ck cX3_checkOne 256 [0, 59, 21, 4, 156, 0, 19, 42, 180, 0, 103, 42, 180, 1, 217, 46] := ch_ckof (by decide +kernel)
theorem bX3_checkOne_17 : ch_ck cX3_checkOne 272 [6, 160, 0, 41, 167, 0, 34, 42, 180, 0, 103, 42, 180, 1, 217, 46] := ch_ckof (by decide +kernel)
theorem bX3_checkOne_18 : ch_ck cX3_checkOne 288 [6, 159, 0, 25, 42, 21, 6, 42, 180, 0, 103, 42, 180, 1, 217, 46] := ch_ckof (by decide +kernel)
theorem bX3_checkOne_19 : ch_ck cX3_checkOne 304 [182, 1, 243, 153, 0, 7, 4, 167, 0, 4, 3, 54, 5, 167, 0, 49] := ch_ckof (by decide +kernel)
theorem bX3_checkOne_20 : ch_ck cX3_checkOne 320 [21, 5, 153, 0, 17, 42, 27, 21, 6, 182, 1, 249, 153, 0, 7, 4] := ch_ckof (by decide +kernel)
theorem bX3_checkOne_21 : ch_ck cX3_checkOne 336 [167, 0, 4, 3, 54, 5, 167, 0, 24, 21, 5, 153, 0, 13, 21, 6] := ch_ckof (by decide +kernel)
theorem bX3_checkOne_22 : ch_ck cX3_checkOne 352 [4, 160, 0, 7, 4, 167, 0, 4, 3, 54, 5, 167, 0, 3, 21, 5] := ch_ckof (by decide +kernel)
theorem bX3_checkOne_23 : ch_ck cX3_checkOne 368 [154, 0, 14, 42, 42, 180, 0, 49, 27, 46, 182, 1, 163, 177, 29, 6] := ch_ckof (by decide +kernel)
theorem bX3_checkOne_24 : ch_ck cX3_checkOne 384 [159, 0, 8, 29, 7, 160, 0, 11, 42, 4, 181, 1, 220, 167, 0, 42] := ch_ckof (by decide +kernel)
theorem bX3_checkOne_25 : ch_ck cX3_checkOne 400 [29, 4, 160, 0, 12, 42, 27, 28, 182, 1, 252, 167, 0, 28, 29, 5] := ch_ckof (by decide +kernel)
theorem bX3_checkOne_26 : ch_ck cX3_checkOne 416 [160, 0, 12, 42, 27, 28, 182, 1, 255, 167, 0, 14, 29, 8, 160, 0] := ch_ckof (by decide +kernel)
theorem bX3_checkOne_27 : ch_ck cX3_checkOne 432 [9, 42, 27, 28, 182, 2, 2, 177] := ch_ckof (by decide +kernel)
theorem dX3_checkOne_0 : decode cX3_checkOne 0 = .ok (.aload_n 0, 1) := dz_42 (bX3_checkOne_0 0 _ rfl)
theorem dX3_checkOne_1 : decode cX3_checkOne 1 = .ok (.getfield 46, 3) := dz_180 (bX3_checkOne_0 1 _ rfl) (bX3_checkOne_0 2 _ rfl) (bX3_checkOne_0 3 _ rfl)
theorem dX3_checkOne_4 : decode cX3_checkOne 4 = .ok (.iload_n 1, 1) := dz_27 (bX3_checkOne_0 4 _ rfl)
theorem dX3_checkOne_5 : decode cX3_checkOne 5 = .ok (.iaload, 1) := dz_46 (bX3_checkOne_0 5 _ rfl)
theorem dX3_checkOne_6 : decode cX3_checkOne 6 = .ok (.istore_n 3, 1) := dz_62 (bX3_checkOne_0 6 _ rfl)
theorem dX3_checkOne_7 : decode cX3_checkOne 7 = .ok (.aload_n 0, 1) := dz_42 (bX3_checkOne_0 7 _ rfl)
theorem dX3_checkOne_8 : decode cX3_checkOne 8 = .ok (.getfield 55, 3) := dz_180 (bX3_checkOne_0 8 _ rfl) (bX3_checkOne_0 9 _ rfl) (bX3_checkOne_0 10 _ rfl)
theorem dX3_checkOne_11 : decode cX3_checkOne 11 = .ok (.iload_n 1, 1) := dz_27 (bX3_checkOne_0 11 _ rfl)
theorem dX3_checkOne_12 : decode cX3_checkOne 12 = .ok (.iaload, 1) := dz_46 (bX3_checkOne_0 12 _ rfl)
theorem dX3_checkOne_13 : decode cX3_checkOne 13 = .ok (.istore 4, 2) := dz_54 (bX3_checkOne_0 13 _ rfl) (bX3_checkOne_0 14 _ rfl)
theorem dX3_checkOne_15 : decode cX3_checkOne 15 = .ok (.iload 4, 2) := dz_21 (bX3_checkOne_0 15 _ rfl) (bX3_checkOne_1 0 _ rfl)
theorem dX3_checkOne_17 : decode cX3_checkOne 17 = .ok (.ifCond .lt 19, 3) := dz_155 (bX3_checkOne_1 1 _ rfl) (bX3_checkOne_1 2 _ rfl) (bX3_checkOne_1 3 _ rfl)
theorem dX3_checkOne_20 : decode cX3_checkOne 20 = .ok (.aload_n 0, 1) := dz_42 (bX3_checkOne_1 4 _ rfl)
theorem dX3_checkOne_21 : decode cX3_checkOne 21 = .ok (.iload_n 1, 1) := dz_27 (bX3_checkOne_1 5 _ rfl)
theorem dX3_checkOne_22 : decode cX3_checkOne 22 = .ok (.aload_n 0, 1) := dz_42 (bX3_checkOne_1 6 _ rfl)
theorem dX3_checkOne_23 : decode cX3_checkOne 23 = .ok (.getfield 52, 3) := dz_180 (bX3_checkOne_1 7 _ rfl) (bX3_checkOne_1 8 _ rfl) (bX3_checkOne_1 9 _ rfl)
theorem dX3_checkOne_26 : decode cX3_checkOne 26 = .ok (.iload_n 1, 1) := dz_27 (bX3_checkOne_1 10 _ rfl)
theorem dX3_checkOne_27 : decode cX3_checkOne 27 = .ok (.iaload, 1) := dz_46 (bX3_checkOne_1 11 _ rfl)
theorem dX3_checkOne_28 : decode cX3_checkOne 28 = .ok (.iload 4, 2) := dz_21 (bX3_checkOne_1 12 _ rfl) (bX3_checkOne_1 13 _ rfl)
theorem dX3_checkOne_30 : decode cX3_checkOne 30 = .ok (.invokevirtual 489, 3) := dz_182 (bX3_checkOne_1 14 _ rfl) (bX3_checkOne_1 15 _ rfl) (bX3_checkOne_2 0 _ rfl)
theorem dX3_checkOne_33 : decode cX3_checkOne 33 = .ok (.ifCond .eq 7, 3) := dz_153 (bX3_checkOne_2 1 _ rfl) (bX3_checkOne_2 2 _ rfl) (bX3_checkOne_2 3 _ rfl)
theorem dX3_checkOne_36 : decode cX3_checkOne 36 = .ok (.iconst 1, 1) := dz_4 (bX3_checkOne_2 4 _ rfl)
theorem dX3_checkOne_37 : decode cX3_checkOne 37 = .ok (.goto 4, 3) := dz_167 (bX3_checkOne_2 5 _ rfl) (bX3_checkOne_2 6 _ rfl) (bX3_checkOne_2 7 _ rfl)
theorem dX3_checkOne_40 : decode cX3_checkOne 40 = .ok (.iconst 0, 1) := dz_3 (bX3_checkOne_2 8 _ rfl)
theorem dX3_checkOne_41 : decode cX3_checkOne 41 = .ok (.istore 5, 2) := dz_54 (bX3_checkOne_2 9 _ rfl) (bX3_checkOne_2 10 _ rfl)
theorem dX3_checkOne_43 : decode cX3_checkOne 43 = .ok (.aload_n 0, 1) := dz_42 (bX3_checkOne_2 11 _ rfl)
theorem dX3_checkOne_44 : decode cX3_checkOne 44 = .ok (.iload_n 1, 1) := dz_27 (bX3_checkOne_2 12 _ rfl)
theorem dX3_checkOne_45 : decode cX3_checkOne 45 = .ok (.invokevirtual 493, 3) := dz_182 (bX3_checkOne_2 13 _ rfl) (bX3_checkOne_2 14 _ rfl) (bX3_checkOne_2 15 _ rfl)
theorem dX3_checkOne_48 : decode cX3_checkOne 48 = .ok (.istore 6, 2) := dz_54 (bX3_checkOne_3 0 _ rfl) (bX3_checkOne_3 1 _ rfl)
theorem dX3_checkOne_50 : decode cX3_checkOne 50 = .ok (.iload_n 3, 1) := dz_29 (bX3_checkOne_3 2 _ rfl)
theorem dX3_checkOne_51 : decode cX3_checkOne 51 = .ok (.tableswitch 315 0 8 #[49, 294, 294, 202, 180, 315, 156, 315, 269], 49) := by decide +kernel
theorem dX3_checkOne_100 : decode cX3_checkOne 100 = .ok (.aload_n 0, 1) := dz_42 (bX3_checkOne_6 4 _ rfl)
theorem dX3_checkOne_101 : decode cX3_checkOne 101 = .ok (.aload_n 0, 1) := dz_42 (bX3_checkOne_6 5 _ rfl)
theorem dX3_checkOne_102 : decode cX3_checkOne 102 = .ok (.getfield 61, 3) := dz_180 (bX3_checkOne_6 6 _ rfl) (bX3_checkOne_6 7 _ rfl) (bX3_checkOne_6 8 _ rfl)
theorem dX3_checkOne_105 : decode cX3_checkOne 105 = .ok (.iload_n 1, 1) := dz_27 (bX3_checkOne_6 9 _ rfl)
theorem dX3_checkOne_106 : decode cX3_checkOne 106 = .ok (.iaload, 1) := dz_46 (bX3_checkOne_6 10 _ rfl)
theorem dX3_checkOne_107 : decode cX3_checkOne 107 = .ok (.invokevirtual 426, 3) := dz_182 (bX3_checkOne_6 11 _ rfl) (bX3_checkOne_6 12 _ rfl) (bX3_checkOne_6 13 _ rfl)
theorem dX3_checkOne_110 : decode cX3_checkOne 110 = .ok (.istore 7, 2) := dz_54 (bX3_checkOne_6 14 _ rfl) (bX3_checkOne_6 15 _ rfl)
theorem dX3_checkOne_112 : decode cX3_checkOne 112 = .ok (.iload 5, 2) := dz_21 (bX3_checkOne_7 0 _ rfl) (bX3_checkOne_7 1 _ rfl)
theorem dX3_checkOne_114 : decode cX3_checkOne 114 = .ok (.ifCond .eq 42, 3) := dz_153 (bX3_checkOne_7 2 _ rfl) (bX3_checkOne_7 3 _ rfl) (bX3_checkOne_7 4 _ rfl)
theorem dX3_checkOne_117 : decode cX3_checkOne 117 = .ok (.iload 7, 2) := dz_21 (bX3_checkOne_7 5 _ rfl) (bX3_checkOne_7 6 _ rfl)
theorem dX3_checkOne_119 : decode cX3_checkOne 119 = .ok (.iconst 5, 1) := dz_8 (bX3_checkOne_7 7 _ rfl)
theorem dX3_checkOne_120 : decode cX3_checkOne 120 = .ok (.if_icmp .eq 36, 3) := dz_159 (bX3_checkOne_7 8 _ rfl) (bX3_checkOne_7 9 _ rfl) (bX3_checkOne_7 10 _ rfl)
theorem dX3_checkOne_123 : decode cX3_checkOne 123 = .ok (.aload_n 0, 1) := dz_42 (bX3_checkOne_7 11 _ rfl)
theorem dX3_checkOne_124 : decode cX3_checkOne 124 = .ok (.aload_n 0, 1) := dz_42 (bX3_checkOne_7 12 _ rfl)
theorem dX3_checkOne_125 : decode cX3_checkOne 125 = .ok (.getfield 64, 3) := dz_180 (bX3_checkOne_7 13 _ rfl) (bX3_checkOne_7 14 _ rfl) (bX3_checkOne_7 15 _ rfl)
theorem dX3_checkOne_128 : decode cX3_checkOne 128 = .ok (.iload_n 1, 1) := dz_27 (bX3_checkOne_8 0 _ rfl)
theorem dX3_checkOne_129 : decode cX3_checkOne 129 = .ok (.iaload, 1) := dz_46 (bX3_checkOne_8 1 _ rfl)
theorem dX3_checkOne_130 : decode cX3_checkOne 130 = .ok (.invokevirtual 496, 3) := dz_182 (bX3_checkOne_8 2 _ rfl) (bX3_checkOne_8 3 _ rfl) (bX3_checkOne_8 4 _ rfl)
theorem dX3_checkOne_133 : decode cX3_checkOne 133 = .ok (.ifCond .ge 23, 3) := dz_156 (bX3_checkOne_8 5 _ rfl) (bX3_checkOne_8 6 _ rfl) (bX3_checkOne_8 7 _ rfl)
theorem dX3_checkOne_136 : decode cX3_checkOne 136 = .ok (.iload 4, 2) := dz_21 (bX3_checkOne_8 8 _ rfl) (bX3_checkOne_8 9 _ rfl)
theorem dX3_checkOne_138 : decode cX3_checkOne 138 = .ok (.ifCond .lt 14, 3) := dz_155 (bX3_checkOne_8 10 _ rfl) (bX3_checkOne_8 11 _ rfl) (bX3_checkOne_8 12 _ rfl)
theorem dX3_checkOne_141 : decode cX3_checkOne 141 = .ok (.aload_n 0, 1) := dz_42 (bX3_checkOne_8 13 _ rfl)
theorem dX3_checkOne_142 : decode cX3_checkOne 142 = .ok (.iload 6, 2) := dz_21 (bX3_checkOne_8 14 _ rfl) (bX3_checkOne_8 15 _ rfl)
theorem dX3_checkOne_144 : decode cX3_checkOne 144 = .ok (.iload 7, 2) := dz_21 (bX3_checkOne_9 0 _ rfl) (bX3_checkOne_9 1 _ rfl)
theorem dX3_checkOne_146 : decode cX3_checkOne 146 = .ok (.invokevirtual 499, 3) := dz_182 (bX3_checkOne_9 2 _ rfl) (bX3_checkOne_9 3 _ rfl) (bX3_checkOne_9 4 _ rfl)
theorem dX3_checkOne_149 : decode cX3_checkOne 149 = .ok (.ifCond .eq 7, 3) := dz_153 (bX3_checkOne_9 5 _ rfl) (bX3_checkOne_9 6 _ rfl) (bX3_checkOne_9 7 _ rfl)
theorem dX3_checkOne_152 : decode cX3_checkOne 152 = .ok (.iconst 1, 1) := dz_4 (bX3_checkOne_9 8 _ rfl)
theorem dX3_checkOne_153 : decode cX3_checkOne 153 = .ok (.goto 4, 3) := dz_167 (bX3_checkOne_9 9 _ rfl) (bX3_checkOne_9 10 _ rfl) (bX3_checkOne_9 11 _ rfl)
theorem dX3_checkOne_156 : decode cX3_checkOne 156 = .ok (.iconst 0, 1) := dz_3 (bX3_checkOne_9 12 _ rfl)
theorem dX3_checkOne_157 : decode cX3_checkOne 157 = .ok (.istore 5, 2) := dz_54 (bX3_checkOne_9 13 _ rfl) (bX3_checkOne_9 14 _ rfl)
theorem dX3_checkOne_159 : decode cX3_checkOne 159 = .ok (.iload 5, 2) := dz_21 (bX3_checkOne_9 15 _ rfl) (bX3_checkOne_10 0 _ rfl)
theorem dX3_checkOne_161 : decode cX3_checkOne 161 = .ok (.ifCond .eq 205, 3) := dz_153 (bX3_checkOne_10 1 _ rfl) (bX3_checkOne_10 2 _ rfl) (bX3_checkOne_10 3 _ rfl)
theorem dX3_checkOne_164 : decode cX3_checkOne 164 = .ok (.aload_n 0, 1) := dz_42 (bX3_checkOne_10 4 _ rfl)
theorem dX3_checkOne_165 : decode cX3_checkOne 165 = .ok (.getfield 67, 3) := dz_180 (bX3_checkOne_10 5 _ rfl) (bX3_checkOne_10 6 _ rfl) (bX3_checkOne_10 7 _ rfl)
theorem dX3_checkOne_168 : decode cX3_checkOne 168 = .ok (.iload_n 1, 1) := dz_27 (bX3_checkOne_10 8 _ rfl)
theorem dX3_checkOne_169 : decode cX3_checkOne 169 = .ok (.aload_n 0, 1) := dz_42 (bX3_checkOne_10 9 _ rfl)
theorem dX3_checkOne_170 : decode cX3_checkOne 170 = .ok (.getfield 467, 3) := dz_180 (bX3_checkOne_10 10 _ rfl) (bX3_checkOne_10 11 _ rfl) (bX3_checkOne_10 12 _ rfl)
theorem dX3_checkOne_173 : decode cX3_checkOne 173 = .ok (.iastore, 1) := dz_79 (bX3_checkOne_10 13 _ rfl)
theorem dX3_checkOne_174 : decode cX3_checkOne 174 = .ok (.aload_n 0, 1) := dz_42 (bX3_checkOne_10 14 _ rfl)
theorem dX3_checkOne_175 : decode cX3_checkOne 175 = .ok (.getfield 61, 3) := dz_180 (bX3_checkOne_10 15 _ rfl) (bX3_checkOne_11 0 _ rfl) (bX3_checkOne_11 1 _ rfl)
theorem dX3_checkOne_178 : decode cX3_checkOne 178 = .ok (.iload_n 1, 1) := dz_27 (bX3_checkOne_11 2 _ rfl)
theorem dX3_checkOne_179 : decode cX3_checkOne 179 = .ok (.iload 7, 2) := dz_21 (bX3_checkOne_11 3 _ rfl) (bX3_checkOne_11 4 _ rfl)
theorem dX3_checkOne_181 : decode cX3_checkOne 181 = .ok (.iastore, 1) := dz_79 (bX3_checkOne_11 5 _ rfl)
theorem dX3_checkOne_182 : decode cX3_checkOne 182 = .ok (.aload_n 0, 1) := dz_42 (bX3_checkOne_11 6 _ rfl)
theorem dX3_checkOne_183 : decode cX3_checkOne 183 = .ok (.aload_n 0, 1) := dz_42 (bX3_checkOne_11 7 _ rfl)
theorem dX3_checkOne_184 : decode cX3_checkOne 184 = .ok (.getfield 64, 3) := dz_180 (bX3_checkOne_11 8 _ rfl) (bX3_checkOne_11 9 _ rfl) (bX3_checkOne_11 10 _ rfl)
theorem dX3_checkOne_187 : decode cX3_checkOne 187 = .ok (.iload_n 1, 1) := dz_27 (bX3_checkOne_11 11 _ rfl)
theorem dX3_checkOne_188 : decode cX3_checkOne 188 = .ok (.iaload, 1) := dz_46 (bX3_checkOne_11 12 _ rfl)
theorem dX3_checkOne_189 : decode cX3_checkOne 189 = .ok (.iload 7, 2) := dz_21 (bX3_checkOne_11 13 _ rfl) (bX3_checkOne_11 14 _ rfl)
theorem dX3_checkOne_191 : decode cX3_checkOne 191 = .ok (.iload 4, 2) := dz_21 (bX3_checkOne_11 15 _ rfl) (bX3_checkOne_12 0 _ rfl)
theorem dX3_checkOne_193 : decode cX3_checkOne 193 = .ok (.ifCond .lt 7, 3) := dz_155 (bX3_checkOne_12 1 _ rfl) (bX3_checkOne_12 2 _ rfl) (bX3_checkOne_12 3 _ rfl)
theorem dX3_checkOne_196 : decode cX3_checkOne 196 = .ok (.iconst 1, 1) := dz_4 (bX3_checkOne_12 4 _ rfl)
theorem dX3_checkOne_197 : decode cX3_checkOne 197 = .ok (.goto 4, 3) := dz_167 (bX3_checkOne_12 5 _ rfl) (bX3_checkOne_12 6 _ rfl) (bX3_checkOne_12 7 _ rfl)
theorem dX3_checkOne_200 : decode cX3_checkOne 200 = .ok (.iconst 0, 1) := dz_3 (bX3_checkOne_12 8 _ rfl)
theorem dX3_checkOne_201 : decode cX3_checkOne 201 = .ok (.invokevirtual 479, 3) := dz_182 (bX3_checkOne_12 9 _ rfl) (bX3_checkOne_12 10 _ rfl) (bX3_checkOne_12 11 _ rfl)
theorem dX3_checkOne_204 : decode cX3_checkOne 204 = .ok (.goto 162, 3) := dz_167 (bX3_checkOne_12 12 _ rfl) (bX3_checkOne_12 13 _ rfl) (bX3_checkOne_12 14 _ rfl)
theorem dX3_checkOne_207 : decode cX3_checkOne 207 = .ok (.iload 5, 2) := dz_21 (bX3_checkOne_12 15 _ rfl) (bX3_checkOne_13 0 _ rfl)
theorem dX3_checkOne_209 : decode cX3_checkOne 209 = .ok (.ifCond .eq 16, 3) := dz_153 (bX3_checkOne_13 1 _ rfl) (bX3_checkOne_13 2 _ rfl) (bX3_checkOne_13 3 _ rfl)
theorem dX3_checkOne_212 : decode cX3_checkOne 212 = .ok (.aload_n 0, 1) := dz_42 (bX3_checkOne_13 4 _ rfl)
theorem dX3_checkOne_213 : decode cX3_checkOne 213 = .ok (.iload 6, 2) := dz_21 (bX3_checkOne_13 5 _ rfl) (bX3_checkOne_13 6 _ rfl)
theorem dX3_checkOne_215 : decode cX3_checkOne 215 = .ok (.invokevirtual 502, 3) := dz_182 (bX3_checkOne_13 7 _ rfl) (bX3_checkOne_13 8 _ rfl) (bX3_checkOne_13 9 _ rfl)
theorem dX3_checkOne_218 : decode cX3_checkOne 218 = .ok (.ifCond .eq 7, 3) := dz_153 (bX3_checkOne_13 10 _ rfl) (bX3_checkOne_13 11 _ rfl) (bX3_checkOne_13 12 _ rfl)
theorem dX3_checkOne_221 : decode cX3_checkOne 221 = .ok (.iconst 1, 1) := dz_4 (bX3_checkOne_13 13 _ rfl)
theorem dX3_checkOne_222 : decode cX3_checkOne 222 = .ok (.goto 4, 3) := dz_167 (bX3_checkOne_13 14 _ rfl) (bX3_checkOne_13 15 _ rfl) (bX3_checkOne_14 0 _ rfl)
theorem dX3_checkOne_225 : decode cX3_checkOne 225 = .ok (.iconst 0, 1) := dz_3 (bX3_checkOne_14 1 _ rfl)
theorem dX3_checkOne_226 : decode cX3_checkOne 226 = .ok (.istore 5, 2) := dz_54 (bX3_checkOne_14 2 _ rfl) (bX3_checkOne_14 3 _ rfl)
theorem dX3_checkOne_228 : decode cX3_checkOne 228 = .ok (.goto 138, 3) := dz_167 (bX3_checkOne_14 4 _ rfl) (bX3_checkOne_14 5 _ rfl) (bX3_checkOne_14 6 _ rfl)
theorem dX3_checkOne_231 : decode cX3_checkOne 231 = .ok (.iload 5, 2) := dz_21 (bX3_checkOne_14 7 _ rfl) (bX3_checkOne_14 8 _ rfl)
theorem dX3_checkOne_233 : decode cX3_checkOne 233 = .ok (.ifCond .eq 14, 3) := dz_153 (bX3_checkOne_14 9 _ rfl) (bX3_checkOne_14 10 _ rfl) (bX3_checkOne_14 11 _ rfl)
theorem dX3_checkOne_236 : decode cX3_checkOne 236 = .ok (.iload 6, 2) := dz_21 (bX3_checkOne_14 12 _ rfl) (bX3_checkOne_14 13 _ rfl)
theorem dX3_checkOne_238 : decode cX3_checkOne 238 = .ok (.bipush 10, 2) := dz_16 (bX3_checkOne_14 14 _ rfl) (bX3_checkOne_14 15 _ rfl)
theorem dX3_checkOne_240 : decode cX3_checkOne 240 = .ok (.if_icmp .lt 7, 3) := dz_161 (bX3_checkOne_15 0 _ rfl) (bX3_checkOne_15 1 _ rfl) (bX3_checkOne_15 2 _ rfl)
theorem dX3_checkOne_243 : decode cX3_checkOne 243 = .ok (.iconst 1, 1) := dz_4 (bX3_checkOne_15 3 _ rfl)
theorem dX3_checkOne_244 : decode cX3_checkOne 244 = .ok (.goto 4, 3) := dz_167 (bX3_checkOne_15 4 _ rfl) (bX3_checkOne_15 5 _ rfl) (bX3_checkOne_15 6 _ rfl)
theorem dX3_checkOne_247 : decode cX3_checkOne 247 = .ok (.iconst 0, 1) := dz_3 (bX3_checkOne_15 7 _ rfl)
theorem dX3_checkOne_248 : decode cX3_checkOne 248 = .ok (.istore 5, 2) := dz_54 (bX3_checkOne_15 8 _ rfl) (bX3_checkOne_15 9 _ rfl)
theorem dX3_checkOne_250 : decode cX3_checkOne 250 = .ok (.goto 116, 3) := dz_167 (bX3_checkOne_15 10 _ rfl) (bX3_checkOne_15 11 _ rfl) (bX3_checkOne_15 12 _ rfl)
theorem dX3_checkOne_253 : decode cX3_checkOne 253 = .ok (.iload 5, 2) := dz_21 (bX3_checkOne_15 13 _ rfl) (bX3_checkOne_15 14 _ rfl)
theorem dX3_checkOne_255 : decode cX3_checkOne 255 = .ok (.ifCond .eq 59, 3) := dz_153 (bX3_checkOne_15 15 _ rfl) (bX3_checkOne_16 0 _ rfl) (bX3_checkOne_16 1 _ rfl)
theorem dX3_checkOne_258 : decode cX3_checkOne 258 = .ok (.iload 4, 2) := dz_21 (bX3_checkOne_16 2 _ rfl) (bX3_checkOne_16 3 _ rfl)
theorem dX3_checkOne_260 : decode cX3_checkOne 260 = .ok (.ifCond .ge 19, 3) := dz_156 (bX3_checkOne_16 4 _ rfl) (bX3_checkOne_16 5 _ rfl) (bX3_checkOne_16 6 _ rfl)
theorem dX3_checkOne_263 : decode cX3_checkOne 263 = .ok (.aload_n 0, 1) := dz_42 (bX3_checkOne_16 7 _ rfl)
theorem dX3_checkOne_264 : decode cX3_checkOne 264 = .ok (.getfield 103, 3) := dz_180 (bX3_checkOne_16 8 _ rfl) (bX3_checkOne_16 9 _ rfl) (bX3_checkOne_16 10 _ rfl)
theorem dX3_checkOne_267 : decode cX3_checkOne 267 = .ok (.aload_n 0, 1) := dz_42 (bX3_checkOne_16 11 _ rfl)
theorem dX3_checkOne_268 : decode cX3_checkOne 268 = .ok (.getfield 473, 3) := dz_180 (bX3_checkOne_16 12 _ rfl) (bX3_checkOne_16 13 _ rfl) (bX3_checkOne_16 14 _ rfl)
theorem dX3_checkOne_271 : decode cX3_checkOne 271 = .ok (.iaload, 1) := dz_46 (bX3_checkOne_16 15 _ rfl)
theorem dX3_checkOne_272 : decode cX3_checkOne 272 = .ok (.iconst 3, 1) := dz_6 (bX3_checkOne_17 0 _ rfl)
theorem dX3_checkOne_273 : decode cX3_checkOne 273 = .ok (.if_icmp .ne 41, 3) := dz_160 (bX3_checkOne_17 1 _ rfl) (bX3_checkOne_17 2 _ rfl) (bX3_checkOne_17 3 _ rfl)
theorem dX3_checkOne_276 : decode cX3_checkOne 276 = .ok (.goto 34, 3) := dz_167 (bX3_checkOne_17 4 _ rfl) (bX3_checkOne_17 5 _ rfl) (bX3_checkOne_17 6 _ rfl)
theorem dX3_checkOne_279 : decode cX3_checkOne 279 = .ok (.aload_n 0, 1) := dz_42 (bX3_checkOne_17 7 _ rfl)
theorem dX3_checkOne_280 : decode cX3_checkOne 280 = .ok (.getfield 103, 3) := dz_180 (bX3_checkOne_17 8 _ rfl) (bX3_checkOne_17 9 _ rfl) (bX3_checkOne_17 10 _ rfl)
theorem dX3_checkOne_283 : decode cX3_checkOne 283 = .ok (.aload_n 0, 1) := dz_42 (bX3_checkOne_17 11 _ rfl)
theorem dX3_checkOne_284 : decode cX3_checkOne 284 = .ok (.getfield 473, 3) := dz_180 (bX3_checkOne_17 12 _ rfl) (bX3_checkOne_17 13 _ rfl) (bX3_checkOne_17 14 _ rfl)
theorem dX3_checkOne_287 : decode cX3_checkOne 287 = .ok (.iaload, 1) := dz_46 (bX3_checkOne_17 15 _ rfl)
theorem dX3_checkOne_288 : decode cX3_checkOne 288 = .ok (.iconst 3, 1) := dz_6 (bX3_checkOne_18 0 _ rfl)
theorem dX3_checkOne_289 : decode cX3_checkOne 289 = .ok (.if_icmp .eq 25, 3) := dz_159 (bX3_checkOne_18 1 _ rfl) (bX3_checkOne_18 2 _ rfl) (bX3_checkOne_18 3 _ rfl)
theorem dX3_checkOne_292 : decode cX3_checkOne 292 = .ok (.aload_n 0, 1) := dz_42 (bX3_checkOne_18 4 _ rfl)
theorem dX3_checkOne_293 : decode cX3_checkOne 293 = .ok (.iload 6, 2) := dz_21 (bX3_checkOne_18 5 _ rfl) (bX3_checkOne_18 6 _ rfl)
theorem dX3_checkOne_295 : decode cX3_checkOne 295 = .ok (.aload_n 0, 1) := dz_42 (bX3_checkOne_18 7 _ rfl)
theorem dX3_checkOne_296 : decode cX3_checkOne 296 = .ok (.getfield 103, 3) := dz_180 (bX3_checkOne_18 8 _ rfl) (bX3_checkOne_18 9 _ rfl) (bX3_checkOne_18 10 _ rfl)
theorem dX3_checkOne_299 : decode cX3_checkOne 299 = .ok (.aload_n 0, 1) := dz_42 (bX3_checkOne_18 11 _ rfl)
theorem dX3_checkOne_300 : decode cX3_checkOne 300 = .ok (.getfield 473, 3) := dz_180 (bX3_checkOne_18 12 _ rfl) (bX3_checkOne_18 13 _ rfl) (bX3_checkOne_18 14 _ rfl)
theorem dX3_checkOne_303 : decode cX3_checkOne 303 = .ok (.iaload, 1) := dz_46 (bX3_checkOne_18 15 _ rfl)
theorem dX3_checkOne_304 : decode cX3_checkOne 304 = .ok (.invokevirtual 499, 3) := dz_182 (bX3_checkOne_19 0 _ rfl) (bX3_checkOne_19 1 _ rfl) (bX3_checkOne_19 2 _ rfl)
theorem dX3_checkOne_307 : decode cX3_checkOne 307 = .ok (.ifCond .eq 7, 3) := dz_153 (bX3_checkOne_19 3 _ rfl) (bX3_checkOne_19 4 _ rfl) (bX3_checkOne_19 5 _ rfl)
theorem dX3_checkOne_310 : decode cX3_checkOne 310 = .ok (.iconst 1, 1) := dz_4 (bX3_checkOne_19 6 _ rfl)
theorem dX3_checkOne_311 : decode cX3_checkOne 311 = .ok (.goto 4, 3) := dz_167 (bX3_checkOne_19 7 _ rfl) (bX3_checkOne_19 8 _ rfl) (bX3_checkOne_19 9 _ rfl)
theorem dX3_checkOne_314 : decode cX3_checkOne 314 = .ok (.iconst 0, 1) := dz_3 (bX3_checkOne_19 10 _ rfl)
theorem dX3_checkOne_315 : decode cX3_checkOne 315 = .ok (.istore 5, 2) := dz_54 (bX3_checkOne_19 11 _ rfl) (bX3_checkOne_19 12 _ rfl)
theorem dX3_checkOne_317 : decode cX3_checkOne 317 = .ok (.goto 49, 3) := dz_167 (bX3_checkOne_19 13 _ rfl) (bX3_checkOne_19 14 _ rfl) (bX3_checkOne_19 15 _ rfl)
theorem dX3_checkOne_320 : decode cX3_checkOne 320 = .ok (.iload 5, 2) := dz_21 (bX3_checkOne_20 0 _ rfl) (bX3_checkOne_20 1 _ rfl)
theorem dX3_checkOne_322 : decode cX3_checkOne 322 = .ok (.ifCond .eq 17, 3) := dz_153 (bX3_checkOne_20 2 _ rfl) (bX3_checkOne_20 3 _ rfl) (bX3_checkOne_20 4 _ rfl)
theorem dX3_checkOne_325 : decode cX3_checkOne 325 = .ok (.aload_n 0, 1) := dz_42 (bX3_checkOne_20 5 _ rfl)
theorem dX3_checkOne_326 : decode cX3_checkOne 326 = .ok (.iload_n 1, 1) := dz_27 (bX3_checkOne_20 6 _ rfl)
theorem dX3_checkOne_327 : decode cX3_checkOne 327 = .ok (.iload 6, 2) := dz_21 (bX3_checkOne_20 7 _ rfl) (bX3_checkOne_20 8 _ rfl)
theorem dX3_checkOne_329 : decode cX3_checkOne 329 = .ok (.invokevirtual 505, 3) := dz_182 (bX3_checkOne_20 9 _ rfl) (bX3_checkOne_20 10 _ rfl) (bX3_checkOne_20 11 _ rfl)
theorem dX3_checkOne_332 : decode cX3_checkOne 332 = .ok (.ifCond .eq 7, 3) := dz_153 (bX3_checkOne_20 12 _ rfl) (bX3_checkOne_20 13 _ rfl) (bX3_checkOne_20 14 _ rfl)
theorem dX3_checkOne_335 : decode cX3_checkOne 335 = .ok (.iconst 1, 1) := dz_4 (bX3_checkOne_20 15 _ rfl)
theorem dX3_checkOne_336 : decode cX3_checkOne 336 = .ok (.goto 4, 3) := dz_167 (bX3_checkOne_21 0 _ rfl) (bX3_checkOne_21 1 _ rfl) (bX3_checkOne_21 2 _ rfl)
theorem dX3_checkOne_339 : decode cX3_checkOne 339 = .ok (.iconst 0, 1) := dz_3 (bX3_checkOne_21 3 _ rfl)
theorem dX3_checkOne_340 : decode cX3_checkOne 340 = .ok (.istore 5, 2) := dz_54 (bX3_checkOne_21 4 _ rfl) (bX3_checkOne_21 5 _ rfl)
theorem dX3_checkOne_342 : decode cX3_checkOne 342 = .ok (.goto 24, 3) := dz_167 (bX3_checkOne_21 6 _ rfl) (bX3_checkOne_21 7 _ rfl) (bX3_checkOne_21 8 _ rfl)
theorem dX3_checkOne_345 : decode cX3_checkOne 345 = .ok (.iload 5, 2) := dz_21 (bX3_checkOne_21 9 _ rfl) (bX3_checkOne_21 10 _ rfl)
theorem dX3_checkOne_347 : decode cX3_checkOne 347 = .ok (.ifCond .eq 13, 3) := dz_153 (bX3_checkOne_21 11 _ rfl) (bX3_checkOne_21 12 _ rfl) (bX3_checkOne_21 13 _ rfl)
theorem dX3_checkOne_350 : decode cX3_checkOne 350 = .ok (.iload 6, 2) := dz_21 (bX3_checkOne_21 14 _ rfl) (bX3_checkOne_21 15 _ rfl)
theorem dX3_checkOne_352 : decode cX3_checkOne 352 = .ok (.iconst 1, 1) := dz_4 (bX3_checkOne_22 0 _ rfl)
theorem dX3_checkOne_353 : decode cX3_checkOne 353 = .ok (.if_icmp .ne 7, 3) := dz_160 (bX3_checkOne_22 1 _ rfl) (bX3_checkOne_22 2 _ rfl) (bX3_checkOne_22 3 _ rfl)
theorem dX3_checkOne_356 : decode cX3_checkOne 356 = .ok (.iconst 1, 1) := dz_4 (bX3_checkOne_22 4 _ rfl)
theorem dX3_checkOne_357 : decode cX3_checkOne 357 = .ok (.goto 4, 3) := dz_167 (bX3_checkOne_22 5 _ rfl) (bX3_checkOne_22 6 _ rfl) (bX3_checkOne_22 7 _ rfl)
theorem dX3_checkOne_360 : decode cX3_checkOne 360 = .ok (.iconst 0, 1) := dz_3 (bX3_checkOne_22 8 _ rfl)
theorem dX3_checkOne_361 : decode cX3_checkOne 361 = .ok (.istore 5, 2) := dz_54 (bX3_checkOne_22 9 _ rfl) (bX3_checkOne_22 10 _ rfl)
theorem dX3_checkOne_363 : decode cX3_checkOne 363 = .ok (.goto 3, 3) := dz_167 (bX3_checkOne_22 11 _ rfl) (bX3_checkOne_22 12 _ rfl) (bX3_checkOne_22 13 _ rfl)
theorem dX3_checkOne_366 : decode cX3_checkOne 366 = .ok (.iload 5, 2) := dz_21 (bX3_checkOne_22 14 _ rfl) (bX3_checkOne_22 15 _ rfl)
theorem dX3_checkOne_368 : decode cX3_checkOne 368 = .ok (.ifCond .ne 14, 3) := dz_154 (bX3_checkOne_23 0 _ rfl) (bX3_checkOne_23 1 _ rfl) (bX3_checkOne_23 2 _ rfl)
theorem dX3_checkOne_371 : decode cX3_checkOne 371 = .ok (.aload_n 0, 1) := dz_42 (bX3_checkOne_23 3 _ rfl)
theorem dX3_checkOne_372 : decode cX3_checkOne 372 = .ok (.aload_n 0, 1) := dz_42 (bX3_checkOne_23 4 _ rfl)
theorem dX3_checkOne_373 : decode cX3_checkOne 373 = .ok (.getfield 49, 3) := dz_180 (bX3_checkOne_23 5 _ rfl) (bX3_checkOne_23 6 _ rfl) (bX3_checkOne_23 7 _ rfl)
theorem dX3_checkOne_376 : decode cX3_checkOne 376 = .ok (.iload_n 1, 1) := dz_27 (bX3_checkOne_23 8 _ rfl)
theorem dX3_checkOne_377 : decode cX3_checkOne 377 = .ok (.iaload, 1) := dz_46 (bX3_checkOne_23 9 _ rfl)
theorem dX3_checkOne_378 : decode cX3_checkOne 378 = .ok (.invokevirtual 419, 3) := dz_182 (bX3_checkOne_23 10 _ rfl) (bX3_checkOne_23 11 _ rfl) (bX3_checkOne_23 12 _ rfl)
theorem dX3_checkOne_381 : decode cX3_checkOne 381 = .ok (.return_, 1) := dz_177 (bX3_checkOne_23 13 _ rfl)
theorem dX3_checkOne_382 : decode cX3_checkOne 382 = .ok (.iload_n 3, 1) := dz_29 (bX3_checkOne_23 14 _ rfl)
theorem dX3_checkOne_383 : decode cX3_checkOne 383 = .ok (.iconst 3, 1) := dz_6 (bX3_checkOne_23 15 _ rfl)
theorem dX3_checkOne_384 : decode cX3_checkOne 384 = .ok (.if_icmp .eq 8, 3) := dz_159 (bX3_checkOne_24 0 _ rfl) (bX3_checkOne_24 1 _ rfl) (bX3_checkOne_24 2 _ rfl)
theorem dX3_checkOne_387 : decode cX3_checkOne 387 = .ok (.iload_n 3, 1) := dz_29 (bX3_checkOne_24 3 _ rfl)
theorem dX3_checkOne_388 : decode cX3_checkOne 388 = .ok (.iconst 4, 1) := dz_7 (bX3_checkOne_24 4 _ rfl)
theorem dX3_checkOne_389 : decode cX3_checkOne 389 = .ok (.if_icmp .ne 11, 3) := dz_160 (bX3_checkOne_24 5 _ rfl) (bX3_checkOne_24 6 _ rfl) (bX3_checkOne_24 7 _ rfl)
theorem dX3_checkOne_392 : decode cX3_checkOne 392 = .ok (.aload_n 0, 1) := dz_42 (bX3_checkOne_24 8 _ rfl)
theorem dX3_checkOne_393 : decode cX3_checkOne 393 = .ok (.iconst 1, 1) := dz_4 (bX3_checkOne_24 9 _ rfl)
theorem dX3_checkOne_394 : decode cX3_checkOne 394 = .ok (.putfield 476, 3) := dz_181 (bX3_checkOne_24 10 _ rfl) (bX3_checkOne_24 11 _ rfl) (bX3_checkOne_24 12 _ rfl)
theorem dX3_checkOne_397 : decode cX3_checkOne 397 = .ok (.goto 42, 3) := dz_167 (bX3_checkOne_24 13 _ rfl) (bX3_checkOne_24 14 _ rfl) (bX3_checkOne_24 15 _ rfl)
theorem dX3_checkOne_400 : decode cX3_checkOne 400 = .ok (.iload_n 3, 1) := dz_29 (bX3_checkOne_25 0 _ rfl)
theorem dX3_checkOne_401 : decode cX3_checkOne 401 = .ok (.iconst 1, 1) := dz_4 (bX3_checkOne_25 1 _ rfl)
theorem dX3_checkOne_402 : decode cX3_checkOne 402 = .ok (.if_icmp .ne 12, 3) := dz_160 (bX3_checkOne_25 2 _ rfl) (bX3_checkOne_25 3 _ rfl) (bX3_checkOne_25 4 _ rfl)
theorem dX3_checkOne_405 : decode cX3_checkOne 405 = .ok (.aload_n 0, 1) := dz_42 (bX3_checkOne_25 5 _ rfl)
theorem dX3_checkOne_406 : decode cX3_checkOne 406 = .ok (.iload_n 1, 1) := dz_27 (bX3_checkOne_25 6 _ rfl)
theorem dX3_checkOne_407 : decode cX3_checkOne 407 = .ok (.iload_n 2, 1) := dz_28 (bX3_checkOne_25 7 _ rfl)
theorem dX3_checkOne_408 : decode cX3_checkOne 408 = .ok (.invokevirtual 508, 3) := dz_182 (bX3_checkOne_25 8 _ rfl) (bX3_checkOne_25 9 _ rfl) (bX3_checkOne_25 10 _ rfl)
theorem dX3_checkOne_411 : decode cX3_checkOne 411 = .ok (.goto 28, 3) := dz_167 (bX3_checkOne_25 11 _ rfl) (bX3_checkOne_25 12 _ rfl) (bX3_checkOne_25 13 _ rfl)
theorem dX3_checkOne_414 : decode cX3_checkOne 414 = .ok (.iload_n 3, 1) := dz_29 (bX3_checkOne_25 14 _ rfl)
theorem dX3_checkOne_415 : decode cX3_checkOne 415 = .ok (.iconst 2, 1) := dz_5 (bX3_checkOne_25 15 _ rfl)
theorem dX3_checkOne_416 : decode cX3_checkOne 416 = .ok (.if_icmp .ne 12, 3) := dz_160 (bX3_checkOne_26 0 _ rfl) (bX3_checkOne_26 1 _ rfl) (bX3_checkOne_26 2 _ rfl)
theorem dX3_checkOne_419 : decode cX3_checkOne 419 = .ok (.aload_n 0, 1) := dz_42 (bX3_checkOne_26 3 _ rfl)
theorem dX3_checkOne_420 : decode cX3_checkOne 420 = .ok (.iload_n 1, 1) := dz_27 (bX3_checkOne_26 4 _ rfl)
theorem dX3_checkOne_421 : decode cX3_checkOne 421 = .ok (.iload_n 2, 1) := dz_28 (bX3_checkOne_26 5 _ rfl)
theorem dX3_checkOne_422 : decode cX3_checkOne 422 = .ok (.invokevirtual 511, 3) := dz_182 (bX3_checkOne_26 6 _ rfl) (bX3_checkOne_26 7 _ rfl) (bX3_checkOne_26 8 _ rfl)
theorem dX3_checkOne_425 : decode cX3_checkOne 425 = .ok (.goto 14, 3) := dz_167 (bX3_checkOne_26 9 _ rfl) (bX3_checkOne_26 10 _ rfl) (bX3_checkOne_26 11 _ rfl)
theorem dX3_checkOne_428 : decode cX3_checkOne 428 = .ok (.iload_n 3, 1) := dz_29 (bX3_checkOne_26 12 _ rfl)
theorem dX3_checkOne_429 : decode cX3_checkOne 429 = .ok (.iconst 5, 1) := dz_8 (bX3_checkOne_26 13 _ rfl)
theorem dX3_checkOne_430 : decode cX3_checkOne 430 = .ok (.if_icmp .ne 9, 3) := dz_160 (bX3_checkOne_26 14 _ rfl) (bX3_checkOne_26 15 _ rfl) (bX3_checkOne_27 0 _ rfl)
theorem dX3_checkOne_433 : decode cX3_checkOne 433 = .ok (.aload_n 0, 1) := dz_42 (bX3_checkOne_27 1 _ rfl)
theorem dX3_checkOne_434 : decode cX3_checkOne 434 = .ok (.iload_n 1, 1) := dz_27 (bX3_checkOne_27 2 _ rfl)
theorem dX3_checkOne_435 : decode cX3_checkOne 435 = .ok (.iload_n 2, 1) := dz_28 (bX3_checkOne_27 3 _ rfl)
theorem dX3_checkOne_436 : decode cX3_checkOne 436 = .ok (.invokevirtual 514, 3) := dz_182 (bX3_checkOne_27 4 _ rfl) (bX3_checkOne_27 5 _ rfl) (bX3_checkOne_27 6 _ rfl)
theorem dX3_checkOne_439 : decode cX3_checkOne 439 = .ok (.return_, 1) := dz_177 (bX3_checkOne_27 7 _ rfl)
def m_X3_checkOne_366 (rc : Nat → Int32 → Int32 → ch_S → Option (ch_S)) (x1 : Int32) (x2 : Int32) (x3 : Int32) (x5 : Int32)  (σ : ch_S) : Option (ch_S) := if x5 = 0 then ((ch_ma σ fX3_place x1).bind fun v9 => (m_X3_isBad v9 σ).bind fun p10 => some (p10)) else (if x3 = 3 then ((ch_bit 1).bind fun _ => (ch_mI σ fX3_dead 1).bind fun σ1 => some (σ1)) else (if x3 = 4 then ((ch_bit 1).bind fun _ => (ch_mI σ fX3_dead 1).bind fun σ8 => some (σ8)) else (if x3 = 1 then ((rc 2 x1 x2 σ).bind fun p6 => some (p6)) else (if x3 = 2 then ((rc 3 x1 x2 σ).bind fun p4 => some (p4)) else (if x3 = 5 then ((rc 4 x1 x2 σ).bind fun p2 => some (p2)) else (some (σ)))))))
theorem s_X3_checkOne_366 {g : State} {d : Nat} {rc : Nat → Int32 → Int32 → ch_S → Option (ch_S)} {m : Nat} {w : ch_W} (hr2 : ∀ {z0 : Int32} {z1 : Int32} {σ : ch_S} {p : ch_S} {Q : Outcome → ch_W → Prop}, rc 2 z0 z1 σ = some p → ch_eV Q (ch_put m w p) → ch_CT g false yX3_checkIf (d + 7) [.ref m, .int z0, .int z1] (ch_put m w σ) Q) (hr3 : ∀ {z0 : Int32} {z1 : Int32} {σ : ch_S} {p : ch_S} {Q : Outcome → ch_W → Prop}, rc 3 z0 z1 σ = some p → ch_eV Q (ch_put m w p) → ch_CT g false yX3_checkWhile (d + 7) [.ref m, .int z0, .int z1] (ch_put m w σ) Q) (hr4 : ∀ {z0 : Int32} {z1 : Int32} {σ : ch_S} {p : ch_S} {Q : Outcome → ch_W → Prop}, rc 4 z0 z1 σ = some p → ch_eV Q (ch_put m w p) → ch_CT g false yX3_checkTry (d + 7) [.ref m, .int z0, .int z1] (ch_put m w σ) Q)  {x1 : Int32} {x2 : Int32} {x3 : Int32} {x5 : Int32} {σ : ch_S} {res : ch_S} {Q : Outcome → ch_W → Prop} (h : m_X3_checkOne_366 rc x1 x2 x3 x5 σ = some res) (hk : (fun r => ch_eV Q (ch_put m w r)) res) : ch_FT g false mX3_checkOne (d + 8) 366 [some (va_rf (some m)), some (.int x1), some (.int x2), some (.int x3), none, some (.int x5), none, none] [] (ch_put m w σ) Q := by
  unfold m_X3_checkOne_366 at h
  refine ch_iload 5 _ dX3_checkOne_366 rfl (cp_if_ne _ (tgt := 382) dX3_checkOne_368 rfl h (fun h => ?_) (fun h => ?_))
  · refine ch_iload_n 3 _ dX3_checkOne_382 rfl (ch_iconst _ 3 dX3_checkOne_383 rfl (cp_icmp_eq _ _ (tgt := 392) dX3_checkOne_384 rfl h (fun h => ?_) (fun h => ?_)))
    · refine ch_aload_n 0 (some m) dX3_checkOne_392 rfl (ch_iconst _ 1 dX3_checkOne_393 rfl (mp_pZ (k := 66) dX3_checkOne_394 fl_X3_476 rfl rfl rfl h (fun σ1 h => ?_)))
      obtain rfl := Option.some.inj h
      exact ch_goto 439 dX3_checkOne_397 rfl (ch_return dX3_checkOne_439 rfl hk)
    · refine ch_iload_n 3 _ dX3_checkOne_387 rfl (ch_iconst _ 4 dX3_checkOne_388 rfl (cp_icmp_ne _ _ (tgt := 400) dX3_checkOne_389 rfl h (fun h => ?_) (fun h => ?_)))
      · refine ch_iload_n 3 _ dX3_checkOne_400 rfl (ch_iconst _ 1 dX3_checkOne_401 rfl (cp_icmp_ne _ _ (tgt := 414) dX3_checkOne_402 rfl h (fun h => ?_) (fun h => ?_)))
        · refine ch_iload_n 3 _ dX3_checkOne_414 rfl (ch_iconst _ 2 dX3_checkOne_415 rfl (cp_icmp_ne _ _ (tgt := 428) dX3_checkOne_416 rfl h (fun h => ?_) (fun h => ?_)))
          · refine ch_iload_n 3 _ dX3_checkOne_428 rfl (ch_iconst _ 5 dX3_checkOne_429 rfl (cp_icmp_ne _ _ (tgt := 439) dX3_checkOne_430 rfl h (fun h => ?_) (fun h => ?_)))
            · obtain rfl := Option.some.inj h
              exact ch_return dX3_checkOne_439 rfl hk
            · obtain ⟨p2, hp3, h⟩ := ch_bd h
              refine ch_aload_n 0 (some m) dX3_checkOne_433 rfl (ch_iload_n 1 _ dX3_checkOne_434 rfl (ch_iload_n 2 _ dX3_checkOne_435 rfl (ch_iv yX3_checkTry prog_14_method_67_code 6 none (ci := 3) (q := (RX3, TX3, 109)) (b := m) (d' := (d + 7)) (av := [.int x1, .int x2]) (rest := []) rfl dX3_checkOne_436 q2167 q2169 rfl qs170 q2170 can_X3_checkTry (Nat.le_refl _) (Nat.le_of_ble_eq_true rfl) ch_put_tag (cp_kV (w1 := ch_put m w p2) (fun Q' hq => hr4 hp3 hq) ?_))))
              obtain rfl := Option.some.inj h
              exact ch_return dX3_checkOne_439 rfl hk
          · obtain ⟨p4, hp5, h⟩ := ch_bd h
            refine ch_aload_n 0 (some m) dX3_checkOne_419 rfl (ch_iload_n 1 _ dX3_checkOne_420 rfl (ch_iload_n 2 _ dX3_checkOne_421 rfl (ch_iv yX3_checkWhile prog_14_method_66_code 4 none (ci := 3) (q := (RX3, TX3, 109)) (b := m) (d' := (d + 7)) (av := [.int x1, .int x2]) (rest := []) rfl dX3_checkOne_422 q2163 q2165 rfl qs169 q2166 can_X3_checkWhile (Nat.le_refl _) (Nat.le_of_ble_eq_true rfl) ch_put_tag (cp_kV (w1 := ch_put m w p4) (fun Q' hq => hr3 hp5 hq) ?_))))
            obtain rfl := Option.some.inj h
            exact ch_goto 439 dX3_checkOne_425 rfl (ch_return dX3_checkOne_439 rfl hk)
        · obtain ⟨p6, hp7, h⟩ := ch_bd h
          refine ch_aload_n 0 (some m) dX3_checkOne_405 rfl (ch_iload_n 1 _ dX3_checkOne_406 rfl (ch_iload_n 2 _ dX3_checkOne_407 rfl (ch_iv yX3_checkIf prog_14_method_65_code 5 none (ci := 3) (q := (RX3, TX3, 109)) (b := m) (d' := (d + 7)) (av := [.int x1, .int x2]) (rest := []) rfl dX3_checkOne_408 q2147 q2149 rfl qs165 q2150 can_X3_checkIf (Nat.le_refl _) (Nat.le_of_ble_eq_true rfl) ch_put_tag (cp_kV (w1 := ch_put m w p6) (fun Q' hq => hr2 hp7 hq) ?_))))
          obtain rfl := Option.some.inj h
          exact ch_goto 439 dX3_checkOne_411 rfl (ch_return dX3_checkOne_439 rfl hk)
      · refine ch_aload_n 0 (some m) dX3_checkOne_392 rfl (ch_iconst _ 1 dX3_checkOne_393 rfl (mp_pZ (k := 66) dX3_checkOne_394 fl_X3_476 rfl rfl rfl h (fun σ8 h => ?_)))
        obtain rfl := Option.some.inj h
        exact ch_goto 439 dX3_checkOne_397 rfl (ch_return dX3_checkOne_439 rfl hk)
  · refine ch_aload_n 0 (some m) dX3_checkOne_371 rfl (ch_aload_n 0 (some m) dX3_checkOne_372 rfl (mp_gA 27 dX3_checkOne_373 fl_X3_49 rfl (ch_iload_n 1 _ dX3_checkOne_376 rfl (mp_iald dX3_checkOne_377 mk_27 h (fun v9 h => ?_)))))
    obtain ⟨p10, hp11, h⟩ := ch_bd h
    refine ch_iv yX3_isBad prog_14_method_42_code 2 none (ci := 3) (q := (RX3, TX3, 109)) (b := m) (d' := 2) (av := [.int v9]) (rest := []) rfl dX3_checkOne_378 q2048 q2050 rfl qs141 q2051 can_X3_isBad (Nat.le_trans (Nat.le_of_ble_eq_true rfl) (Nat.le_add_left 8 d)) (Nat.le_of_ble_eq_true rfl) ch_put_tag (cp_kV (w1 := ch_put m w p10) (fun Q' hq => s_X3_isBad hp11 hq) ?_)
    obtain rfl := Option.some.inj h
    exact ch_return dX3_checkOne_381 rfl hk

def m_X3_checkOne_201 (rc : Nat → Int32 → Int32 → ch_S → Option (ch_S)) (x1 : Int32) (x2 : Int32) (x3 : Int32) (x5 : Int32) (y0 : Int32) (y1 : Int32) (y2 : Int32) (σ : ch_S) : Option (ch_S) := (m_X3_addVariable y2 y1 y0 σ).bind fun p1 => m_X3_checkOne_366 rc x1 x2 x3 x5 p1
theorem s_X3_checkOne_201 {g : State} {d : Nat} {rc : Nat → Int32 → Int32 → ch_S → Option (ch_S)} {m : Nat} {w : ch_W} (hr2 : ∀ {z0 : Int32} {z1 : Int32} {σ : ch_S} {p : ch_S} {Q : Outcome → ch_W → Prop}, rc 2 z0 z1 σ = some p → ch_eV Q (ch_put m w p) → ch_CT g false yX3_checkIf (d + 7) [.ref m, .int z0, .int z1] (ch_put m w σ) Q) (hr3 : ∀ {z0 : Int32} {z1 : Int32} {σ : ch_S} {p : ch_S} {Q : Outcome → ch_W → Prop}, rc 3 z0 z1 σ = some p → ch_eV Q (ch_put m w p) → ch_CT g false yX3_checkWhile (d + 7) [.ref m, .int z0, .int z1] (ch_put m w σ) Q) (hr4 : ∀ {z0 : Int32} {z1 : Int32} {σ : ch_S} {p : ch_S} {Q : Outcome → ch_W → Prop}, rc 4 z0 z1 σ = some p → ch_eV Q (ch_put m w p) → ch_CT g false yX3_checkTry (d + 7) [.ref m, .int z0, .int z1] (ch_put m w σ) Q)  {x1 : Int32} {x2 : Int32} {x3 : Int32} {x5 : Int32} {y0 : Int32} {y1 : Int32} {y2 : Int32} {σ : ch_S} {res : ch_S} {Q : Outcome → ch_W → Prop} (h : m_X3_checkOne_201 rc x1 x2 x3 x5 y0 y1 y2 σ = some res) (hk : (fun r => ch_eV Q (ch_put m w r)) res) : ch_FT g false mX3_checkOne (d + 8) 201 [some (va_rf (some m)), some (.int x1), some (.int x2), some (.int x3), none, some (.int x5), none, none] [.int y0, .int y1, .int y2, va_rf (some m)] (ch_put m w σ) Q := by
  unfold m_X3_checkOne_201 at h
  obtain ⟨p1, hp2, h⟩ := ch_bd h
  refine ch_iv yX3_addVariable prog_14_method_55_code 4 none (ci := 3) (q := (RX3, TX3, 109)) (b := m) (d' := 2) (av := [.int y2, .int y1, .int y0]) (rest := []) rfl dX3_checkOne_201 q2080 q2082 rfl qs149 q2083 can_X3_addVariable (Nat.le_trans (Nat.le_of_ble_eq_true rfl) (Nat.le_add_left 8 d)) (Nat.le_of_ble_eq_true rfl) ch_put_tag (cp_kV (w1 := ch_put m w p1) (fun Q' hq => s_X3_addVariable hp2 hq) ?_)
  exact ch_goto 366 dX3_checkOne_204 rfl (ch_FT.wk (ch_wS (ch_wS (ch_wS (ch_wS (ch_wN (ch_wS (ch_wN (ch_wN ch_w0)))))))) (s_X3_checkOne_366 hr2 hr3 hr4 h hk))

def m_X3_checkOne_157 (rc : Nat → Int32 → Int32 → ch_S → Option (ch_S)) (x1 : Int32) (x2 : Int32) (x3 : Int32) (x4 : Int32) (x7 : Int32) (y0 : Int32) (σ : ch_S) : Option (ch_S) := if y0 = 0 then (m_X3_checkOne_366 rc x1 x2 x3 y0 σ) else ((ch_mw σ fX3_variable x1 (σ.1 fX3_variables)).bind fun σ1 => (ch_mw σ1 fX3_toldType x1 x7).bind fun σ2 => (ch_ma σ2 fX3_toldName x1).bind fun v3 => if x4 < 0 then (m_X3_checkOne_201 rc x1 x2 x3 y0 0 x7 v3 σ2) else (m_X3_checkOne_201 rc x1 x2 x3 y0 1 x7 v3 σ2))
theorem s_X3_checkOne_157 {g : State} {d : Nat} {rc : Nat → Int32 → Int32 → ch_S → Option (ch_S)} {m : Nat} {w : ch_W} (hr2 : ∀ {z0 : Int32} {z1 : Int32} {σ : ch_S} {p : ch_S} {Q : Outcome → ch_W → Prop}, rc 2 z0 z1 σ = some p → ch_eV Q (ch_put m w p) → ch_CT g false yX3_checkIf (d + 7) [.ref m, .int z0, .int z1] (ch_put m w σ) Q) (hr3 : ∀ {z0 : Int32} {z1 : Int32} {σ : ch_S} {p : ch_S} {Q : Outcome → ch_W → Prop}, rc 3 z0 z1 σ = some p → ch_eV Q (ch_put m w p) → ch_CT g false yX3_checkWhile (d + 7) [.ref m, .int z0, .int z1] (ch_put m w σ) Q) (hr4 : ∀ {z0 : Int32} {z1 : Int32} {σ : ch_S} {p : ch_S} {Q : Outcome → ch_W → Prop}, rc 4 z0 z1 σ = some p → ch_eV Q (ch_put m w p) → ch_CT g false yX3_checkTry (d + 7) [.ref m, .int z0, .int z1] (ch_put m w σ) Q)  {x1 : Int32} {x2 : Int32} {x3 : Int32} {x4 : Int32} {x7 : Int32} {y0 : Int32} {σ : ch_S} {res : ch_S} {Q : Outcome → ch_W → Prop} (h : m_X3_checkOne_157 rc x1 x2 x3 x4 x7 y0 σ = some res) (hk : (fun r => ch_eV Q (ch_put m w r)) res) : ch_FT g false mX3_checkOne (d + 8) 157 [some (va_rf (some m)), some (.int x1), some (.int x2), some (.int x3), some (.int x4), none, none, some (.int x7)] [.int y0] (ch_put m w σ) Q := by
  unfold m_X3_checkOne_157 at h
  refine ch_istore 5 _ (ls1 := [some (va_rf (some m)), some (.int x1), some (.int x2), some (.int x3), some (.int x4), some (.int y0), none, some (.int x7)]) dX3_checkOne_157 (Nat.le_of_ble_eq_true rfl) rfl (ch_iload 5 _ dX3_checkOne_159 rfl (cp_if_eq _ (tgt := 366) dX3_checkOne_161 rfl h (fun h => ?_) (fun h => ?_)))
  · exact ch_FT.wk (ch_wS (ch_wS (ch_wS (ch_wS (ch_wN (ch_wS (ch_wN (ch_wN ch_w0)))))))) (s_X3_checkOne_366 hr2 hr3 hr4 h hk)
  · refine ch_aload_n 0 (some m) dX3_checkOne_164 rfl (mp_gA 33 dX3_checkOne_165 fl_X3_67 rfl (ch_iload_n 1 _ dX3_checkOne_168 rfl (ch_aload_n 0 (some m) dX3_checkOne_169 rfl (mp_gI 62 dX3_checkOne_170 fl_X3_467 rfl (mp_iast dX3_checkOne_173 mk_33 rfl h (fun σ1 h => ?_))))))
    refine ch_aload_n 0 (some m) dX3_checkOne_174 rfl (mp_gA 31 dX3_checkOne_175 fl_X3_61 rfl (ch_iload_n 1 _ dX3_checkOne_178 rfl (ch_iload 7 _ dX3_checkOne_179 rfl (mp_iast dX3_checkOne_181 mk_31 rfl h (fun σ2 h => ?_)))))
    refine ch_aload_n 0 (some m) dX3_checkOne_182 rfl (ch_aload_n 0 (some m) dX3_checkOne_183 rfl (mp_gA 32 dX3_checkOne_184 fl_X3_64 rfl (ch_iload_n 1 _ dX3_checkOne_187 rfl (mp_iald dX3_checkOne_188 mk_32 h (fun v3 h => ?_)))))
    refine ch_iload 7 _ dX3_checkOne_189 rfl (ch_iload 4 _ dX3_checkOne_191 rfl (cp_if_lt _ (tgt := 200) dX3_checkOne_193 rfl h (fun h => ?_) (fun h => ?_)))
    · exact ch_iconst _ 0 dX3_checkOne_200 rfl (ch_FT.wk (ch_wS (ch_wS (ch_wS (ch_wS (ch_wN (ch_wS (ch_wN (ch_wN ch_w0)))))))) (s_X3_checkOne_201 hr2 hr3 hr4 h hk))
    · exact ch_iconst _ 1 dX3_checkOne_196 rfl (ch_goto 201 dX3_checkOne_197 rfl (ch_FT.wk (ch_wS (ch_wS (ch_wS (ch_wS (ch_wN (ch_wS (ch_wN (ch_wN ch_w0)))))))) (s_X3_checkOne_201 hr2 hr3 hr4 h hk)))

def m_X3_checkOne_156 (rc : Nat → Int32 → Int32 → ch_S → Option (ch_S)) (x1 : Int32) (x2 : Int32) (x3 : Int32) (x4 : Int32) (x7 : Int32)  (σ : ch_S) : Option (ch_S) := m_X3_checkOne_157 rc x1 x2 x3 x4 x7 0 σ
theorem s_X3_checkOne_156 {g : State} {d : Nat} {rc : Nat → Int32 → Int32 → ch_S → Option (ch_S)} {m : Nat} {w : ch_W} (hr2 : ∀ {z0 : Int32} {z1 : Int32} {σ : ch_S} {p : ch_S} {Q : Outcome → ch_W → Prop}, rc 2 z0 z1 σ = some p → ch_eV Q (ch_put m w p) → ch_CT g false yX3_checkIf (d + 7) [.ref m, .int z0, .int z1] (ch_put m w σ) Q) (hr3 : ∀ {z0 : Int32} {z1 : Int32} {σ : ch_S} {p : ch_S} {Q : Outcome → ch_W → Prop}, rc 3 z0 z1 σ = some p → ch_eV Q (ch_put m w p) → ch_CT g false yX3_checkWhile (d + 7) [.ref m, .int z0, .int z1] (ch_put m w σ) Q) (hr4 : ∀ {z0 : Int32} {z1 : Int32} {σ : ch_S} {p : ch_S} {Q : Outcome → ch_W → Prop}, rc 4 z0 z1 σ = some p → ch_eV Q (ch_put m w p) → ch_CT g false yX3_checkTry (d + 7) [.ref m, .int z0, .int z1] (ch_put m w σ) Q)  {x1 : Int32} {x2 : Int32} {x3 : Int32} {x4 : Int32} {x7 : Int32} {σ : ch_S} {res : ch_S} {Q : Outcome → ch_W → Prop} (h : m_X3_checkOne_156 rc x1 x2 x3 x4 x7 σ = some res) (hk : (fun r => ch_eV Q (ch_put m w r)) res) : ch_FT g false mX3_checkOne (d + 8) 156 [some (va_rf (some m)), some (.int x1), some (.int x2), some (.int x3), some (.int x4), none, none, some (.int x7)] [] (ch_put m w σ) Q := by
  unfold m_X3_checkOne_156 at h
  exact ch_iconst _ 0 dX3_checkOne_156 rfl (ch_FT.wk (ch_wS (ch_wS (ch_wS (ch_wS (ch_wS (ch_wN (ch_wN (ch_wS ch_w0)))))))) (s_X3_checkOne_157 hr2 hr3 hr4 h hk))

def m_X3_checkOne_152 (rc : Nat → Int32 → Int32 → ch_S → Option (ch_S)) (x1 : Int32) (x2 : Int32) (x3 : Int32) (x4 : Int32) (x7 : Int32)  (σ : ch_S) : Option (ch_S) := m_X3_checkOne_157 rc x1 x2 x3 x4 x7 1 σ
theorem s_X3_checkOne_152 {g : State} {d : Nat} {rc : Nat → Int32 → Int32 → ch_S → Option (ch_S)} {m : Nat} {w : ch_W} (hr2 : ∀ {z0 : Int32} {z1 : Int32} {σ : ch_S} {p : ch_S} {Q : Outcome → ch_W → Prop}, rc 2 z0 z1 σ = some p → ch_eV Q (ch_put m w p) → ch_CT g false yX3_checkIf (d + 7) [.ref m, .int z0, .int z1] (ch_put m w σ) Q) (hr3 : ∀ {z0 : Int32} {z1 : Int32} {σ : ch_S} {p : ch_S} {Q : Outcome → ch_W → Prop}, rc 3 z0 z1 σ = some p → ch_eV Q (ch_put m w p) → ch_CT g false yX3_checkWhile (d + 7) [.ref m, .int z0, .int z1] (ch_put m w σ) Q) (hr4 : ∀ {z0 : Int32} {z1 : Int32} {σ : ch_S} {p : ch_S} {Q : Outcome → ch_W → Prop}, rc 4 z0 z1 σ = some p → ch_eV Q (ch_put m w p) → ch_CT g false yX3_checkTry (d + 7) [.ref m, .int z0, .int z1] (ch_put m w σ) Q)  {x1 : Int32} {x2 : Int32} {x3 : Int32} {x4 : Int32} {x7 : Int32} {σ : ch_S} {res : ch_S} {Q : Outcome → ch_W → Prop} (h : m_X3_checkOne_152 rc x1 x2 x3 x4 x7 σ = some res) (hk : (fun r => ch_eV Q (ch_put m w r)) res) : ch_FT g false mX3_checkOne (d + 8) 152 [some (va_rf (some m)), some (.int x1), some (.int x2), some (.int x3), some (.int x4), none, none, some (.int x7)] [] (ch_put m w σ) Q := by
  unfold m_X3_checkOne_152 at h
  exact ch_iconst _ 1 dX3_checkOne_152 rfl (ch_goto 157 dX3_checkOne_153 rfl (ch_FT.wk (ch_wS (ch_wS (ch_wS (ch_wS (ch_wS (ch_wN (ch_wN (ch_wS ch_w0)))))))) (s_X3_checkOne_157 hr2 hr3 hr4 h hk)))

def m_X3_checkOne_361 (rc : Nat → Int32 → Int32 → ch_S → Option (ch_S)) (x1 : Int32) (x2 : Int32) (x3 : Int32) (y0 : Int32) (σ : ch_S) : Option (ch_S) := m_X3_checkOne_366 rc x1 x2 x3 y0 σ
theorem s_X3_checkOne_361 {g : State} {d : Nat} {rc : Nat → Int32 → Int32 → ch_S → Option (ch_S)} {m : Nat} {w : ch_W} (hr2 : ∀ {z0 : Int32} {z1 : Int32} {σ : ch_S} {p : ch_S} {Q : Outcome → ch_W → Prop}, rc 2 z0 z1 σ = some p → ch_eV Q (ch_put m w p) → ch_CT g false yX3_checkIf (d + 7) [.ref m, .int z0, .int z1] (ch_put m w σ) Q) (hr3 : ∀ {z0 : Int32} {z1 : Int32} {σ : ch_S} {p : ch_S} {Q : Outcome → ch_W → Prop}, rc 3 z0 z1 σ = some p → ch_eV Q (ch_put m w p) → ch_CT g false yX3_checkWhile (d + 7) [.ref m, .int z0, .int z1] (ch_put m w σ) Q) (hr4 : ∀ {z0 : Int32} {z1 : Int32} {σ : ch_S} {p : ch_S} {Q : Outcome → ch_W → Prop}, rc 4 z0 z1 σ = some p → ch_eV Q (ch_put m w p) → ch_CT g false yX3_checkTry (d + 7) [.ref m, .int z0, .int z1] (ch_put m w σ) Q)  {x1 : Int32} {x2 : Int32} {x3 : Int32} {y0 : Int32} {σ : ch_S} {res : ch_S} {Q : Outcome → ch_W → Prop} (h : m_X3_checkOne_361 rc x1 x2 x3 y0 σ = some res) (hk : (fun r => ch_eV Q (ch_put m w r)) res) : ch_FT g false mX3_checkOne (d + 8) 361 [some (va_rf (some m)), some (.int x1), some (.int x2), some (.int x3), none, none, none, none] [.int y0] (ch_put m w σ) Q := by
  unfold m_X3_checkOne_361 at h
  exact ch_istore 5 _ (ls1 := [some (va_rf (some m)), some (.int x1), some (.int x2), some (.int x3), none, some (.int y0), none, none]) dX3_checkOne_361 (Nat.le_of_ble_eq_true rfl) rfl (ch_goto 366 dX3_checkOne_363 rfl (ch_FT.wk (ch_wS (ch_wS (ch_wS (ch_wS (ch_wN (ch_wS (ch_wN (ch_wN ch_w0)))))))) (s_X3_checkOne_366 hr2 hr3 hr4 h hk)))

def m_X3_checkOne_360 (rc : Nat → Int32 → Int32 → ch_S → Option (ch_S)) (x1 : Int32) (x2 : Int32) (x3 : Int32)  (σ : ch_S) : Option (ch_S) := m_X3_checkOne_361 rc x1 x2 x3 0 σ
theorem s_X3_checkOne_360 {g : State} {d : Nat} {rc : Nat → Int32 → Int32 → ch_S → Option (ch_S)} {m : Nat} {w : ch_W} (hr2 : ∀ {z0 : Int32} {z1 : Int32} {σ : ch_S} {p : ch_S} {Q : Outcome → ch_W → Prop}, rc 2 z0 z1 σ = some p → ch_eV Q (ch_put m w p) → ch_CT g false yX3_checkIf (d + 7) [.ref m, .int z0, .int z1] (ch_put m w σ) Q) (hr3 : ∀ {z0 : Int32} {z1 : Int32} {σ : ch_S} {p : ch_S} {Q : Outcome → ch_W → Prop}, rc 3 z0 z1 σ = some p → ch_eV Q (ch_put m w p) → ch_CT g false yX3_checkWhile (d + 7) [.ref m, .int z0, .int z1] (ch_put m w σ) Q) (hr4 : ∀ {z0 : Int32} {z1 : Int32} {σ : ch_S} {p : ch_S} {Q : Outcome → ch_W → Prop}, rc 4 z0 z1 σ = some p → ch_eV Q (ch_put m w p) → ch_CT g false yX3_checkTry (d + 7) [.ref m, .int z0, .int z1] (ch_put m w σ) Q)  {x1 : Int32} {x2 : Int32} {x3 : Int32} {σ : ch_S} {res : ch_S} {Q : Outcome → ch_W → Prop} (h : m_X3_checkOne_360 rc x1 x2 x3 σ = some res) (hk : (fun r => ch_eV Q (ch_put m w r)) res) : ch_FT g false mX3_checkOne (d + 8) 360 [some (va_rf (some m)), some (.int x1), some (.int x2), some (.int x3), none, none, none, none] [] (ch_put m w σ) Q := by
  unfold m_X3_checkOne_360 at h
  exact ch_iconst _ 0 dX3_checkOne_360 rfl (ch_FT.wk (ch_wS (ch_wS (ch_wS (ch_wS (ch_wN (ch_wN (ch_wN (ch_wN ch_w0)))))))) (s_X3_checkOne_361 hr2 hr3 hr4 h hk))

def m_X3_checkOne_315 (rc : Nat → Int32 → Int32 → ch_S → Option (ch_S)) (x1 : Int32) (x2 : Int32) (x3 : Int32) (y0 : Int32) (σ : ch_S) : Option (ch_S) := m_X3_checkOne_366 rc x1 x2 x3 y0 σ
theorem s_X3_checkOne_315 {g : State} {d : Nat} {rc : Nat → Int32 → Int32 → ch_S → Option (ch_S)} {m : Nat} {w : ch_W} (hr2 : ∀ {z0 : Int32} {z1 : Int32} {σ : ch_S} {p : ch_S} {Q : Outcome → ch_W → Prop}, rc 2 z0 z1 σ = some p → ch_eV Q (ch_put m w p) → ch_CT g false yX3_checkIf (d + 7) [.ref m, .int z0, .int z1] (ch_put m w σ) Q) (hr3 : ∀ {z0 : Int32} {z1 : Int32} {σ : ch_S} {p : ch_S} {Q : Outcome → ch_W → Prop}, rc 3 z0 z1 σ = some p → ch_eV Q (ch_put m w p) → ch_CT g false yX3_checkWhile (d + 7) [.ref m, .int z0, .int z1] (ch_put m w σ) Q) (hr4 : ∀ {z0 : Int32} {z1 : Int32} {σ : ch_S} {p : ch_S} {Q : Outcome → ch_W → Prop}, rc 4 z0 z1 σ = some p → ch_eV Q (ch_put m w p) → ch_CT g false yX3_checkTry (d + 7) [.ref m, .int z0, .int z1] (ch_put m w σ) Q)  {x1 : Int32} {x2 : Int32} {x3 : Int32} {y0 : Int32} {σ : ch_S} {res : ch_S} {Q : Outcome → ch_W → Prop} (h : m_X3_checkOne_315 rc x1 x2 x3 y0 σ = some res) (hk : (fun r => ch_eV Q (ch_put m w r)) res) : ch_FT g false mX3_checkOne (d + 8) 315 [some (va_rf (some m)), some (.int x1), some (.int x2), some (.int x3), none, none, none, none] [.int y0] (ch_put m w σ) Q := by
  unfold m_X3_checkOne_315 at h
  exact ch_istore 5 _ (ls1 := [some (va_rf (some m)), some (.int x1), some (.int x2), some (.int x3), none, some (.int y0), none, none]) dX3_checkOne_315 (Nat.le_of_ble_eq_true rfl) rfl (ch_goto 366 dX3_checkOne_317 rfl (ch_FT.wk (ch_wS (ch_wS (ch_wS (ch_wS (ch_wN (ch_wS (ch_wN (ch_wN ch_w0)))))))) (s_X3_checkOne_366 hr2 hr3 hr4 h hk)))

def m_X3_checkOne_314 (rc : Nat → Int32 → Int32 → ch_S → Option (ch_S)) (x1 : Int32) (x2 : Int32) (x3 : Int32)  (σ : ch_S) : Option (ch_S) := m_X3_checkOne_315 rc x1 x2 x3 0 σ
theorem s_X3_checkOne_314 {g : State} {d : Nat} {rc : Nat → Int32 → Int32 → ch_S → Option (ch_S)} {m : Nat} {w : ch_W} (hr2 : ∀ {z0 : Int32} {z1 : Int32} {σ : ch_S} {p : ch_S} {Q : Outcome → ch_W → Prop}, rc 2 z0 z1 σ = some p → ch_eV Q (ch_put m w p) → ch_CT g false yX3_checkIf (d + 7) [.ref m, .int z0, .int z1] (ch_put m w σ) Q) (hr3 : ∀ {z0 : Int32} {z1 : Int32} {σ : ch_S} {p : ch_S} {Q : Outcome → ch_W → Prop}, rc 3 z0 z1 σ = some p → ch_eV Q (ch_put m w p) → ch_CT g false yX3_checkWhile (d + 7) [.ref m, .int z0, .int z1] (ch_put m w σ) Q) (hr4 : ∀ {z0 : Int32} {z1 : Int32} {σ : ch_S} {p : ch_S} {Q : Outcome → ch_W → Prop}, rc 4 z0 z1 σ = some p → ch_eV Q (ch_put m w p) → ch_CT g false yX3_checkTry (d + 7) [.ref m, .int z0, .int z1] (ch_put m w σ) Q)  {x1 : Int32} {x2 : Int32} {x3 : Int32} {σ : ch_S} {res : ch_S} {Q : Outcome → ch_W → Prop} (h : m_X3_checkOne_314 rc x1 x2 x3 σ = some res) (hk : (fun r => ch_eV Q (ch_put m w r)) res) : ch_FT g false mX3_checkOne (d + 8) 314 [some (va_rf (some m)), some (.int x1), some (.int x2), some (.int x3), none, none, none, none] [] (ch_put m w σ) Q := by
  unfold m_X3_checkOne_314 at h
  exact ch_iconst _ 0 dX3_checkOne_314 rfl (ch_FT.wk (ch_wS (ch_wS (ch_wS (ch_wS (ch_wN (ch_wN (ch_wN (ch_wN ch_w0)))))))) (s_X3_checkOne_315 hr2 hr3 hr4 h hk))

def m_X3_checkOne_310 (rc : Nat → Int32 → Int32 → ch_S → Option (ch_S)) (x1 : Int32) (x2 : Int32) (x3 : Int32)  (σ : ch_S) : Option (ch_S) := m_X3_checkOne_315 rc x1 x2 x3 1 σ
theorem s_X3_checkOne_310 {g : State} {d : Nat} {rc : Nat → Int32 → Int32 → ch_S → Option (ch_S)} {m : Nat} {w : ch_W} (hr2 : ∀ {z0 : Int32} {z1 : Int32} {σ : ch_S} {p : ch_S} {Q : Outcome → ch_W → Prop}, rc 2 z0 z1 σ = some p → ch_eV Q (ch_put m w p) → ch_CT g false yX3_checkIf (d + 7) [.ref m, .int z0, .int z1] (ch_put m w σ) Q) (hr3 : ∀ {z0 : Int32} {z1 : Int32} {σ : ch_S} {p : ch_S} {Q : Outcome → ch_W → Prop}, rc 3 z0 z1 σ = some p → ch_eV Q (ch_put m w p) → ch_CT g false yX3_checkWhile (d + 7) [.ref m, .int z0, .int z1] (ch_put m w σ) Q) (hr4 : ∀ {z0 : Int32} {z1 : Int32} {σ : ch_S} {p : ch_S} {Q : Outcome → ch_W → Prop}, rc 4 z0 z1 σ = some p → ch_eV Q (ch_put m w p) → ch_CT g false yX3_checkTry (d + 7) [.ref m, .int z0, .int z1] (ch_put m w σ) Q)  {x1 : Int32} {x2 : Int32} {x3 : Int32} {σ : ch_S} {res : ch_S} {Q : Outcome → ch_W → Prop} (h : m_X3_checkOne_310 rc x1 x2 x3 σ = some res) (hk : (fun r => ch_eV Q (ch_put m w r)) res) : ch_FT g false mX3_checkOne (d + 8) 310 [some (va_rf (some m)), some (.int x1), some (.int x2), some (.int x3), none, none, none, none] [] (ch_put m w σ) Q := by
  unfold m_X3_checkOne_310 at h
  exact ch_iconst _ 1 dX3_checkOne_310 rfl (ch_goto 315 dX3_checkOne_311 rfl (ch_FT.wk (ch_wS (ch_wS (ch_wS (ch_wS (ch_wN (ch_wN (ch_wN (ch_wN ch_w0)))))))) (s_X3_checkOne_315 hr2 hr3 hr4 h hk)))

def m_X3_checkOne_248 (rc : Nat → Int32 → Int32 → ch_S → Option (ch_S)) (x1 : Int32) (x2 : Int32) (x3 : Int32) (y0 : Int32) (σ : ch_S) : Option (ch_S) := m_X3_checkOne_366 rc x1 x2 x3 y0 σ
theorem s_X3_checkOne_248 {g : State} {d : Nat} {rc : Nat → Int32 → Int32 → ch_S → Option (ch_S)} {m : Nat} {w : ch_W} (hr2 : ∀ {z0 : Int32} {z1 : Int32} {σ : ch_S} {p : ch_S} {Q : Outcome → ch_W → Prop}, rc 2 z0 z1 σ = some p → ch_eV Q (ch_put m w p) → ch_CT g false yX3_checkIf (d + 7) [.ref m, .int z0, .int z1] (ch_put m w σ) Q) (hr3 : ∀ {z0 : Int32} {z1 : Int32} {σ : ch_S} {p : ch_S} {Q : Outcome → ch_W → Prop}, rc 3 z0 z1 σ = some p → ch_eV Q (ch_put m w p) → ch_CT g false yX3_checkWhile (d + 7) [.ref m, .int z0, .int z1] (ch_put m w σ) Q) (hr4 : ∀ {z0 : Int32} {z1 : Int32} {σ : ch_S} {p : ch_S} {Q : Outcome → ch_W → Prop}, rc 4 z0 z1 σ = some p → ch_eV Q (ch_put m w p) → ch_CT g false yX3_checkTry (d + 7) [.ref m, .int z0, .int z1] (ch_put m w σ) Q)  {x1 : Int32} {x2 : Int32} {x3 : Int32} {y0 : Int32} {σ : ch_S} {res : ch_S} {Q : Outcome → ch_W → Prop} (h : m_X3_checkOne_248 rc x1 x2 x3 y0 σ = some res) (hk : (fun r => ch_eV Q (ch_put m w r)) res) : ch_FT g false mX3_checkOne (d + 8) 248 [some (va_rf (some m)), some (.int x1), some (.int x2), some (.int x3), none, none, none, none] [.int y0] (ch_put m w σ) Q := by
  unfold m_X3_checkOne_248 at h
  exact ch_istore 5 _ (ls1 := [some (va_rf (some m)), some (.int x1), some (.int x2), some (.int x3), none, some (.int y0), none, none]) dX3_checkOne_248 (Nat.le_of_ble_eq_true rfl) rfl (ch_goto 366 dX3_checkOne_250 rfl (ch_FT.wk (ch_wS (ch_wS (ch_wS (ch_wS (ch_wN (ch_wS (ch_wN (ch_wN ch_w0)))))))) (s_X3_checkOne_366 hr2 hr3 hr4 h hk)))

def m_X3_checkOne_247 (rc : Nat → Int32 → Int32 → ch_S → Option (ch_S)) (x1 : Int32) (x2 : Int32) (x3 : Int32)  (σ : ch_S) : Option (ch_S) := m_X3_checkOne_248 rc x1 x2 x3 0 σ
theorem s_X3_checkOne_247 {g : State} {d : Nat} {rc : Nat → Int32 → Int32 → ch_S → Option (ch_S)} {m : Nat} {w : ch_W} (hr2 : ∀ {z0 : Int32} {z1 : Int32} {σ : ch_S} {p : ch_S} {Q : Outcome → ch_W → Prop}, rc 2 z0 z1 σ = some p → ch_eV Q (ch_put m w p) → ch_CT g false yX3_checkIf (d + 7) [.ref m, .int z0, .int z1] (ch_put m w σ) Q) (hr3 : ∀ {z0 : Int32} {z1 : Int32} {σ : ch_S} {p : ch_S} {Q : Outcome → ch_W → Prop}, rc 3 z0 z1 σ = some p → ch_eV Q (ch_put m w p) → ch_CT g false yX3_checkWhile (d + 7) [.ref m, .int z0, .int z1] (ch_put m w σ) Q) (hr4 : ∀ {z0 : Int32} {z1 : Int32} {σ : ch_S} {p : ch_S} {Q : Outcome → ch_W → Prop}, rc 4 z0 z1 σ = some p → ch_eV Q (ch_put m w p) → ch_CT g false yX3_checkTry (d + 7) [.ref m, .int z0, .int z1] (ch_put m w σ) Q)  {x1 : Int32} {x2 : Int32} {x3 : Int32} {σ : ch_S} {res : ch_S} {Q : Outcome → ch_W → Prop} (h : m_X3_checkOne_247 rc x1 x2 x3 σ = some res) (hk : (fun r => ch_eV Q (ch_put m w r)) res) : ch_FT g false mX3_checkOne (d + 8) 247 [some (va_rf (some m)), some (.int x1), some (.int x2), some (.int x3), none, none, none, none] [] (ch_put m w σ) Q := by
  unfold m_X3_checkOne_247 at h
  exact ch_iconst _ 0 dX3_checkOne_247 rfl (ch_FT.wk (ch_wS (ch_wS (ch_wS (ch_wS (ch_wN (ch_wN (ch_wN (ch_wN ch_w0)))))))) (s_X3_checkOne_248 hr2 hr3 hr4 h hk))

def m_X3_checkOne_226 (rc : Nat → Int32 → Int32 → ch_S → Option (ch_S)) (x1 : Int32) (x2 : Int32) (x3 : Int32) (y0 : Int32) (σ : ch_S) : Option (ch_S) := m_X3_checkOne_366 rc x1 x2 x3 y0 σ
theorem s_X3_checkOne_226 {g : State} {d : Nat} {rc : Nat → Int32 → Int32 → ch_S → Option (ch_S)} {m : Nat} {w : ch_W} (hr2 : ∀ {z0 : Int32} {z1 : Int32} {σ : ch_S} {p : ch_S} {Q : Outcome → ch_W → Prop}, rc 2 z0 z1 σ = some p → ch_eV Q (ch_put m w p) → ch_CT g false yX3_checkIf (d + 7) [.ref m, .int z0, .int z1] (ch_put m w σ) Q) (hr3 : ∀ {z0 : Int32} {z1 : Int32} {σ : ch_S} {p : ch_S} {Q : Outcome → ch_W → Prop}, rc 3 z0 z1 σ = some p → ch_eV Q (ch_put m w p) → ch_CT g false yX3_checkWhile (d + 7) [.ref m, .int z0, .int z1] (ch_put m w σ) Q) (hr4 : ∀ {z0 : Int32} {z1 : Int32} {σ : ch_S} {p : ch_S} {Q : Outcome → ch_W → Prop}, rc 4 z0 z1 σ = some p → ch_eV Q (ch_put m w p) → ch_CT g false yX3_checkTry (d + 7) [.ref m, .int z0, .int z1] (ch_put m w σ) Q)  {x1 : Int32} {x2 : Int32} {x3 : Int32} {y0 : Int32} {σ : ch_S} {res : ch_S} {Q : Outcome → ch_W → Prop} (h : m_X3_checkOne_226 rc x1 x2 x3 y0 σ = some res) (hk : (fun r => ch_eV Q (ch_put m w r)) res) : ch_FT g false mX3_checkOne (d + 8) 226 [some (va_rf (some m)), some (.int x1), some (.int x2), some (.int x3), none, none, none, none] [.int y0] (ch_put m w σ) Q := by
  unfold m_X3_checkOne_226 at h
  exact ch_istore 5 _ (ls1 := [some (va_rf (some m)), some (.int x1), some (.int x2), some (.int x3), none, some (.int y0), none, none]) dX3_checkOne_226 (Nat.le_of_ble_eq_true rfl) rfl (ch_goto 366 dX3_checkOne_228 rfl (ch_FT.wk (ch_wS (ch_wS (ch_wS (ch_wS (ch_wN (ch_wS (ch_wN (ch_wN ch_w0)))))))) (s_X3_checkOne_366 hr2 hr3 hr4 h hk)))

def m_X3_checkOne_225 (rc : Nat → Int32 → Int32 → ch_S → Option (ch_S)) (x1 : Int32) (x2 : Int32) (x3 : Int32)  (σ : ch_S) : Option (ch_S) := m_X3_checkOne_226 rc x1 x2 x3 0 σ
theorem s_X3_checkOne_225 {g : State} {d : Nat} {rc : Nat → Int32 → Int32 → ch_S → Option (ch_S)} {m : Nat} {w : ch_W} (hr2 : ∀ {z0 : Int32} {z1 : Int32} {σ : ch_S} {p : ch_S} {Q : Outcome → ch_W → Prop}, rc 2 z0 z1 σ = some p → ch_eV Q (ch_put m w p) → ch_CT g false yX3_checkIf (d + 7) [.ref m, .int z0, .int z1] (ch_put m w σ) Q) (hr3 : ∀ {z0 : Int32} {z1 : Int32} {σ : ch_S} {p : ch_S} {Q : Outcome → ch_W → Prop}, rc 3 z0 z1 σ = some p → ch_eV Q (ch_put m w p) → ch_CT g false yX3_checkWhile (d + 7) [.ref m, .int z0, .int z1] (ch_put m w σ) Q) (hr4 : ∀ {z0 : Int32} {z1 : Int32} {σ : ch_S} {p : ch_S} {Q : Outcome → ch_W → Prop}, rc 4 z0 z1 σ = some p → ch_eV Q (ch_put m w p) → ch_CT g false yX3_checkTry (d + 7) [.ref m, .int z0, .int z1] (ch_put m w σ) Q)  {x1 : Int32} {x2 : Int32} {x3 : Int32} {σ : ch_S} {res : ch_S} {Q : Outcome → ch_W → Prop} (h : m_X3_checkOne_225 rc x1 x2 x3 σ = some res) (hk : (fun r => ch_eV Q (ch_put m w r)) res) : ch_FT g false mX3_checkOne (d + 8) 225 [some (va_rf (some m)), some (.int x1), some (.int x2), some (.int x3), none, none, none, none] [] (ch_put m w σ) Q := by
  unfold m_X3_checkOne_225 at h
  exact ch_iconst _ 0 dX3_checkOne_225 rfl (ch_FT.wk (ch_wS (ch_wS (ch_wS (ch_wS (ch_wN (ch_wN (ch_wN (ch_wN ch_w0)))))))) (s_X3_checkOne_226 hr2 hr3 hr4 h hk))

def m_X3_checkOne_340 (rc : Nat → Int32 → Int32 → ch_S → Option (ch_S)) (x1 : Int32) (x2 : Int32) (x3 : Int32) (y0 : Int32) (σ : ch_S) : Option (ch_S) := m_X3_checkOne_366 rc x1 x2 x3 y0 σ
theorem s_X3_checkOne_340 {g : State} {d : Nat} {rc : Nat → Int32 → Int32 → ch_S → Option (ch_S)} {m : Nat} {w : ch_W} (hr2 : ∀ {z0 : Int32} {z1 : Int32} {σ : ch_S} {p : ch_S} {Q : Outcome → ch_W → Prop}, rc 2 z0 z1 σ = some p → ch_eV Q (ch_put m w p) → ch_CT g false yX3_checkIf (d + 7) [.ref m, .int z0, .int z1] (ch_put m w σ) Q) (hr3 : ∀ {z0 : Int32} {z1 : Int32} {σ : ch_S} {p : ch_S} {Q : Outcome → ch_W → Prop}, rc 3 z0 z1 σ = some p → ch_eV Q (ch_put m w p) → ch_CT g false yX3_checkWhile (d + 7) [.ref m, .int z0, .int z1] (ch_put m w σ) Q) (hr4 : ∀ {z0 : Int32} {z1 : Int32} {σ : ch_S} {p : ch_S} {Q : Outcome → ch_W → Prop}, rc 4 z0 z1 σ = some p → ch_eV Q (ch_put m w p) → ch_CT g false yX3_checkTry (d + 7) [.ref m, .int z0, .int z1] (ch_put m w σ) Q)  {x1 : Int32} {x2 : Int32} {x3 : Int32} {y0 : Int32} {σ : ch_S} {res : ch_S} {Q : Outcome → ch_W → Prop} (h : m_X3_checkOne_340 rc x1 x2 x3 y0 σ = some res) (hk : (fun r => ch_eV Q (ch_put m w r)) res) : ch_FT g false mX3_checkOne (d + 8) 340 [some (va_rf (some m)), some (.int x1), some (.int x2), some (.int x3), none, none, none, none] [.int y0] (ch_put m w σ) Q := by
  unfold m_X3_checkOne_340 at h
  exact ch_istore 5 _ (ls1 := [some (va_rf (some m)), some (.int x1), some (.int x2), some (.int x3), none, some (.int y0), none, none]) dX3_checkOne_340 (Nat.le_of_ble_eq_true rfl) rfl (ch_goto 366 dX3_checkOne_342 rfl (ch_FT.wk (ch_wS (ch_wS (ch_wS (ch_wS (ch_wN (ch_wS (ch_wN (ch_wN ch_w0)))))))) (s_X3_checkOne_366 hr2 hr3 hr4 h hk)))

def m_X3_checkOne_339 (rc : Nat → Int32 → Int32 → ch_S → Option (ch_S)) (x1 : Int32) (x2 : Int32) (x3 : Int32)  (σ : ch_S) : Option (ch_S) := m_X3_checkOne_340 rc x1 x2 x3 0 σ
theorem s_X3_checkOne_339 {g : State} {d : Nat} {rc : Nat → Int32 → Int32 → ch_S → Option (ch_S)} {m : Nat} {w : ch_W} (hr2 : ∀ {z0 : Int32} {z1 : Int32} {σ : ch_S} {p : ch_S} {Q : Outcome → ch_W → Prop}, rc 2 z0 z1 σ = some p → ch_eV Q (ch_put m w p) → ch_CT g false yX3_checkIf (d + 7) [.ref m, .int z0, .int z1] (ch_put m w σ) Q) (hr3 : ∀ {z0 : Int32} {z1 : Int32} {σ : ch_S} {p : ch_S} {Q : Outcome → ch_W → Prop}, rc 3 z0 z1 σ = some p → ch_eV Q (ch_put m w p) → ch_CT g false yX3_checkWhile (d + 7) [.ref m, .int z0, .int z1] (ch_put m w σ) Q) (hr4 : ∀ {z0 : Int32} {z1 : Int32} {σ : ch_S} {p : ch_S} {Q : Outcome → ch_W → Prop}, rc 4 z0 z1 σ = some p → ch_eV Q (ch_put m w p) → ch_CT g false yX3_checkTry (d + 7) [.ref m, .int z0, .int z1] (ch_put m w σ) Q)  {x1 : Int32} {x2 : Int32} {x3 : Int32} {σ : ch_S} {res : ch_S} {Q : Outcome → ch_W → Prop} (h : m_X3_checkOne_339 rc x1 x2 x3 σ = some res) (hk : (fun r => ch_eV Q (ch_put m w r)) res) : ch_FT g false mX3_checkOne (d + 8) 339 [some (va_rf (some m)), some (.int x1), some (.int x2), some (.int x3), none, none, none, none] [] (ch_put m w σ) Q := by
  unfold m_X3_checkOne_339 at h
  exact ch_iconst _ 0 dX3_checkOne_339 rfl (ch_FT.wk (ch_wS (ch_wS (ch_wS (ch_wS (ch_wN (ch_wN (ch_wN (ch_wN ch_w0)))))))) (s_X3_checkOne_340 hr2 hr3 hr4 h hk))

def m_X3_checkOne_41 (rc : Nat → Int32 → Int32 → ch_S → Option (ch_S)) (x1 : Int32) (x2 : Int32) (x3 : Int32) (x4 : Int32) (y0 : Int32) (σ : ch_S) : Option (ch_S) := (m_X3_typeOfValue x1 σ).bind fun v1 => if x3 = 0 then ((ch_ma σ fX3_toldType x1).bind fun v3 => (m_X3_meant v3 σ).bind fun v4 => if y0 = 0 then (m_X3_checkOne_156 rc x1 x2 x3 x4 v4 σ) else (if v4 = 5 then (m_X3_checkOne_156 rc x1 x2 x3 x4 v4 σ) else ((ch_ma σ fX3_toldName x1).bind fun v6 => (m_X3_variableOf v6 σ).bind fun v7 => if v7 < 0 then (if x4 < 0 then (m_X3_checkOne_152 rc x1 x2 x3 x4 v4 σ) else ((m_X3_isSub v1 v4 σ).bind fun v9 => if v9 = 0 then (m_X3_checkOne_156 rc x1 x2 x3 x4 v4 σ) else (m_X3_checkOne_152 rc x1 x2 x3 x4 v4 σ))) else (m_X3_checkOne_156 rc x1 x2 x3 x4 v4 σ)))) else (if x3 = 1 then (if y0 = 0 then (m_X3_checkOne_360 rc x1 x2 x3 σ) else (if v1 = 1 then (m_X3_checkOne_361 rc x1 x2 x3 1 σ) else (m_X3_checkOne_360 rc x1 x2 x3 σ))) else (if x3 = 2 then (if y0 = 0 then (m_X3_checkOne_360 rc x1 x2 x3 σ) else (if v1 = 1 then (m_X3_checkOne_361 rc x1 x2 x3 1 σ) else (m_X3_checkOne_360 rc x1 x2 x3 σ))) else (if x3 = 3 then (if y0 = 0 then (m_X3_checkOne_314 rc x1 x2 x3 σ) else (if x4 < 0 then ((ch_ma σ fX3_memberType (σ.1 fX3_method)).bind fun v15 => if v15 = 3 then (m_X3_checkOne_310 rc x1 x2 x3 σ) else (m_X3_checkOne_314 rc x1 x2 x3 σ)) else ((ch_ma σ fX3_memberType (σ.1 fX3_method)).bind fun v11 => if v11 = 3 then (m_X3_checkOne_314 rc x1 x2 x3 σ) else ((ch_ma σ fX3_memberType (σ.1 fX3_method)).bind fun v12 => (m_X3_isSub v1 v12 σ).bind fun v13 => if v13 = 0 then (m_X3_checkOne_314 rc x1 x2 x3 σ) else (m_X3_checkOne_310 rc x1 x2 x3 σ))))) else (if x3 = 4 then (if y0 = 0 then (m_X3_checkOne_247 rc x1 x2 x3 σ) else (if v1 < 10 then (m_X3_checkOne_247 rc x1 x2 x3 σ) else (m_X3_checkOne_248 rc x1 x2 x3 1 σ))) else (if x3 = 5 then (m_X3_checkOne_366 rc x1 x2 x3 y0 σ) else (if x3 = 6 then (if y0 = 0 then (m_X3_checkOne_225 rc x1 x2 x3 σ) else ((m_X3_isPlain v1 σ).bind fun v16 => if v16 = 0 then (m_X3_checkOne_225 rc x1 x2 x3 σ) else (m_X3_checkOne_226 rc x1 x2 x3 1 σ))) else (if x3 = 7 then (m_X3_checkOne_366 rc x1 x2 x3 y0 σ) else (if x3 = 8 then (if y0 = 0 then (m_X3_checkOne_339 rc x1 x2 x3 σ) else ((m_X3_checkPlace x1 v1 σ).bind fun p18 => if p18.1 = 0 then (m_X3_checkOne_339 rc x1 x2 x3 p18.2) else (m_X3_checkOne_340 rc x1 x2 x3 1 p18.2))) else (m_X3_checkOne_366 rc x1 x2 x3 y0 σ)))))))))
theorem s_X3_checkOne_41 {g : State} {d : Nat} {rc : Nat → Int32 → Int32 → ch_S → Option (ch_S)} {m : Nat} {w : ch_W} (hr2 : ∀ {z0 : Int32} {z1 : Int32} {σ : ch_S} {p : ch_S} {Q : Outcome → ch_W → Prop}, rc 2 z0 z1 σ = some p → ch_eV Q (ch_put m w p) → ch_CT g false yX3_checkIf (d + 7) [.ref m, .int z0, .int z1] (ch_put m w σ) Q) (hr3 : ∀ {z0 : Int32} {z1 : Int32} {σ : ch_S} {p : ch_S} {Q : Outcome → ch_W → Prop}, rc 3 z0 z1 σ = some p → ch_eV Q (ch_put m w p) → ch_CT g false yX3_checkWhile (d + 7) [.ref m, .int z0, .int z1] (ch_put m w σ) Q) (hr4 : ∀ {z0 : Int32} {z1 : Int32} {σ : ch_S} {p : ch_S} {Q : Outcome → ch_W → Prop}, rc 4 z0 z1 σ = some p → ch_eV Q (ch_put m w p) → ch_CT g false yX3_checkTry (d + 7) [.ref m, .int z0, .int z1] (ch_put m w σ) Q)  {x1 : Int32} {x2 : Int32} {x3 : Int32} {x4 : Int32} {y0 : Int32} {σ : ch_S} {res : ch_S} {Q : Outcome → ch_W → Prop} (h : m_X3_checkOne_41 rc x1 x2 x3 x4 y0 σ = some res) (hk : (fun r => ch_eV Q (ch_put m w r)) res) : ch_FT g false mX3_checkOne (d + 8) 41 [some (va_rf (some m)), some (.int x1), some (.int x2), some (.int x3), some (.int x4), none, none, none] [.int y0] (ch_put m w σ) Q := by
  unfold m_X3_checkOne_41 at h
  obtain ⟨v1, hp2, h⟩ := ch_bd h
  refine ch_istore 5 _ (ls1 := [some (va_rf (some m)), some (.int x1), some (.int x2), some (.int x3), some (.int x4), some (.int y0), none, none]) dX3_checkOne_41 (Nat.le_of_ble_eq_true rfl) rfl (ch_aload_n 0 (some m) dX3_checkOne_43 rfl (ch_iload_n 1 _ dX3_checkOne_44 rfl (ch_iv yX3_typeOfValue prog_14_method_61_code 2 (some .int) (ci := 3) (q := (RX3, TX3, 109)) (b := m) (d' := 2) (av := [.int x1]) (rest := []) rfl dX3_checkOne_45 q2135 q2137 rfl qs162 q2138 can_X3_typeOfValue (Nat.le_trans (Nat.le_of_ble_eq_true rfl) (Nat.le_add_left 8 d)) (Nat.le_of_ble_eq_true rfl) ch_put_tag (cp_kI (v := v1) (w1 := ch_put m w σ) (fun Q' hq => s_X3_typeOfValue hp2 hq) ?_))))
  refine ch_istore 6 _ (ls1 := [some (va_rf (some m)), some (.int x1), some (.int x2), some (.int x3), some (.int x4), some (.int y0), some (.int v1), none]) dX3_checkOne_48 (Nat.le_of_ble_eq_true rfl) rfl (ch_iload_n 3 _ dX3_checkOne_50 rfl (?_))
  by_cases e0 : x3 = 0
  · have h := ch_ifT e0 h
    refine ch_tableIn _ (off := 49) (tgt := 100) dX3_checkOne_51 (by rw [e0]; decide) (by rw [e0]; decide) (by rw [e0]; rfl) rfl ?_
    refine ch_aload_n 0 (some m) dX3_checkOne_100 rfl (ch_aload_n 0 (some m) dX3_checkOne_101 rfl (mp_gA 31 dX3_checkOne_102 fl_X3_61 rfl (ch_iload_n 1 _ dX3_checkOne_105 rfl (mp_iald dX3_checkOne_106 mk_31 h (fun v3 h => ?_)))))
    obtain ⟨v4, hp5, h⟩ := ch_bd h
    refine ch_iv yX3_meant prog_14_method_44_code 3 (some .int) (ci := 3) (q := (RX3, TX3, 109)) (b := m) (d' := 3) (av := [.int v3]) (rest := []) rfl dX3_checkOne_107 q2056 q2058 rfl qs143 q2059 can_X3_meant (Nat.le_trans (Nat.le_of_ble_eq_true rfl) (Nat.le_add_left 8 d)) (Nat.le_of_ble_eq_true rfl) ch_put_tag (cp_kI (v := v4) (w1 := ch_put m w σ) (fun Q' hq => s_X3_meant hp5 hq) ?_)
    refine ch_istore 7 _ (ls1 := [some (va_rf (some m)), some (.int x1), some (.int x2), some (.int x3), some (.int x4), some (.int y0), some (.int v1), some (.int v4)]) dX3_checkOne_110 (Nat.le_of_ble_eq_true rfl) rfl (ch_iload 5 _ dX3_checkOne_112 rfl (cp_if_eq _ (tgt := 156) dX3_checkOne_114 rfl h (fun h => ?_) (fun h => ?_)))
    · exact ch_FT.wk (ch_wS (ch_wS (ch_wS (ch_wS (ch_wS (ch_wN (ch_wN (ch_wS ch_w0)))))))) (s_X3_checkOne_156 hr2 hr3 hr4 h hk)
    · refine ch_iload 7 _ dX3_checkOne_117 rfl (ch_iconst _ 5 dX3_checkOne_119 rfl (cp_icmp_eq _ _ (tgt := 156) dX3_checkOne_120 rfl h (fun h => ?_) (fun h => ?_)))
      · exact ch_FT.wk (ch_wS (ch_wS (ch_wS (ch_wS (ch_wS (ch_wN (ch_wN (ch_wS ch_w0)))))))) (s_X3_checkOne_156 hr2 hr3 hr4 h hk)
      · refine ch_aload_n 0 (some m) dX3_checkOne_123 rfl (ch_aload_n 0 (some m) dX3_checkOne_124 rfl (mp_gA 32 dX3_checkOne_125 fl_X3_64 rfl (ch_iload_n 1 _ dX3_checkOne_128 rfl (mp_iald dX3_checkOne_129 mk_32 h (fun v6 h => ?_)))))
        obtain ⟨v7, hp8, h⟩ := ch_bd h
        refine ch_iv yX3_variableOf prog_14_method_54_code 3 (some .int) (ci := 3) (q := (RX3, TX3, 109)) (b := m) (d' := 2) (av := [.int v6]) (rest := []) rfl dX3_checkOne_130 q2104 q2106 rfl qs155 q2107 can_X3_variableOf (Nat.le_trans (Nat.le_of_ble_eq_true rfl) (Nat.le_add_left 8 d)) (Nat.le_of_ble_eq_true rfl) ch_put_tag (cp_kI (v := v7) (w1 := ch_put m w σ) (fun Q' hq => s_X3_variableOf hp8 hq) ?_)
        refine cp_if_ge _ (tgt := 156) dX3_checkOne_133 rfl h (fun h => ?_) (fun h => ?_)
        · exact ch_FT.wk (ch_wS (ch_wS (ch_wS (ch_wS (ch_wS (ch_wN (ch_wN (ch_wS ch_w0)))))))) (s_X3_checkOne_156 hr2 hr3 hr4 h hk)
        · refine ch_iload 4 _ dX3_checkOne_136 rfl (cp_if_lt _ (tgt := 152) dX3_checkOne_138 rfl h (fun h => ?_) (fun h => ?_))
          · exact ch_FT.wk (ch_wS (ch_wS (ch_wS (ch_wS (ch_wS (ch_wN (ch_wN (ch_wS ch_w0)))))))) (s_X3_checkOne_152 hr2 hr3 hr4 h hk)
          · obtain ⟨v9, hp10, h⟩ := ch_bd h
            refine ch_aload_n 0 (some m) dX3_checkOne_141 rfl (ch_iload 6 _ dX3_checkOne_142 rfl (ch_iload 7 _ dX3_checkOne_144 rfl (ch_iv yX3_isSub prog_14_method_46_code 3 (some .boolean) (ci := 3) (q := (RX3, TX3, 109)) (b := m) (d' := 3) (av := [.int v1, .int v4]) (rest := []) rfl dX3_checkOne_146 q2120 q2122 rfl qs159 q2123 can_X3_isSub (Nat.le_trans (Nat.le_of_ble_eq_true rfl) (Nat.le_add_left 8 d)) (Nat.le_of_ble_eq_true rfl) ch_put_tag (cp_kI (v := v9) (w1 := ch_put m w σ) (fun Q' hq => s_X3_isSub hp10 hq) ?_))))
            refine cp_if_eq _ (tgt := 156) dX3_checkOne_149 rfl h (fun h => ?_) (fun h => ?_)
            · exact ch_FT.wk (ch_wS (ch_wS (ch_wS (ch_wS (ch_wS (ch_wN (ch_wN (ch_wS ch_w0)))))))) (s_X3_checkOne_156 hr2 hr3 hr4 h hk)
            · exact ch_FT.wk (ch_wS (ch_wS (ch_wS (ch_wS (ch_wS (ch_wN (ch_wN (ch_wS ch_w0)))))))) (s_X3_checkOne_152 hr2 hr3 hr4 h hk)
  replace h := ch_ifF e0 h
  by_cases e1 : x3 = 1
  · have h := ch_ifT e1 h
    refine ch_tableIn _ (off := 294) (tgt := 345) dX3_checkOne_51 (by rw [e1]; decide) (by rw [e1]; decide) (by rw [e1]; rfl) rfl ?_
    refine ch_iload 5 _ dX3_checkOne_345 rfl (cp_if_eq _ (tgt := 360) dX3_checkOne_347 rfl h (fun h => ?_) (fun h => ?_))
    · exact ch_FT.wk (ch_wS (ch_wS (ch_wS (ch_wS (ch_wN (ch_wN (ch_wN (ch_wN ch_w0)))))))) (s_X3_checkOne_360 hr2 hr3 hr4 h hk)
    · refine ch_iload 6 _ dX3_checkOne_350 rfl (ch_iconst _ 1 dX3_checkOne_352 rfl (cp_icmp_ne _ _ (tgt := 360) dX3_checkOne_353 rfl h (fun h => ?_) (fun h => ?_)))
      · exact ch_FT.wk (ch_wS (ch_wS (ch_wS (ch_wS (ch_wN (ch_wN (ch_wN (ch_wN ch_w0)))))))) (s_X3_checkOne_360 hr2 hr3 hr4 h hk)
      · exact ch_iconst _ 1 dX3_checkOne_356 rfl (ch_goto 361 dX3_checkOne_357 rfl (ch_FT.wk (ch_wS (ch_wS (ch_wS (ch_wS (ch_wN (ch_wN (ch_wN (ch_wN ch_w0)))))))) (s_X3_checkOne_361 hr2 hr3 hr4 h hk)))
  replace h := ch_ifF e1 h
  by_cases e2 : x3 = 2
  · have h := ch_ifT e2 h
    refine ch_tableIn _ (off := 294) (tgt := 345) dX3_checkOne_51 (by rw [e2]; decide) (by rw [e2]; decide) (by rw [e2]; rfl) rfl ?_
    refine ch_iload 5 _ dX3_checkOne_345 rfl (cp_if_eq _ (tgt := 360) dX3_checkOne_347 rfl h (fun h => ?_) (fun h => ?_))
    · exact ch_FT.wk (ch_wS (ch_wS (ch_wS (ch_wS (ch_wN (ch_wN (ch_wN (ch_wN ch_w0)))))))) (s_X3_checkOne_360 hr2 hr3 hr4 h hk)
    · refine ch_iload 6 _ dX3_checkOne_350 rfl (ch_iconst _ 1 dX3_checkOne_352 rfl (cp_icmp_ne _ _ (tgt := 360) dX3_checkOne_353 rfl h (fun h => ?_) (fun h => ?_)))
      · exact ch_FT.wk (ch_wS (ch_wS (ch_wS (ch_wS (ch_wN (ch_wN (ch_wN (ch_wN ch_w0)))))))) (s_X3_checkOne_360 hr2 hr3 hr4 h hk)
      · exact ch_iconst _ 1 dX3_checkOne_356 rfl (ch_goto 361 dX3_checkOne_357 rfl (ch_FT.wk (ch_wS (ch_wS (ch_wS (ch_wS (ch_wN (ch_wN (ch_wN (ch_wN ch_w0)))))))) (s_X3_checkOne_361 hr2 hr3 hr4 h hk)))
  replace h := ch_ifF e2 h
  by_cases e3 : x3 = 3
  · have h := ch_ifT e3 h
    refine ch_tableIn _ (off := 202) (tgt := 253) dX3_checkOne_51 (by rw [e3]; decide) (by rw [e3]; decide) (by rw [e3]; rfl) rfl ?_
    refine ch_iload 5 _ dX3_checkOne_253 rfl (cp_if_eq _ (tgt := 314) dX3_checkOne_255 rfl h (fun h => ?_) (fun h => ?_))
    · exact ch_FT.wk (ch_wS (ch_wS (ch_wS (ch_wS (ch_wN (ch_wN (ch_wN (ch_wN ch_w0)))))))) (s_X3_checkOne_314 hr2 hr3 hr4 h hk)
    · refine ch_iload 4 _ dX3_checkOne_258 rfl (cp_if_ge _ (tgt := 279) dX3_checkOne_260 rfl h (fun h => ?_) (fun h => ?_))
      · refine ch_aload_n 0 (some m) dX3_checkOne_279 rfl (mp_gA 47 dX3_checkOne_280 fl_X3_103 rfl (ch_aload_n 0 (some m) dX3_checkOne_283 rfl (mp_gI 61 dX3_checkOne_284 fl_X3_473 rfl (mp_iald dX3_checkOne_287 mk_47 h (fun v11 h => ?_)))))
        refine ch_iconst _ 3 dX3_checkOne_288 rfl (cp_icmp_eq _ _ (tgt := 314) dX3_checkOne_289 rfl h (fun h => ?_) (fun h => ?_))
        · exact ch_FT.wk (ch_wS (ch_wS (ch_wS (ch_wS (ch_wN (ch_wN (ch_wN (ch_wN ch_w0)))))))) (s_X3_checkOne_314 hr2 hr3 hr4 h hk)
        · refine ch_aload_n 0 (some m) dX3_checkOne_292 rfl (ch_iload 6 _ dX3_checkOne_293 rfl (ch_aload_n 0 (some m) dX3_checkOne_295 rfl (mp_gA 47 dX3_checkOne_296 fl_X3_103 rfl (ch_aload_n 0 (some m) dX3_checkOne_299 rfl (mp_gI 61 dX3_checkOne_300 fl_X3_473 rfl (mp_iald dX3_checkOne_303 mk_47 h (fun v12 h => ?_)))))))
          obtain ⟨v13, hp14, h⟩ := ch_bd h
          refine ch_iv yX3_isSub prog_14_method_46_code 3 (some .boolean) (ci := 3) (q := (RX3, TX3, 109)) (b := m) (d' := 3) (av := [.int v1, .int v12]) (rest := []) rfl dX3_checkOne_304 q2120 q2122 rfl qs159 q2123 can_X3_isSub (Nat.le_trans (Nat.le_of_ble_eq_true rfl) (Nat.le_add_left 8 d)) (Nat.le_of_ble_eq_true rfl) ch_put_tag (cp_kI (v := v13) (w1 := ch_put m w σ) (fun Q' hq => s_X3_isSub hp14 hq) ?_)
          refine cp_if_eq _ (tgt := 314) dX3_checkOne_307 rfl h (fun h => ?_) (fun h => ?_)
          · exact ch_FT.wk (ch_wS (ch_wS (ch_wS (ch_wS (ch_wN (ch_wN (ch_wN (ch_wN ch_w0)))))))) (s_X3_checkOne_314 hr2 hr3 hr4 h hk)
          · exact ch_FT.wk (ch_wS (ch_wS (ch_wS (ch_wS (ch_wN (ch_wN (ch_wN (ch_wN ch_w0)))))))) (s_X3_checkOne_310 hr2 hr3 hr4 h hk)
      · refine ch_aload_n 0 (some m) dX3_checkOne_263 rfl (mp_gA 47 dX3_checkOne_264 fl_X3_103 rfl (ch_aload_n 0 (some m) dX3_checkOne_267 rfl (mp_gI 61 dX3_checkOne_268 fl_X3_473 rfl (mp_iald dX3_checkOne_271 mk_47 h (fun v15 h => ?_)))))
        refine ch_iconst _ 3 dX3_checkOne_272 rfl (cp_icmp_ne _ _ (tgt := 314) dX3_checkOne_273 rfl h (fun h => ?_) (fun h => ?_))
        · exact ch_FT.wk (ch_wS (ch_wS (ch_wS (ch_wS (ch_wN (ch_wN (ch_wN (ch_wN ch_w0)))))))) (s_X3_checkOne_314 hr2 hr3 hr4 h hk)
        · exact ch_goto 310 dX3_checkOne_276 rfl (ch_FT.wk (ch_wS (ch_wS (ch_wS (ch_wS (ch_wN (ch_wN (ch_wN (ch_wN ch_w0)))))))) (s_X3_checkOne_310 hr2 hr3 hr4 h hk))
  replace h := ch_ifF e3 h
  by_cases e4 : x3 = 4
  · have h := ch_ifT e4 h
    refine ch_tableIn _ (off := 180) (tgt := 231) dX3_checkOne_51 (by rw [e4]; decide) (by rw [e4]; decide) (by rw [e4]; rfl) rfl ?_
    refine ch_iload 5 _ dX3_checkOne_231 rfl (cp_if_eq _ (tgt := 247) dX3_checkOne_233 rfl h (fun h => ?_) (fun h => ?_))
    · exact ch_FT.wk (ch_wS (ch_wS (ch_wS (ch_wS (ch_wN (ch_wN (ch_wN (ch_wN ch_w0)))))))) (s_X3_checkOne_247 hr2 hr3 hr4 h hk)
    · refine ch_iload 6 _ dX3_checkOne_236 rfl (ch_bipush _ 10 dX3_checkOne_238 rfl (cp_icmp_lt _ _ (tgt := 247) dX3_checkOne_240 rfl h (fun h => ?_) (fun h => ?_)))
      · exact ch_FT.wk (ch_wS (ch_wS (ch_wS (ch_wS (ch_wN (ch_wN (ch_wN (ch_wN ch_w0)))))))) (s_X3_checkOne_247 hr2 hr3 hr4 h hk)
      · exact ch_iconst _ 1 dX3_checkOne_243 rfl (ch_goto 248 dX3_checkOne_244 rfl (ch_FT.wk (ch_wS (ch_wS (ch_wS (ch_wS (ch_wN (ch_wN (ch_wN (ch_wN ch_w0)))))))) (s_X3_checkOne_248 hr2 hr3 hr4 h hk)))
  replace h := ch_ifF e4 h
  by_cases e5 : x3 = 5
  · have h := ch_ifT e5 h
    refine ch_tableIn _ (off := 315) (tgt := 366) dX3_checkOne_51 (by rw [e5]; decide) (by rw [e5]; decide) (by rw [e5]; rfl) rfl ?_
    exact ch_FT.wk (ch_wS (ch_wS (ch_wS (ch_wS (ch_wN (ch_wS (ch_wN (ch_wN ch_w0)))))))) (s_X3_checkOne_366 hr2 hr3 hr4 h hk)
  replace h := ch_ifF e5 h
  by_cases e6 : x3 = 6
  · have h := ch_ifT e6 h
    refine ch_tableIn _ (off := 156) (tgt := 207) dX3_checkOne_51 (by rw [e6]; decide) (by rw [e6]; decide) (by rw [e6]; rfl) rfl ?_
    refine ch_iload 5 _ dX3_checkOne_207 rfl (cp_if_eq _ (tgt := 225) dX3_checkOne_209 rfl h (fun h => ?_) (fun h => ?_))
    · exact ch_FT.wk (ch_wS (ch_wS (ch_wS (ch_wS (ch_wN (ch_wN (ch_wN (ch_wN ch_w0)))))))) (s_X3_checkOne_225 hr2 hr3 hr4 h hk)
    · obtain ⟨v16, hp17, h⟩ := ch_bd h
      refine ch_aload_n 0 (some m) dX3_checkOne_212 rfl (ch_iload 6 _ dX3_checkOne_213 rfl (ch_iv yX3_isPlain prog_14_method_62_code 2 (some .boolean) (ci := 3) (q := (RX3, TX3, 109)) (b := m) (d' := 2) (av := [.int v1]) (rest := []) rfl dX3_checkOne_215 q2139 q2141 rfl qs163 q2142 can_X3_isPlain (Nat.le_trans (Nat.le_of_ble_eq_true rfl) (Nat.le_add_left 8 d)) (Nat.le_of_ble_eq_true rfl) ch_put_tag (cp_kI (v := v16) (w1 := ch_put m w σ) (fun Q' hq => s_X3_isPlain hp17 hq) ?_)))
      refine cp_if_eq _ (tgt := 225) dX3_checkOne_218 rfl h (fun h => ?_) (fun h => ?_)
      · exact ch_FT.wk (ch_wS (ch_wS (ch_wS (ch_wS (ch_wN (ch_wN (ch_wN (ch_wN ch_w0)))))))) (s_X3_checkOne_225 hr2 hr3 hr4 h hk)
      · exact ch_iconst _ 1 dX3_checkOne_221 rfl (ch_goto 226 dX3_checkOne_222 rfl (ch_FT.wk (ch_wS (ch_wS (ch_wS (ch_wS (ch_wN (ch_wN (ch_wN (ch_wN ch_w0)))))))) (s_X3_checkOne_226 hr2 hr3 hr4 h hk)))
  replace h := ch_ifF e6 h
  by_cases e7 : x3 = 7
  · have h := ch_ifT e7 h
    refine ch_tableIn _ (off := 315) (tgt := 366) dX3_checkOne_51 (by rw [e7]; decide) (by rw [e7]; decide) (by rw [e7]; rfl) rfl ?_
    exact ch_FT.wk (ch_wS (ch_wS (ch_wS (ch_wS (ch_wN (ch_wS (ch_wN (ch_wN ch_w0)))))))) (s_X3_checkOne_366 hr2 hr3 hr4 h hk)
  replace h := ch_ifF e7 h
  by_cases e8 : x3 = 8
  · have h := ch_ifT e8 h
    refine ch_tableIn _ (off := 269) (tgt := 320) dX3_checkOne_51 (by rw [e8]; decide) (by rw [e8]; decide) (by rw [e8]; rfl) rfl ?_
    refine ch_iload 5 _ dX3_checkOne_320 rfl (cp_if_eq _ (tgt := 339) dX3_checkOne_322 rfl h (fun h => ?_) (fun h => ?_))
    · exact ch_FT.wk (ch_wS (ch_wS (ch_wS (ch_wS (ch_wN (ch_wN (ch_wN (ch_wN ch_w0)))))))) (s_X3_checkOne_339 hr2 hr3 hr4 h hk)
    · obtain ⟨p18, hp19, h⟩ := ch_bd h
      refine ch_aload_n 0 (some m) dX3_checkOne_325 rfl (ch_iload_n 1 _ dX3_checkOne_326 rfl (ch_iload 6 _ dX3_checkOne_327 rfl (ch_iv yX3_checkPlace prog_14_method_64_code 4 (some .boolean) (ci := 3) (q := (RX3, TX3, 109)) (b := m) (d' := 4) (av := [.int x1, .int v1]) (rest := []) rfl dX3_checkOne_329 q2143 q2145 rfl qs164 q2146 can_X3_checkPlace (Nat.le_trans (Nat.le_of_ble_eq_true rfl) (Nat.le_add_left 8 d)) (Nat.le_of_ble_eq_true rfl) ch_put_tag (cp_kI (v := p18.1) (w1 := ch_put m w p18.2) (fun Q' hq => s_X3_checkPlace hp19 hq) ?_))))
      refine cp_if_eq _ (tgt := 339) dX3_checkOne_332 rfl h (fun h => ?_) (fun h => ?_)
      · exact ch_FT.wk (ch_wS (ch_wS (ch_wS (ch_wS (ch_wN (ch_wN (ch_wN (ch_wN ch_w0)))))))) (s_X3_checkOne_339 hr2 hr3 hr4 h hk)
      · exact ch_iconst _ 1 dX3_checkOne_335 rfl (ch_goto 340 dX3_checkOne_336 rfl (ch_FT.wk (ch_wS (ch_wS (ch_wS (ch_wS (ch_wN (ch_wN (ch_wN (ch_wN ch_w0)))))))) (s_X3_checkOne_340 hr2 hr3 hr4 h hk)))
  replace h := ch_ifF e8 h
  refine ch_tableOut _ (tgt := 366) dX3_checkOne_51 (by have t0 := ch_ne (n := 0) e0 rfl; have t1 := ch_ne (n := 1) e1 rfl; have t2 := ch_ne (n := 2) e2 rfl; have t3 := ch_ne (n := 3) e3 rfl; have t4 := ch_ne (n := 4) e4 rfl; have t5 := ch_ne (n := 5) e5 rfl; have t6 := ch_ne (n := 6) e6 rfl; have t7 := ch_ne (n := 7) e7 rfl; have t8 := ch_ne (n := 8) e8 rfl; omega) rfl ?_
  exact ch_FT.wk (ch_wS (ch_wS (ch_wS (ch_wS (ch_wN (ch_wS (ch_wN (ch_wN ch_w0)))))))) (s_X3_checkOne_366 hr2 hr3 hr4 h hk)

def m_X3_checkOne_36 (rc : Nat → Int32 → Int32 → ch_S → Option (ch_S)) (x1 : Int32) (x2 : Int32) (x3 : Int32) (x4 : Int32)  (σ : ch_S) : Option (ch_S) := m_X3_checkOne_41 rc x1 x2 x3 x4 1 σ
theorem s_X3_checkOne_36 {g : State} {d : Nat} {rc : Nat → Int32 → Int32 → ch_S → Option (ch_S)} {m : Nat} {w : ch_W} (hr2 : ∀ {z0 : Int32} {z1 : Int32} {σ : ch_S} {p : ch_S} {Q : Outcome → ch_W → Prop}, rc 2 z0 z1 σ = some p → ch_eV Q (ch_put m w p) → ch_CT g false yX3_checkIf (d + 7) [.ref m, .int z0, .int z1] (ch_put m w σ) Q) (hr3 : ∀ {z0 : Int32} {z1 : Int32} {σ : ch_S} {p : ch_S} {Q : Outcome → ch_W → Prop}, rc 3 z0 z1 σ = some p → ch_eV Q (ch_put m w p) → ch_CT g false yX3_checkWhile (d + 7) [.ref m, .int z0, .int z1] (ch_put m w σ) Q) (hr4 : ∀ {z0 : Int32} {z1 : Int32} {σ : ch_S} {p : ch_S} {Q : Outcome → ch_W → Prop}, rc 4 z0 z1 σ = some p → ch_eV Q (ch_put m w p) → ch_CT g false yX3_checkTry (d + 7) [.ref m, .int z0, .int z1] (ch_put m w σ) Q)  {x1 : Int32} {x2 : Int32} {x3 : Int32} {x4 : Int32} {σ : ch_S} {res : ch_S} {Q : Outcome → ch_W → Prop} (h : m_X3_checkOne_36 rc x1 x2 x3 x4 σ = some res) (hk : (fun r => ch_eV Q (ch_put m w r)) res) : ch_FT g false mX3_checkOne (d + 8) 36 [some (va_rf (some m)), some (.int x1), some (.int x2), some (.int x3), some (.int x4), none, none, none] [] (ch_put m w σ) Q := by
  unfold m_X3_checkOne_36 at h
  exact ch_iconst _ 1 dX3_checkOne_36 rfl (ch_goto 41 dX3_checkOne_37 rfl (ch_FT.wk (ch_wS (ch_wS (ch_wS (ch_wS (ch_wS (ch_wN (ch_wN (ch_wN ch_w0)))))))) (s_X3_checkOne_41 hr2 hr3 hr4 h hk)))

def m_X3_checkOne (rc : Nat → Int32 → Int32 → ch_S → Option (ch_S)) (x1 : Int32) (x2 : Int32) (σ : ch_S) : Option (ch_S) := (ch_ma σ fX3_statementIs x1).bind fun v1 => (ch_ma σ fX3_value x1).bind fun v2 => if v2 < 0 then (m_X3_checkOne_36 rc x1 x2 v1 v2 σ) else ((ch_ma σ fX3_nodesFrom x1).bind fun v3 => (m_X3_checkNodes x1 v3 v2 σ).bind fun p4 => if p4.1 = 0 then (m_X3_checkOne_41 rc x1 x2 v1 v2 0 p4.2) else (m_X3_checkOne_36 rc x1 x2 v1 v2 p4.2))
theorem s_X3_checkOne {g : State} {d : Nat} {rc : Nat → Int32 → Int32 → ch_S → Option (ch_S)} {m : Nat} {w : ch_W} (hr2 : ∀ {z0 : Int32} {z1 : Int32} {σ : ch_S} {p : ch_S} {Q : Outcome → ch_W → Prop}, rc 2 z0 z1 σ = some p → ch_eV Q (ch_put m w p) → ch_CT g false yX3_checkIf (d + 7) [.ref m, .int z0, .int z1] (ch_put m w σ) Q) (hr3 : ∀ {z0 : Int32} {z1 : Int32} {σ : ch_S} {p : ch_S} {Q : Outcome → ch_W → Prop}, rc 3 z0 z1 σ = some p → ch_eV Q (ch_put m w p) → ch_CT g false yX3_checkWhile (d + 7) [.ref m, .int z0, .int z1] (ch_put m w σ) Q) (hr4 : ∀ {z0 : Int32} {z1 : Int32} {σ : ch_S} {p : ch_S} {Q : Outcome → ch_W → Prop}, rc 4 z0 z1 σ = some p → ch_eV Q (ch_put m w p) → ch_CT g false yX3_checkTry (d + 7) [.ref m, .int z0, .int z1] (ch_put m w σ) Q)  {x1 : Int32} {x2 : Int32} {σ : ch_S} {res : ch_S} {Q : Outcome → ch_W → Prop} (h : m_X3_checkOne rc x1 x2 σ = some res) (hk : (fun r => ch_eV Q (ch_put m w r)) res) : ch_CT g false yX3_checkOne (d + 8) [.ref m, .int x1, .int x2] (ch_put m w σ) Q := by
  unfold m_X3_checkOne at h
  refine ch_ctL mX3_checkOne (ls := [some (va_rf (some m)), some (.int x1), some (.int x2), none, none, none, none, none]) q2091 rfl (ch_lyr (r := some m) (ch_lyi (ch_lyi ch_ly0))) (Nat.le_of_ble_eq_true rfl) rfl ?_
  refine ch_aload_n 0 (some m) dX3_checkOne_0 rfl (mp_gA 26 dX3_checkOne_1 fl_X3_46 rfl (ch_iload_n 1 _ dX3_checkOne_4 rfl (mp_iald dX3_checkOne_5 mk_26 h (fun v1 h => ?_))))
  refine ch_istore_n 3 _ (ls1 := [some (va_rf (some m)), some (.int x1), some (.int x2), some (.int v1), none, none, none, none]) dX3_checkOne_6 (Nat.le_of_ble_eq_true rfl) rfl (ch_aload_n 0 (some m) dX3_checkOne_7 rfl (mp_gA 29 dX3_checkOne_8 fl_X3_55 rfl (ch_iload_n 1 _ dX3_checkOne_11 rfl (mp_iald dX3_checkOne_12 mk_29 h (fun v2 h => ?_)))))
  refine ch_istore 4 _ (ls1 := [some (va_rf (some m)), some (.int x1), some (.int x2), some (.int v1), some (.int v2), none, none, none]) dX3_checkOne_13 (Nat.le_of_ble_eq_true rfl) rfl (ch_iload 4 _ dX3_checkOne_15 rfl (cp_if_lt _ (tgt := 36) dX3_checkOne_17 rfl h (fun h => ?_) (fun h => ?_)))
  · exact ch_FT.wk (ch_wS (ch_wS (ch_wS (ch_wS (ch_wS (ch_wN (ch_wN (ch_wN ch_w0)))))))) (s_X3_checkOne_36 hr2 hr3 hr4 h hk)
  · refine ch_aload_n 0 (some m) dX3_checkOne_20 rfl (ch_iload_n 1 _ dX3_checkOne_21 rfl (ch_aload_n 0 (some m) dX3_checkOne_22 rfl (mp_gA 28 dX3_checkOne_23 fl_X3_52 rfl (ch_iload_n 1 _ dX3_checkOne_26 rfl (mp_iald dX3_checkOne_27 mk_28 h (fun v3 h => ?_))))))
    obtain ⟨p4, hp5, h⟩ := ch_bd h
    refine ch_iload 4 _ dX3_checkOne_28 rfl (ch_iv yX3_checkNodes prog_14_method_68_code 6 (some .boolean) (ci := 3) (q := (RX3, TX3, 109)) (b := m) (d' := 6) (av := [.int x1, .int v3, .int v2]) (rest := []) rfl dX3_checkOne_30 q2092 q2094 rfl qs152 q2095 can_X3_checkNodes (Nat.le_trans (Nat.le_of_ble_eq_true rfl) (Nat.le_add_left 8 d)) (Nat.le_of_ble_eq_true rfl) ch_put_tag (cp_kI (v := p4.1) (w1 := ch_put m w p4.2) (fun Q' hq => s_X3_checkNodes hp5 hq) ?_))
    refine cp_if_eq _ (tgt := 40) dX3_checkOne_33 rfl h (fun h => ?_) (fun h => ?_)
    · exact ch_iconst _ 0 dX3_checkOne_40 rfl (ch_FT.wk (ch_wS (ch_wS (ch_wS (ch_wS (ch_wS (ch_wN (ch_wN (ch_wN ch_w0)))))))) (s_X3_checkOne_41 hr2 hr3 hr4 h hk))
    · exact ch_FT.wk (ch_wS (ch_wS (ch_wS (ch_wS (ch_wS (ch_wN (ch_wN (ch_wN ch_w0)))))))) (s_X3_checkOne_36 hr2 hr3 hr4 h hk)

theorem bX3_checkIf_0 : ch_ck cX3_checkIf 0 [42, 180, 1, 220, 62, 42, 6, 28, 104, 182, 2, 5, 42, 42, 180, 0] := ch_ckof (by decide +kernel)
theorem bX3_checkIf_1 : ch_ck cX3_checkIf 16 [70, 27, 46, 28, 4, 96, 182, 1, 227, 42, 180, 1, 220, 54, 4, 42] := ch_ckof (by decide +kernel)
theorem bX3_checkIf_2 : ch_ck cX3_checkIf 32 [6, 28, 104, 4, 96, 182, 2, 5, 42, 29, 181, 1, 220, 42, 6, 28] := ch_ckof (by decide +kernel)
theorem bX3_checkIf_3 : ch_ck cX3_checkIf 48 [104, 182, 2, 8, 42, 180, 0, 58, 27, 46, 4, 160, 0, 16, 42, 42] := ch_ckof (by decide +kernel)
theorem bX3_checkIf_4 : ch_ck cX3_checkIf 64 [180, 0, 73, 27, 46, 28, 4, 96, 182, 1, 227, 42, 6, 28, 104, 4] := ch_ckof (by decide +kernel)
theorem bX3_checkIf_5 : ch_ck cX3_checkIf 80 [96, 21, 4, 182, 2, 11, 177] := ch_ckof (by decide +kernel)
theorem dX3_checkIf_0 : decode cX3_checkIf 0 = .ok (.aload_n 0, 1) := dz_42 (bX3_checkIf_0 0 _ rfl)
theorem dX3_checkIf_1 : decode cX3_checkIf 1 = .ok (.getfield 476, 3) := dz_180 (bX3_checkIf_0 1 _ rfl) (bX3_checkIf_0 2 _ rfl) (bX3_checkIf_0 3 _ rfl)
theorem dX3_checkIf_4 : decode cX3_checkIf 4 = .ok (.istore_n 3, 1) := dz_62 (bX3_checkIf_0 4 _ rfl)
theorem dX3_checkIf_5 : decode cX3_checkIf 5 = .ok (.aload_n 0, 1) := dz_42 (bX3_checkIf_0 5 _ rfl)
theorem dX3_checkIf_6 : decode cX3_checkIf 6 = .ok (.iconst 3, 1) := dz_6 (bX3_checkIf_0 6 _ rfl)
theorem dX3_checkIf_7 : decode cX3_checkIf 7 = .ok (.iload_n 2, 1) := dz_28 (bX3_checkIf_0 7 _ rfl)
theorem dX3_checkIf_8 : decode cX3_checkIf 8 = .ok (.imul, 1) := dz_104 (bX3_checkIf_0 8 _ rfl)
theorem dX3_checkIf_9 : decode cX3_checkIf 9 = .ok (.invokevirtual 517, 3) := dz_182 (bX3_checkIf_0 9 _ rfl) (bX3_checkIf_0 10 _ rfl) (bX3_checkIf_0 11 _ rfl)
theorem dX3_checkIf_12 : decode cX3_checkIf 12 = .ok (.aload_n 0, 1) := dz_42 (bX3_checkIf_0 12 _ rfl)
theorem dX3_checkIf_13 : decode cX3_checkIf 13 = .ok (.aload_n 0, 1) := dz_42 (bX3_checkIf_0 13 _ rfl)
theorem dX3_checkIf_14 : decode cX3_checkIf 14 = .ok (.getfield 70, 3) := dz_180 (bX3_checkIf_0 14 _ rfl) (bX3_checkIf_0 15 _ rfl) (bX3_checkIf_1 0 _ rfl)
theorem dX3_checkIf_17 : decode cX3_checkIf 17 = .ok (.iload_n 1, 1) := dz_27 (bX3_checkIf_1 1 _ rfl)
theorem dX3_checkIf_18 : decode cX3_checkIf 18 = .ok (.iaload, 1) := dz_46 (bX3_checkIf_1 2 _ rfl)
theorem dX3_checkIf_19 : decode cX3_checkIf 19 = .ok (.iload_n 2, 1) := dz_28 (bX3_checkIf_1 3 _ rfl)
theorem dX3_checkIf_20 : decode cX3_checkIf 20 = .ok (.iconst 1, 1) := dz_4 (bX3_checkIf_1 4 _ rfl)
theorem dX3_checkIf_21 : decode cX3_checkIf 21 = .ok (.iadd, 1) := dz_96 (bX3_checkIf_1 5 _ rfl)
theorem dX3_checkIf_22 : decode cX3_checkIf 22 = .ok (.invokevirtual 483, 3) := dz_182 (bX3_checkIf_1 6 _ rfl) (bX3_checkIf_1 7 _ rfl) (bX3_checkIf_1 8 _ rfl)
theorem dX3_checkIf_25 : decode cX3_checkIf 25 = .ok (.aload_n 0, 1) := dz_42 (bX3_checkIf_1 9 _ rfl)
theorem dX3_checkIf_26 : decode cX3_checkIf 26 = .ok (.getfield 476, 3) := dz_180 (bX3_checkIf_1 10 _ rfl) (bX3_checkIf_1 11 _ rfl) (bX3_checkIf_1 12 _ rfl)
theorem dX3_checkIf_29 : decode cX3_checkIf 29 = .ok (.istore 4, 2) := dz_54 (bX3_checkIf_1 13 _ rfl) (bX3_checkIf_1 14 _ rfl)
theorem dX3_checkIf_31 : decode cX3_checkIf 31 = .ok (.aload_n 0, 1) := dz_42 (bX3_checkIf_1 15 _ rfl)
theorem dX3_checkIf_32 : decode cX3_checkIf 32 = .ok (.iconst 3, 1) := dz_6 (bX3_checkIf_2 0 _ rfl)
theorem dX3_checkIf_33 : decode cX3_checkIf 33 = .ok (.iload_n 2, 1) := dz_28 (bX3_checkIf_2 1 _ rfl)
theorem dX3_checkIf_34 : decode cX3_checkIf 34 = .ok (.imul, 1) := dz_104 (bX3_checkIf_2 2 _ rfl)
theorem dX3_checkIf_35 : decode cX3_checkIf 35 = .ok (.iconst 1, 1) := dz_4 (bX3_checkIf_2 3 _ rfl)
theorem dX3_checkIf_36 : decode cX3_checkIf 36 = .ok (.iadd, 1) := dz_96 (bX3_checkIf_2 4 _ rfl)
theorem dX3_checkIf_37 : decode cX3_checkIf 37 = .ok (.invokevirtual 517, 3) := dz_182 (bX3_checkIf_2 5 _ rfl) (bX3_checkIf_2 6 _ rfl) (bX3_checkIf_2 7 _ rfl)
theorem dX3_checkIf_40 : decode cX3_checkIf 40 = .ok (.aload_n 0, 1) := dz_42 (bX3_checkIf_2 8 _ rfl)
theorem dX3_checkIf_41 : decode cX3_checkIf 41 = .ok (.iload_n 3, 1) := dz_29 (bX3_checkIf_2 9 _ rfl)
theorem dX3_checkIf_42 : decode cX3_checkIf 42 = .ok (.putfield 476, 3) := dz_181 (bX3_checkIf_2 10 _ rfl) (bX3_checkIf_2 11 _ rfl) (bX3_checkIf_2 12 _ rfl)
theorem dX3_checkIf_45 : decode cX3_checkIf 45 = .ok (.aload_n 0, 1) := dz_42 (bX3_checkIf_2 13 _ rfl)
theorem dX3_checkIf_46 : decode cX3_checkIf 46 = .ok (.iconst 3, 1) := dz_6 (bX3_checkIf_2 14 _ rfl)
theorem dX3_checkIf_47 : decode cX3_checkIf 47 = .ok (.iload_n 2, 1) := dz_28 (bX3_checkIf_2 15 _ rfl)
theorem dX3_checkIf_48 : decode cX3_checkIf 48 = .ok (.imul, 1) := dz_104 (bX3_checkIf_3 0 _ rfl)
theorem dX3_checkIf_49 : decode cX3_checkIf 49 = .ok (.invokevirtual 520, 3) := dz_182 (bX3_checkIf_3 1 _ rfl) (bX3_checkIf_3 2 _ rfl) (bX3_checkIf_3 3 _ rfl)
theorem dX3_checkIf_52 : decode cX3_checkIf 52 = .ok (.aload_n 0, 1) := dz_42 (bX3_checkIf_3 4 _ rfl)
theorem dX3_checkIf_53 : decode cX3_checkIf 53 = .ok (.getfield 58, 3) := dz_180 (bX3_checkIf_3 5 _ rfl) (bX3_checkIf_3 6 _ rfl) (bX3_checkIf_3 7 _ rfl)
theorem dX3_checkIf_56 : decode cX3_checkIf 56 = .ok (.iload_n 1, 1) := dz_27 (bX3_checkIf_3 8 _ rfl)
theorem dX3_checkIf_57 : decode cX3_checkIf 57 = .ok (.iaload, 1) := dz_46 (bX3_checkIf_3 9 _ rfl)
theorem dX3_checkIf_58 : decode cX3_checkIf 58 = .ok (.iconst 1, 1) := dz_4 (bX3_checkIf_3 10 _ rfl)
theorem dX3_checkIf_59 : decode cX3_checkIf 59 = .ok (.if_icmp .ne 16, 3) := dz_160 (bX3_checkIf_3 11 _ rfl) (bX3_checkIf_3 12 _ rfl) (bX3_checkIf_3 13 _ rfl)
theorem dX3_checkIf_62 : decode cX3_checkIf 62 = .ok (.aload_n 0, 1) := dz_42 (bX3_checkIf_3 14 _ rfl)
theorem dX3_checkIf_63 : decode cX3_checkIf 63 = .ok (.aload_n 0, 1) := dz_42 (bX3_checkIf_3 15 _ rfl)
theorem dX3_checkIf_64 : decode cX3_checkIf 64 = .ok (.getfield 73, 3) := dz_180 (bX3_checkIf_4 0 _ rfl) (bX3_checkIf_4 1 _ rfl) (bX3_checkIf_4 2 _ rfl)
theorem dX3_checkIf_67 : decode cX3_checkIf 67 = .ok (.iload_n 1, 1) := dz_27 (bX3_checkIf_4 3 _ rfl)
theorem dX3_checkIf_68 : decode cX3_checkIf 68 = .ok (.iaload, 1) := dz_46 (bX3_checkIf_4 4 _ rfl)
theorem dX3_checkIf_69 : decode cX3_checkIf 69 = .ok (.iload_n 2, 1) := dz_28 (bX3_checkIf_4 5 _ rfl)
theorem dX3_checkIf_70 : decode cX3_checkIf 70 = .ok (.iconst 1, 1) := dz_4 (bX3_checkIf_4 6 _ rfl)
theorem dX3_checkIf_71 : decode cX3_checkIf 71 = .ok (.iadd, 1) := dz_96 (bX3_checkIf_4 7 _ rfl)
theorem dX3_checkIf_72 : decode cX3_checkIf 72 = .ok (.invokevirtual 483, 3) := dz_182 (bX3_checkIf_4 8 _ rfl) (bX3_checkIf_4 9 _ rfl) (bX3_checkIf_4 10 _ rfl)
theorem dX3_checkIf_75 : decode cX3_checkIf 75 = .ok (.aload_n 0, 1) := dz_42 (bX3_checkIf_4 11 _ rfl)
theorem dX3_checkIf_76 : decode cX3_checkIf 76 = .ok (.iconst 3, 1) := dz_6 (bX3_checkIf_4 12 _ rfl)
theorem dX3_checkIf_77 : decode cX3_checkIf 77 = .ok (.iload_n 2, 1) := dz_28 (bX3_checkIf_4 13 _ rfl)
theorem dX3_checkIf_78 : decode cX3_checkIf 78 = .ok (.imul, 1) := dz_104 (bX3_checkIf_4 14 _ rfl)
theorem dX3_checkIf_79 : decode cX3_checkIf 79 = .ok (.iconst 1, 1) := dz_4 (bX3_checkIf_4 15 _ rfl)
theorem dX3_checkIf_80 : decode cX3_checkIf 80 = .ok (.iadd, 1) := dz_96 (bX3_checkIf_5 0 _ rfl)
theorem dX3_checkIf_81 : decode cX3_checkIf 81 = .ok (.iload 4, 2) := dz_21 (bX3_checkIf_5 1 _ rfl) (bX3_checkIf_5 2 _ rfl)
theorem dX3_checkIf_83 : decode cX3_checkIf 83 = .ok (.invokevirtual 523, 3) := dz_182 (bX3_checkIf_5 3 _ rfl) (bX3_checkIf_5 4 _ rfl) (bX3_checkIf_5 5 _ rfl)
theorem dX3_checkIf_86 : decode cX3_checkIf 86 = .ok (.return_, 1) := dz_177 (bX3_checkIf_5 6 _ rfl)
def m_X3_checkIf_75 (rc : Nat → Int32 → Int32 → ch_S → Option (ch_S)) (x2 : Int32) (x4 : Int32)  (σ : ch_S) : Option (ch_S) := (m_X3_joinSets ((3 * x2) + 1) x4 σ).bind fun p1 => some (p1)
theorem s_X3_checkIf_75 {g : State} {d : Nat} {rc : Nat → Int32 → Int32 → ch_S → Option (ch_S)} {m : Nat} {w : ch_W} (hr0 : ∀ {z0 : Int32} {z1 : Int32} {σ : ch_S} {p : ch_S} {Q : Outcome → ch_W → Prop}, rc 0 z0 z1 σ = some p → ch_eV Q (ch_put m w p) → ch_CT g false yX3_checkBlock (d + 7) [.ref m, .int z0, .int z1] (ch_put m w σ) Q)  {x2 : Int32} {x4 : Int32} {σ : ch_S} {res : ch_S} {Q : Outcome → ch_W → Prop} (h : m_X3_checkIf_75 rc x2 x4 σ = some res) (hk : (fun r => ch_eV Q (ch_put m w r)) res) : ch_FT g false mX3_checkIf (d + 8) 75 [some (va_rf (some m)), none, some (.int x2), none, some (.int x4)] [] (ch_put m w σ) Q := by
  unfold m_X3_checkIf_75 at h
  obtain ⟨p1, hp2, h⟩ := ch_bd h
  refine ch_aload_n 0 (some m) dX3_checkIf_75 rfl (ch_iconst _ 3 dX3_checkIf_76 rfl (ch_iload_n 2 _ dX3_checkIf_77 rfl (ch_imul _ _ dX3_checkIf_78 (ch_iconst _ 1 dX3_checkIf_79 rfl (ch_iadd _ _ dX3_checkIf_80 (ch_iload 4 _ dX3_checkIf_81 rfl (ch_iv yX3_joinSets prog_14_method_60_code 4 none (ci := 3) (q := (RX3, TX3, 109)) (b := m) (d' := 2) (av := [.int ((3 * x2) + 1), .int x4]) (rest := []) rfl dX3_checkIf_83 q2159 q2161 rfl qs168 q2162 can_X3_joinSets (Nat.le_trans (Nat.le_of_ble_eq_true rfl) (Nat.le_add_left 8 d)) (Nat.le_of_ble_eq_true rfl) ch_put_tag (cp_kV (w1 := ch_put m w p1) (fun Q' hq => s_X3_joinSets hp2 hq) ?_))))))))
  obtain rfl := Option.some.inj h
  exact ch_return dX3_checkIf_86 rfl hk

def m_X3_checkIf (rc : Nat → Int32 → Int32 → ch_S → Option (ch_S)) (x1 : Int32) (x2 : Int32) (σ : ch_S) : Option (ch_S) := (m_X3_keepSets (3 * x2) σ).bind fun p1 => (ch_ma p1 fX3_inner x1).bind fun v3 => (rc 0 v3 (x2 + 1) p1).bind fun p4 => (m_X3_keepSets ((3 * x2) + 1) p4).bind fun p6 => (ch_bit (σ.1 fX3_dead)).bind fun _ => (ch_mI p6 fX3_dead (σ.1 fX3_dead)).bind fun σ8 => (m_X3_backSets (3 * x2) σ8).bind fun p9 => (ch_ma p9 fX3_target x1).bind fun v11 => if v11 = 1 then ((ch_ma p9 fX3_other x1).bind fun v12 => (rc 0 v12 (x2 + 1) p9).bind fun p13 => m_X3_checkIf_75 rc x2 (p4.1 fX3_dead) p13) else (m_X3_checkIf_75 rc x2 (p4.1 fX3_dead) p9)
theorem s_X3_checkIf {g : State} {d : Nat} {rc : Nat → Int32 → Int32 → ch_S → Option (ch_S)} {m : Nat} {w : ch_W} (hr0 : ∀ {z0 : Int32} {z1 : Int32} {σ : ch_S} {p : ch_S} {Q : Outcome → ch_W → Prop}, rc 0 z0 z1 σ = some p → ch_eV Q (ch_put m w p) → ch_CT g false yX3_checkBlock (d + 7) [.ref m, .int z0, .int z1] (ch_put m w σ) Q)  {x1 : Int32} {x2 : Int32} {σ : ch_S} {res : ch_S} {Q : Outcome → ch_W → Prop} (h : m_X3_checkIf rc x1 x2 σ = some res) (hk : (fun r => ch_eV Q (ch_put m w r)) res) : ch_CT g false yX3_checkIf (d + 8) [.ref m, .int x1, .int x2] (ch_put m w σ) Q := by
  unfold m_X3_checkIf at h
  refine ch_ctL mX3_checkIf (ls := [some (va_rf (some m)), some (.int x1), some (.int x2), none, none]) q2150 rfl (ch_lyr (r := some m) (ch_lyi (ch_lyi ch_ly0))) (Nat.le_of_ble_eq_true rfl) rfl ?_
  obtain ⟨p1, hp2, h⟩ := ch_bd h
  refine ch_aload_n 0 (some m) dX3_checkIf_0 rfl (mp_gI 66 dX3_checkIf_1 fl_X3_476 rfl (ch_istore_n 3 _ (ls1 := [some (va_rf (some m)), some (.int x1), some (.int x2), some (.int (σ.1 fX3_dead)), none]) dX3_checkIf_4 (Nat.le_of_ble_eq_true rfl) rfl (ch_aload_n 0 (some m) dX3_checkIf_5 rfl (ch_iconst _ 3 dX3_checkIf_6 rfl (ch_iload_n 2 _ dX3_checkIf_7 rfl (ch_imul _ _ dX3_checkIf_8 (ch_iv yX3_keepSets prog_14_method_58_code 3 none (ci := 3) (q := (RX3, TX3, 109)) (b := m) (d' := 2) (av := [.int (3 * x2)]) (rest := []) rfl dX3_checkIf_9 q2151 q2153 rfl qs166 q2154 can_X3_keepSets (Nat.le_trans (Nat.le_of_ble_eq_true rfl) (Nat.le_add_left 8 d)) (Nat.le_of_ble_eq_true rfl) ch_put_tag (cp_kV (w1 := ch_put m w p1) (fun Q' hq => s_X3_keepSets hp2 hq) ?_))))))))
  refine ch_aload_n 0 (some m) dX3_checkIf_12 rfl (ch_aload_n 0 (some m) dX3_checkIf_13 rfl (mp_gA 34 dX3_checkIf_14 fl_X3_70 rfl (ch_iload_n 1 _ dX3_checkIf_17 rfl (mp_iald dX3_checkIf_18 mk_34 h (fun v3 h => ?_)))))
  obtain ⟨p4, hp5, h⟩ := ch_bd h
  refine ch_iload_n 2 _ dX3_checkIf_19 rfl (ch_iconst _ 1 dX3_checkIf_20 rfl (ch_iadd _ _ dX3_checkIf_21 (ch_iv yX3_checkBlock prog_14_method_57_code 5 none (ci := 3) (q := (RX3, TX3, 109)) (b := m) (d' := (d + 7)) (av := [.int v3, .int (x2 + 1)]) (rest := []) rfl dX3_checkIf_22 q2084 q2086 rfl qs150 q2087 can_X3_checkBlock (Nat.le_refl _) (Nat.le_of_ble_eq_true rfl) ch_put_tag (cp_kV (w1 := ch_put m w p4) (fun Q' hq => hr0 hp5 hq) ?_))))
  refine ch_aload_n 0 (some m) dX3_checkIf_25 rfl (mp_gI 66 dX3_checkIf_26 fl_X3_476 rfl (ch_istore 4 _ (ls1 := [some (va_rf (some m)), some (.int x1), some (.int x2), some (.int (σ.1 fX3_dead)), some (.int (p4.1 fX3_dead))]) dX3_checkIf_29 (Nat.le_of_ble_eq_true rfl) rfl (ch_aload_n 0 (some m) dX3_checkIf_31 rfl (ch_iconst _ 3 dX3_checkIf_32 rfl (ch_iload_n 2 _ dX3_checkIf_33 rfl (ch_imul _ _ dX3_checkIf_34 (ch_iconst _ 1 dX3_checkIf_35 rfl (?_))))))))
  obtain ⟨p6, hp7, h⟩ := ch_bd h
  refine ch_iadd _ _ dX3_checkIf_36 (ch_iv yX3_keepSets prog_14_method_58_code 3 none (ci := 3) (q := (RX3, TX3, 109)) (b := m) (d' := 2) (av := [.int ((3 * x2) + 1)]) (rest := []) rfl dX3_checkIf_37 q2151 q2153 rfl qs166 q2154 can_X3_keepSets (Nat.le_trans (Nat.le_of_ble_eq_true rfl) (Nat.le_add_left 8 d)) (Nat.le_of_ble_eq_true rfl) ch_put_tag (cp_kV (w1 := ch_put m w p6) (fun Q' hq => s_X3_keepSets hp7 hq) ?_))
  refine ch_aload_n 0 (some m) dX3_checkIf_40 rfl (ch_iload_n 3 _ dX3_checkIf_41 rfl (mp_pZ (k := 66) dX3_checkIf_42 fl_X3_476 rfl rfl rfl h (fun σ8 h => ?_)))
  obtain ⟨p9, hp10, h⟩ := ch_bd h
  refine ch_aload_n 0 (some m) dX3_checkIf_45 rfl (ch_iconst _ 3 dX3_checkIf_46 rfl (ch_iload_n 2 _ dX3_checkIf_47 rfl (ch_imul _ _ dX3_checkIf_48 (ch_iv yX3_backSets prog_14_method_59_code 3 none (ci := 3) (q := (RX3, TX3, 109)) (b := m) (d' := 2) (av := [.int (3 * x2)]) (rest := []) rfl dX3_checkIf_49 q2155 q2157 rfl qs167 q2158 can_X3_backSets (Nat.le_trans (Nat.le_of_ble_eq_true rfl) (Nat.le_add_left 8 d)) (Nat.le_of_ble_eq_true rfl) ch_put_tag (cp_kV (w1 := ch_put m w p9) (fun Q' hq => s_X3_backSets hp10 hq) ?_)))))
  refine ch_aload_n 0 (some m) dX3_checkIf_52 rfl (mp_gA 30 dX3_checkIf_53 fl_X3_58 rfl (ch_iload_n 1 _ dX3_checkIf_56 rfl (mp_iald dX3_checkIf_57 mk_30 h (fun v11 h => ?_))))
  refine ch_iconst _ 1 dX3_checkIf_58 rfl (cp_icmp_ne _ _ (tgt := 75) dX3_checkIf_59 rfl h (fun h => ?_) (fun h => ?_))
  · exact ch_FT.wk (ch_wS (ch_wN (ch_wS (ch_wN (ch_wS ch_w0))))) (s_X3_checkIf_75 hr0 h hk)
  · refine ch_aload_n 0 (some m) dX3_checkIf_62 rfl (ch_aload_n 0 (some m) dX3_checkIf_63 rfl (mp_gA 35 dX3_checkIf_64 fl_X3_73 rfl (ch_iload_n 1 _ dX3_checkIf_67 rfl (mp_iald dX3_checkIf_68 mk_35 h (fun v12 h => ?_)))))
    obtain ⟨p13, hp14, h⟩ := ch_bd h
    refine ch_iload_n 2 _ dX3_checkIf_69 rfl (ch_iconst _ 1 dX3_checkIf_70 rfl (ch_iadd _ _ dX3_checkIf_71 (ch_iv yX3_checkBlock prog_14_method_57_code 5 none (ci := 3) (q := (RX3, TX3, 109)) (b := m) (d' := (d + 7)) (av := [.int v12, .int (x2 + 1)]) (rest := []) rfl dX3_checkIf_72 q2084 q2086 rfl qs150 q2087 can_X3_checkBlock (Nat.le_refl _) (Nat.le_of_ble_eq_true rfl) ch_put_tag (cp_kV (w1 := ch_put m w p13) (fun Q' hq => hr0 hp14 hq) ?_))))
    exact ch_FT.wk (ch_wS (ch_wN (ch_wS (ch_wN (ch_wS ch_w0))))) (s_X3_checkIf_75 hr0 h hk)

theorem bX3_checkWhile_0 : ch_ck cX3_checkWhile 0 [42, 180, 1, 220, 62, 42, 6, 28, 104, 182, 2, 5, 42, 42, 180, 0] := ch_ckof (by decide +kernel)
theorem bX3_checkWhile_1 : ch_ck cX3_checkWhile 16 [70, 27, 46, 28, 4, 96, 182, 1, 227, 42, 29, 181, 1, 220, 42, 6] := ch_ckof (by decide +kernel)
theorem bX3_checkWhile_2 : ch_ck cX3_checkWhile 32 [28, 104, 182, 2, 8, 177] := ch_ckof (by decide +kernel)
theorem dX3_checkWhile_0 : decode cX3_checkWhile 0 = .ok (.aload_n 0, 1) := dz_42 (bX3_checkWhile_0 0 _ rfl)
theorem dX3_checkWhile_1 : decode cX3_checkWhile 1 = .ok (.getfield 476, 3) := dz_180 (bX3_checkWhile_0 1 _ rfl) (bX3_checkWhile_0 2 _ rfl) (bX3_checkWhile_0 3 _ rfl)
theorem dX3_checkWhile_4 : decode cX3_checkWhile 4 = .ok (.istore_n 3, 1) := dz_62 (bX3_checkWhile_0 4 _ rfl)
theorem dX3_checkWhile_5 : decode cX3_checkWhile 5 = .ok (.aload_n 0, 1) := dz_42 (bX3_checkWhile_0 5 _ rfl)
theorem dX3_checkWhile_6 : decode cX3_checkWhile 6 = .ok (.iconst 3, 1) := dz_6 (bX3_checkWhile_0 6 _ rfl)
theorem dX3_checkWhile_7 : decode cX3_checkWhile 7 = .ok (.iload_n 2, 1) := dz_28 (bX3_checkWhile_0 7 _ rfl)
theorem dX3_checkWhile_8 : decode cX3_checkWhile 8 = .ok (.imul, 1) := dz_104 (bX3_checkWhile_0 8 _ rfl)
theorem dX3_checkWhile_9 : decode cX3_checkWhile 9 = .ok (.invokevirtual 517, 3) := dz_182 (bX3_checkWhile_0 9 _ rfl) (bX3_checkWhile_0 10 _ rfl) (bX3_checkWhile_0 11 _ rfl)
theorem dX3_checkWhile_12 : decode cX3_checkWhile 12 = .ok (.aload_n 0, 1) := dz_42 (bX3_checkWhile_0 12 _ rfl)
theorem dX3_checkWhile_13 : decode cX3_checkWhile 13 = .ok (.aload_n 0, 1) := dz_42 (bX3_checkWhile_0 13 _ rfl)
theorem dX3_checkWhile_14 : decode cX3_checkWhile 14 = .ok (.getfield 70, 3) := dz_180 (bX3_checkWhile_0 14 _ rfl) (bX3_checkWhile_0 15 _ rfl) (bX3_checkWhile_1 0 _ rfl)
theorem dX3_checkWhile_17 : decode cX3_checkWhile 17 = .ok (.iload_n 1, 1) := dz_27 (bX3_checkWhile_1 1 _ rfl)
theorem dX3_checkWhile_18 : decode cX3_checkWhile 18 = .ok (.iaload, 1) := dz_46 (bX3_checkWhile_1 2 _ rfl)
theorem dX3_checkWhile_19 : decode cX3_checkWhile 19 = .ok (.iload_n 2, 1) := dz_28 (bX3_checkWhile_1 3 _ rfl)
theorem dX3_checkWhile_20 : decode cX3_checkWhile 20 = .ok (.iconst 1, 1) := dz_4 (bX3_checkWhile_1 4 _ rfl)
theorem dX3_checkWhile_21 : decode cX3_checkWhile 21 = .ok (.iadd, 1) := dz_96 (bX3_checkWhile_1 5 _ rfl)
theorem dX3_checkWhile_22 : decode cX3_checkWhile 22 = .ok (.invokevirtual 483, 3) := dz_182 (bX3_checkWhile_1 6 _ rfl) (bX3_checkWhile_1 7 _ rfl) (bX3_checkWhile_1 8 _ rfl)
theorem dX3_checkWhile_25 : decode cX3_checkWhile 25 = .ok (.aload_n 0, 1) := dz_42 (bX3_checkWhile_1 9 _ rfl)
theorem dX3_checkWhile_26 : decode cX3_checkWhile 26 = .ok (.iload_n 3, 1) := dz_29 (bX3_checkWhile_1 10 _ rfl)
theorem dX3_checkWhile_27 : decode cX3_checkWhile 27 = .ok (.putfield 476, 3) := dz_181 (bX3_checkWhile_1 11 _ rfl) (bX3_checkWhile_1 12 _ rfl) (bX3_checkWhile_1 13 _ rfl)
theorem dX3_checkWhile_30 : decode cX3_checkWhile 30 = .ok (.aload_n 0, 1) := dz_42 (bX3_checkWhile_1 14 _ rfl)
theorem dX3_checkWhile_31 : decode cX3_checkWhile 31 = .ok (.iconst 3, 1) := dz_6 (bX3_checkWhile_1 15 _ rfl)
theorem dX3_checkWhile_32 : decode cX3_checkWhile 32 = .ok (.iload_n 2, 1) := dz_28 (bX3_checkWhile_2 0 _ rfl)
theorem dX3_checkWhile_33 : decode cX3_checkWhile 33 = .ok (.imul, 1) := dz_104 (bX3_checkWhile_2 1 _ rfl)
theorem dX3_checkWhile_34 : decode cX3_checkWhile 34 = .ok (.invokevirtual 520, 3) := dz_182 (bX3_checkWhile_2 2 _ rfl) (bX3_checkWhile_2 3 _ rfl) (bX3_checkWhile_2 4 _ rfl)
theorem dX3_checkWhile_37 : decode cX3_checkWhile 37 = .ok (.return_, 1) := dz_177 (bX3_checkWhile_2 5 _ rfl)
def m_X3_checkWhile (rc : Nat → Int32 → Int32 → ch_S → Option (ch_S)) (x1 : Int32) (x2 : Int32) (σ : ch_S) : Option (ch_S) := (m_X3_keepSets (3 * x2) σ).bind fun p1 => (ch_ma p1 fX3_inner x1).bind fun v3 => (rc 0 v3 (x2 + 1) p1).bind fun p4 => (ch_bit (σ.1 fX3_dead)).bind fun _ => (ch_mI p4 fX3_dead (σ.1 fX3_dead)).bind fun σ6 => (m_X3_backSets (3 * x2) σ6).bind fun p7 => some (p7)
theorem s_X3_checkWhile {g : State} {d : Nat} {rc : Nat → Int32 → Int32 → ch_S → Option (ch_S)} {m : Nat} {w : ch_W} (hr0 : ∀ {z0 : Int32} {z1 : Int32} {σ : ch_S} {p : ch_S} {Q : Outcome → ch_W → Prop}, rc 0 z0 z1 σ = some p → ch_eV Q (ch_put m w p) → ch_CT g false yX3_checkBlock (d + 7) [.ref m, .int z0, .int z1] (ch_put m w σ) Q)  {x1 : Int32} {x2 : Int32} {σ : ch_S} {res : ch_S} {Q : Outcome → ch_W → Prop} (h : m_X3_checkWhile rc x1 x2 σ = some res) (hk : (fun r => ch_eV Q (ch_put m w r)) res) : ch_CT g false yX3_checkWhile (d + 8) [.ref m, .int x1, .int x2] (ch_put m w σ) Q := by
  unfold m_X3_checkWhile at h
  refine ch_ctL mX3_checkWhile (ls := [some (va_rf (some m)), some (.int x1), some (.int x2), none]) q2166 rfl (ch_lyr (r := some m) (ch_lyi (ch_lyi ch_ly0))) (Nat.le_of_ble_eq_true rfl) rfl ?_
  obtain ⟨p1, hp2, h⟩ := ch_bd h
  refine ch_aload_n 0 (some m) dX3_checkWhile_0 rfl (mp_gI 66 dX3_checkWhile_1 fl_X3_476 rfl (ch_istore_n 3 _ (ls1 := [some (va_rf (some m)), some (.int x1), some (.int x2), some (.int (σ.1 fX3_dead))]) dX3_checkWhile_4 (Nat.le_of_ble_eq_true rfl) rfl (ch_aload_n 0 (some m) dX3_checkWhile_5 rfl (ch_iconst _ 3 dX3_checkWhile_6 rfl (ch_iload_n 2 _ dX3_checkWhile_7 rfl (ch_imul _ _ dX3_checkWhile_8 (ch_iv yX3_keepSets prog_14_method_58_code 3 none (ci := 3) (q := (RX3, TX3, 109)) (b := m) (d' := 2) (av := [.int (3 * x2)]) (rest := []) rfl dX3_checkWhile_9 q2151 q2153 rfl qs166 q2154 can_X3_keepSets (Nat.le_trans (Nat.le_of_ble_eq_true rfl) (Nat.le_add_left 8 d)) (Nat.le_of_ble_eq_true rfl) ch_put_tag (cp_kV (w1 := ch_put m w p1) (fun Q' hq => s_X3_keepSets hp2 hq) ?_))))))))
  refine ch_aload_n 0 (some m) dX3_checkWhile_12 rfl (ch_aload_n 0 (some m) dX3_checkWhile_13 rfl (mp_gA 34 dX3_checkWhile_14 fl_X3_70 rfl (ch_iload_n 1 _ dX3_checkWhile_17 rfl (mp_iald dX3_checkWhile_18 mk_34 h (fun v3 h => ?_)))))
  obtain ⟨p4, hp5, h⟩ := ch_bd h
  refine ch_iload_n 2 _ dX3_checkWhile_19 rfl (ch_iconst _ 1 dX3_checkWhile_20 rfl (ch_iadd _ _ dX3_checkWhile_21 (ch_iv yX3_checkBlock prog_14_method_57_code 5 none (ci := 3) (q := (RX3, TX3, 109)) (b := m) (d' := (d + 7)) (av := [.int v3, .int (x2 + 1)]) (rest := []) rfl dX3_checkWhile_22 q2084 q2086 rfl qs150 q2087 can_X3_checkBlock (Nat.le_refl _) (Nat.le_of_ble_eq_true rfl) ch_put_tag (cp_kV (w1 := ch_put m w p4) (fun Q' hq => hr0 hp5 hq) ?_))))
  refine ch_aload_n 0 (some m) dX3_checkWhile_25 rfl (ch_iload_n 3 _ dX3_checkWhile_26 rfl (mp_pZ (k := 66) dX3_checkWhile_27 fl_X3_476 rfl rfl rfl h (fun σ6 h => ?_)))
  obtain ⟨p7, hp8, h⟩ := ch_bd h
  refine ch_aload_n 0 (some m) dX3_checkWhile_30 rfl (ch_iconst _ 3 dX3_checkWhile_31 rfl (ch_iload_n 2 _ dX3_checkWhile_32 rfl (ch_imul _ _ dX3_checkWhile_33 (ch_iv yX3_backSets prog_14_method_59_code 3 none (ci := 3) (q := (RX3, TX3, 109)) (b := m) (d' := 2) (av := [.int (3 * x2)]) (rest := []) rfl dX3_checkWhile_34 q2155 q2157 rfl qs167 q2158 can_X3_backSets (Nat.le_trans (Nat.le_of_ble_eq_true rfl) (Nat.le_add_left 8 d)) (Nat.le_of_ble_eq_true rfl) ch_put_tag (cp_kV (w1 := ch_put m w p7) (fun Q' hq => s_X3_backSets hp8 hq) ?_)))))
  obtain rfl := Option.some.inj h
  exact ch_return dX3_checkWhile_37 rfl hk

theorem bX3_checkTry_0 : ch_ck cX3_checkTry 0 [42, 180, 1, 220, 62, 42, 6, 28, 104, 182, 2, 5, 42, 42, 180, 0] := ch_ckof (by decide +kernel)
theorem bX3_checkTry_1 : ch_ck cX3_checkTry 16 [70, 27, 46, 28, 4, 96, 182, 1, 227, 42, 180, 1, 153, 155, 0, 4] := ch_ckof (by decide +kernel)
theorem bX3_checkTry_2 : ch_ck cX3_checkTry 32 [177, 42, 180, 1, 220, 54, 4, 42, 6, 28, 104, 4, 96, 182, 2, 5] := ch_ckof (by decide +kernel)
theorem bX3_checkTry_3 : ch_ck cX3_checkTry 48 [42, 29, 181, 1, 220, 42, 6, 28, 104, 182, 2, 8, 42, 42, 180, 0] := ch_ckof (by decide +kernel)
theorem bX3_checkTry_4 : ch_ck cX3_checkTry 64 [61, 27, 46, 182, 1, 170, 54, 5, 21, 5, 8, 159, 0, 16, 42, 42] := ch_ckof (by decide +kernel)
theorem bX3_checkTry_5 : ch_ck cX3_checkTry 80 [180, 0, 64, 27, 46, 182, 1, 240, 155, 0, 14, 42, 42, 180, 0, 49] := ch_ckof (by decide +kernel)
theorem bX3_checkTry_6 : ch_ck cX3_checkTry 96 [27, 46, 182, 1, 163, 177, 42, 180, 0, 61, 27, 21, 5, 79, 42, 180] := ch_ckof (by decide +kernel)
theorem bX3_checkTry_7 : ch_ck cX3_checkTry 112 [0, 67, 27, 42, 180, 1, 211, 79, 42, 42, 180, 0, 64, 27, 46, 21] := ch_ckof (by decide +kernel)
theorem bX3_checkTry_8 : ch_ck cX3_checkTry 128 [5, 4, 182, 1, 223, 42, 42, 180, 0, 73, 27, 46, 28, 4, 96, 182] := ch_ckof (by decide +kernel)
theorem bX3_checkTry_9 : ch_ck cX3_checkTry 144 [1, 227, 42, 89, 180, 1, 211, 4, 100, 181, 1, 211, 42, 6, 28, 104] := ch_ckof (by decide +kernel)
theorem bX3_checkTry_10 : ch_ck cX3_checkTry 160 [4, 96, 21, 4, 182, 2, 11, 177] := ch_ckof (by decide +kernel)
theorem dX3_checkTry_0 : decode cX3_checkTry 0 = .ok (.aload_n 0, 1) := dz_42 (bX3_checkTry_0 0 _ rfl)
theorem dX3_checkTry_1 : decode cX3_checkTry 1 = .ok (.getfield 476, 3) := dz_180 (bX3_checkTry_0 1 _ rfl) (bX3_checkTry_0 2 _ rfl) (bX3_checkTry_0 3 _ rfl)
theorem dX3_checkTry_4 : decode cX3_checkTry 4 = .ok (.istore_n 3, 1) := dz_62 (bX3_checkTry_0 4 _ rfl)
theorem dX3_checkTry_5 : decode cX3_checkTry 5 = .ok (.aload_n 0, 1) := dz_42 (bX3_checkTry_0 5 _ rfl)
theorem dX3_checkTry_6 : decode cX3_checkTry 6 = .ok (.iconst 3, 1) := dz_6 (bX3_checkTry_0 6 _ rfl)
theorem dX3_checkTry_7 : decode cX3_checkTry 7 = .ok (.iload_n 2, 1) := dz_28 (bX3_checkTry_0 7 _ rfl)
theorem dX3_checkTry_8 : decode cX3_checkTry 8 = .ok (.imul, 1) := dz_104 (bX3_checkTry_0 8 _ rfl)
theorem dX3_checkTry_9 : decode cX3_checkTry 9 = .ok (.invokevirtual 517, 3) := dz_182 (bX3_checkTry_0 9 _ rfl) (bX3_checkTry_0 10 _ rfl) (bX3_checkTry_0 11 _ rfl)
theorem dX3_checkTry_12 : decode cX3_checkTry 12 = .ok (.aload_n 0, 1) := dz_42 (bX3_checkTry_0 12 _ rfl)
theorem dX3_checkTry_13 : decode cX3_checkTry 13 = .ok (.aload_n 0, 1) := dz_42 (bX3_checkTry_0 13 _ rfl)
theorem dX3_checkTry_14 : decode cX3_checkTry 14 = .ok (.getfield 70, 3) := dz_180 (bX3_checkTry_0 14 _ rfl) (bX3_checkTry_0 15 _ rfl) (bX3_checkTry_1 0 _ rfl)
theorem dX3_checkTry_17 : decode cX3_checkTry 17 = .ok (.iload_n 1, 1) := dz_27 (bX3_checkTry_1 1 _ rfl)
theorem dX3_checkTry_18 : decode cX3_checkTry 18 = .ok (.iaload, 1) := dz_46 (bX3_checkTry_1 2 _ rfl)
theorem dX3_checkTry_19 : decode cX3_checkTry 19 = .ok (.iload_n 2, 1) := dz_28 (bX3_checkTry_1 3 _ rfl)
theorem dX3_checkTry_20 : decode cX3_checkTry 20 = .ok (.iconst 1, 1) := dz_4 (bX3_checkTry_1 4 _ rfl)
theorem dX3_checkTry_21 : decode cX3_checkTry 21 = .ok (.iadd, 1) := dz_96 (bX3_checkTry_1 5 _ rfl)
theorem dX3_checkTry_22 : decode cX3_checkTry 22 = .ok (.invokevirtual 483, 3) := dz_182 (bX3_checkTry_1 6 _ rfl) (bX3_checkTry_1 7 _ rfl) (bX3_checkTry_1 8 _ rfl)
theorem dX3_checkTry_25 : decode cX3_checkTry 25 = .ok (.aload_n 0, 1) := dz_42 (bX3_checkTry_1 9 _ rfl)
theorem dX3_checkTry_26 : decode cX3_checkTry 26 = .ok (.getfield 409, 3) := dz_180 (bX3_checkTry_1 10 _ rfl) (bX3_checkTry_1 11 _ rfl) (bX3_checkTry_1 12 _ rfl)
theorem dX3_checkTry_29 : decode cX3_checkTry 29 = .ok (.ifCond .lt 4, 3) := dz_155 (bX3_checkTry_1 13 _ rfl) (bX3_checkTry_1 14 _ rfl) (bX3_checkTry_1 15 _ rfl)
theorem dX3_checkTry_32 : decode cX3_checkTry 32 = .ok (.return_, 1) := dz_177 (bX3_checkTry_2 0 _ rfl)
theorem dX3_checkTry_33 : decode cX3_checkTry 33 = .ok (.aload_n 0, 1) := dz_42 (bX3_checkTry_2 1 _ rfl)
theorem dX3_checkTry_34 : decode cX3_checkTry 34 = .ok (.getfield 476, 3) := dz_180 (bX3_checkTry_2 2 _ rfl) (bX3_checkTry_2 3 _ rfl) (bX3_checkTry_2 4 _ rfl)
theorem dX3_checkTry_37 : decode cX3_checkTry 37 = .ok (.istore 4, 2) := dz_54 (bX3_checkTry_2 5 _ rfl) (bX3_checkTry_2 6 _ rfl)
theorem dX3_checkTry_39 : decode cX3_checkTry 39 = .ok (.aload_n 0, 1) := dz_42 (bX3_checkTry_2 7 _ rfl)
theorem dX3_checkTry_40 : decode cX3_checkTry 40 = .ok (.iconst 3, 1) := dz_6 (bX3_checkTry_2 8 _ rfl)
theorem dX3_checkTry_41 : decode cX3_checkTry 41 = .ok (.iload_n 2, 1) := dz_28 (bX3_checkTry_2 9 _ rfl)
theorem dX3_checkTry_42 : decode cX3_checkTry 42 = .ok (.imul, 1) := dz_104 (bX3_checkTry_2 10 _ rfl)
theorem dX3_checkTry_43 : decode cX3_checkTry 43 = .ok (.iconst 1, 1) := dz_4 (bX3_checkTry_2 11 _ rfl)
theorem dX3_checkTry_44 : decode cX3_checkTry 44 = .ok (.iadd, 1) := dz_96 (bX3_checkTry_2 12 _ rfl)
theorem dX3_checkTry_45 : decode cX3_checkTry 45 = .ok (.invokevirtual 517, 3) := dz_182 (bX3_checkTry_2 13 _ rfl) (bX3_checkTry_2 14 _ rfl) (bX3_checkTry_2 15 _ rfl)
theorem dX3_checkTry_48 : decode cX3_checkTry 48 = .ok (.aload_n 0, 1) := dz_42 (bX3_checkTry_3 0 _ rfl)
theorem dX3_checkTry_49 : decode cX3_checkTry 49 = .ok (.iload_n 3, 1) := dz_29 (bX3_checkTry_3 1 _ rfl)
theorem dX3_checkTry_50 : decode cX3_checkTry 50 = .ok (.putfield 476, 3) := dz_181 (bX3_checkTry_3 2 _ rfl) (bX3_checkTry_3 3 _ rfl) (bX3_checkTry_3 4 _ rfl)
theorem dX3_checkTry_53 : decode cX3_checkTry 53 = .ok (.aload_n 0, 1) := dz_42 (bX3_checkTry_3 5 _ rfl)
theorem dX3_checkTry_54 : decode cX3_checkTry 54 = .ok (.iconst 3, 1) := dz_6 (bX3_checkTry_3 6 _ rfl)
theorem dX3_checkTry_55 : decode cX3_checkTry 55 = .ok (.iload_n 2, 1) := dz_28 (bX3_checkTry_3 7 _ rfl)
theorem dX3_checkTry_56 : decode cX3_checkTry 56 = .ok (.imul, 1) := dz_104 (bX3_checkTry_3 8 _ rfl)
theorem dX3_checkTry_57 : decode cX3_checkTry 57 = .ok (.invokevirtual 520, 3) := dz_182 (bX3_checkTry_3 9 _ rfl) (bX3_checkTry_3 10 _ rfl) (bX3_checkTry_3 11 _ rfl)
theorem dX3_checkTry_60 : decode cX3_checkTry 60 = .ok (.aload_n 0, 1) := dz_42 (bX3_checkTry_3 12 _ rfl)
theorem dX3_checkTry_61 : decode cX3_checkTry 61 = .ok (.aload_n 0, 1) := dz_42 (bX3_checkTry_3 13 _ rfl)
theorem dX3_checkTry_62 : decode cX3_checkTry 62 = .ok (.getfield 61, 3) := dz_180 (bX3_checkTry_3 14 _ rfl) (bX3_checkTry_3 15 _ rfl) (bX3_checkTry_4 0 _ rfl)
theorem dX3_checkTry_65 : decode cX3_checkTry 65 = .ok (.iload_n 1, 1) := dz_27 (bX3_checkTry_4 1 _ rfl)
theorem dX3_checkTry_66 : decode cX3_checkTry 66 = .ok (.iaload, 1) := dz_46 (bX3_checkTry_4 2 _ rfl)
theorem dX3_checkTry_67 : decode cX3_checkTry 67 = .ok (.invokevirtual 426, 3) := dz_182 (bX3_checkTry_4 3 _ rfl) (bX3_checkTry_4 4 _ rfl) (bX3_checkTry_4 5 _ rfl)
theorem dX3_checkTry_70 : decode cX3_checkTry 70 = .ok (.istore 5, 2) := dz_54 (bX3_checkTry_4 6 _ rfl) (bX3_checkTry_4 7 _ rfl)
theorem dX3_checkTry_72 : decode cX3_checkTry 72 = .ok (.iload 5, 2) := dz_21 (bX3_checkTry_4 8 _ rfl) (bX3_checkTry_4 9 _ rfl)
theorem dX3_checkTry_74 : decode cX3_checkTry 74 = .ok (.iconst 5, 1) := dz_8 (bX3_checkTry_4 10 _ rfl)
theorem dX3_checkTry_75 : decode cX3_checkTry 75 = .ok (.if_icmp .eq 16, 3) := dz_159 (bX3_checkTry_4 11 _ rfl) (bX3_checkTry_4 12 _ rfl) (bX3_checkTry_4 13 _ rfl)
theorem dX3_checkTry_78 : decode cX3_checkTry 78 = .ok (.aload_n 0, 1) := dz_42 (bX3_checkTry_4 14 _ rfl)
theorem dX3_checkTry_79 : decode cX3_checkTry 79 = .ok (.aload_n 0, 1) := dz_42 (bX3_checkTry_4 15 _ rfl)
theorem dX3_checkTry_80 : decode cX3_checkTry 80 = .ok (.getfield 64, 3) := dz_180 (bX3_checkTry_5 0 _ rfl) (bX3_checkTry_5 1 _ rfl) (bX3_checkTry_5 2 _ rfl)
theorem dX3_checkTry_83 : decode cX3_checkTry 83 = .ok (.iload_n 1, 1) := dz_27 (bX3_checkTry_5 3 _ rfl)
theorem dX3_checkTry_84 : decode cX3_checkTry 84 = .ok (.iaload, 1) := dz_46 (bX3_checkTry_5 4 _ rfl)
theorem dX3_checkTry_85 : decode cX3_checkTry 85 = .ok (.invokevirtual 496, 3) := dz_182 (bX3_checkTry_5 5 _ rfl) (bX3_checkTry_5 6 _ rfl) (bX3_checkTry_5 7 _ rfl)
theorem dX3_checkTry_88 : decode cX3_checkTry 88 = .ok (.ifCond .lt 14, 3) := dz_155 (bX3_checkTry_5 8 _ rfl) (bX3_checkTry_5 9 _ rfl) (bX3_checkTry_5 10 _ rfl)
theorem dX3_checkTry_91 : decode cX3_checkTry 91 = .ok (.aload_n 0, 1) := dz_42 (bX3_checkTry_5 11 _ rfl)
theorem dX3_checkTry_92 : decode cX3_checkTry 92 = .ok (.aload_n 0, 1) := dz_42 (bX3_checkTry_5 12 _ rfl)
theorem dX3_checkTry_93 : decode cX3_checkTry 93 = .ok (.getfield 49, 3) := dz_180 (bX3_checkTry_5 13 _ rfl) (bX3_checkTry_5 14 _ rfl) (bX3_checkTry_5 15 _ rfl)
theorem dX3_checkTry_96 : decode cX3_checkTry 96 = .ok (.iload_n 1, 1) := dz_27 (bX3_checkTry_6 0 _ rfl)
theorem dX3_checkTry_97 : decode cX3_checkTry 97 = .ok (.iaload, 1) := dz_46 (bX3_checkTry_6 1 _ rfl)
theorem dX3_checkTry_98 : decode cX3_checkTry 98 = .ok (.invokevirtual 419, 3) := dz_182 (bX3_checkTry_6 2 _ rfl) (bX3_checkTry_6 3 _ rfl) (bX3_checkTry_6 4 _ rfl)
theorem dX3_checkTry_101 : decode cX3_checkTry 101 = .ok (.return_, 1) := dz_177 (bX3_checkTry_6 5 _ rfl)
theorem dX3_checkTry_102 : decode cX3_checkTry 102 = .ok (.aload_n 0, 1) := dz_42 (bX3_checkTry_6 6 _ rfl)
theorem dX3_checkTry_103 : decode cX3_checkTry 103 = .ok (.getfield 61, 3) := dz_180 (bX3_checkTry_6 7 _ rfl) (bX3_checkTry_6 8 _ rfl) (bX3_checkTry_6 9 _ rfl)
theorem dX3_checkTry_106 : decode cX3_checkTry 106 = .ok (.iload_n 1, 1) := dz_27 (bX3_checkTry_6 10 _ rfl)
theorem dX3_checkTry_107 : decode cX3_checkTry 107 = .ok (.iload 5, 2) := dz_21 (bX3_checkTry_6 11 _ rfl) (bX3_checkTry_6 12 _ rfl)
theorem dX3_checkTry_109 : decode cX3_checkTry 109 = .ok (.iastore, 1) := dz_79 (bX3_checkTry_6 13 _ rfl)
theorem dX3_checkTry_110 : decode cX3_checkTry 110 = .ok (.aload_n 0, 1) := dz_42 (bX3_checkTry_6 14 _ rfl)
theorem dX3_checkTry_111 : decode cX3_checkTry 111 = .ok (.getfield 67, 3) := dz_180 (bX3_checkTry_6 15 _ rfl) (bX3_checkTry_7 0 _ rfl) (bX3_checkTry_7 1 _ rfl)
theorem dX3_checkTry_114 : decode cX3_checkTry 114 = .ok (.iload_n 1, 1) := dz_27 (bX3_checkTry_7 2 _ rfl)
theorem dX3_checkTry_115 : decode cX3_checkTry 115 = .ok (.aload_n 0, 1) := dz_42 (bX3_checkTry_7 3 _ rfl)
theorem dX3_checkTry_116 : decode cX3_checkTry 116 = .ok (.getfield 467, 3) := dz_180 (bX3_checkTry_7 4 _ rfl) (bX3_checkTry_7 5 _ rfl) (bX3_checkTry_7 6 _ rfl)
theorem dX3_checkTry_119 : decode cX3_checkTry 119 = .ok (.iastore, 1) := dz_79 (bX3_checkTry_7 7 _ rfl)
theorem dX3_checkTry_120 : decode cX3_checkTry 120 = .ok (.aload_n 0, 1) := dz_42 (bX3_checkTry_7 8 _ rfl)
theorem dX3_checkTry_121 : decode cX3_checkTry 121 = .ok (.aload_n 0, 1) := dz_42 (bX3_checkTry_7 9 _ rfl)
theorem dX3_checkTry_122 : decode cX3_checkTry 122 = .ok (.getfield 64, 3) := dz_180 (bX3_checkTry_7 10 _ rfl) (bX3_checkTry_7 11 _ rfl) (bX3_checkTry_7 12 _ rfl)
theorem dX3_checkTry_125 : decode cX3_checkTry 125 = .ok (.iload_n 1, 1) := dz_27 (bX3_checkTry_7 13 _ rfl)
theorem dX3_checkTry_126 : decode cX3_checkTry 126 = .ok (.iaload, 1) := dz_46 (bX3_checkTry_7 14 _ rfl)
theorem dX3_checkTry_127 : decode cX3_checkTry 127 = .ok (.iload 5, 2) := dz_21 (bX3_checkTry_7 15 _ rfl) (bX3_checkTry_8 0 _ rfl)
theorem dX3_checkTry_129 : decode cX3_checkTry 129 = .ok (.iconst 1, 1) := dz_4 (bX3_checkTry_8 1 _ rfl)
theorem dX3_checkTry_130 : decode cX3_checkTry 130 = .ok (.invokevirtual 479, 3) := dz_182 (bX3_checkTry_8 2 _ rfl) (bX3_checkTry_8 3 _ rfl) (bX3_checkTry_8 4 _ rfl)
theorem dX3_checkTry_133 : decode cX3_checkTry 133 = .ok (.aload_n 0, 1) := dz_42 (bX3_checkTry_8 5 _ rfl)
theorem dX3_checkTry_134 : decode cX3_checkTry 134 = .ok (.aload_n 0, 1) := dz_42 (bX3_checkTry_8 6 _ rfl)
theorem dX3_checkTry_135 : decode cX3_checkTry 135 = .ok (.getfield 73, 3) := dz_180 (bX3_checkTry_8 7 _ rfl) (bX3_checkTry_8 8 _ rfl) (bX3_checkTry_8 9 _ rfl)
theorem dX3_checkTry_138 : decode cX3_checkTry 138 = .ok (.iload_n 1, 1) := dz_27 (bX3_checkTry_8 10 _ rfl)
theorem dX3_checkTry_139 : decode cX3_checkTry 139 = .ok (.iaload, 1) := dz_46 (bX3_checkTry_8 11 _ rfl)
theorem dX3_checkTry_140 : decode cX3_checkTry 140 = .ok (.iload_n 2, 1) := dz_28 (bX3_checkTry_8 12 _ rfl)
theorem dX3_checkTry_141 : decode cX3_checkTry 141 = .ok (.iconst 1, 1) := dz_4 (bX3_checkTry_8 13 _ rfl)
theorem dX3_checkTry_142 : decode cX3_checkTry 142 = .ok (.iadd, 1) := dz_96 (bX3_checkTry_8 14 _ rfl)
theorem dX3_checkTry_143 : decode cX3_checkTry 143 = .ok (.invokevirtual 483, 3) := dz_182 (bX3_checkTry_8 15 _ rfl) (bX3_checkTry_9 0 _ rfl) (bX3_checkTry_9 1 _ rfl)
theorem dX3_checkTry_146 : decode cX3_checkTry 146 = .ok (.aload_n 0, 1) := dz_42 (bX3_checkTry_9 2 _ rfl)
theorem dX3_checkTry_147 : decode cX3_checkTry 147 = .ok (.dup, 1) := dz_89 (bX3_checkTry_9 3 _ rfl)
theorem dX3_checkTry_148 : decode cX3_checkTry 148 = .ok (.getfield 467, 3) := dz_180 (bX3_checkTry_9 4 _ rfl) (bX3_checkTry_9 5 _ rfl) (bX3_checkTry_9 6 _ rfl)
theorem dX3_checkTry_151 : decode cX3_checkTry 151 = .ok (.iconst 1, 1) := dz_4 (bX3_checkTry_9 7 _ rfl)
theorem dX3_checkTry_152 : decode cX3_checkTry 152 = .ok (.isub, 1) := dz_100 (bX3_checkTry_9 8 _ rfl)
theorem dX3_checkTry_153 : decode cX3_checkTry 153 = .ok (.putfield 467, 3) := dz_181 (bX3_checkTry_9 9 _ rfl) (bX3_checkTry_9 10 _ rfl) (bX3_checkTry_9 11 _ rfl)
theorem dX3_checkTry_156 : decode cX3_checkTry 156 = .ok (.aload_n 0, 1) := dz_42 (bX3_checkTry_9 12 _ rfl)
theorem dX3_checkTry_157 : decode cX3_checkTry 157 = .ok (.iconst 3, 1) := dz_6 (bX3_checkTry_9 13 _ rfl)
theorem dX3_checkTry_158 : decode cX3_checkTry 158 = .ok (.iload_n 2, 1) := dz_28 (bX3_checkTry_9 14 _ rfl)
theorem dX3_checkTry_159 : decode cX3_checkTry 159 = .ok (.imul, 1) := dz_104 (bX3_checkTry_9 15 _ rfl)
theorem dX3_checkTry_160 : decode cX3_checkTry 160 = .ok (.iconst 1, 1) := dz_4 (bX3_checkTry_10 0 _ rfl)
theorem dX3_checkTry_161 : decode cX3_checkTry 161 = .ok (.iadd, 1) := dz_96 (bX3_checkTry_10 1 _ rfl)
theorem dX3_checkTry_162 : decode cX3_checkTry 162 = .ok (.iload 4, 2) := dz_21 (bX3_checkTry_10 2 _ rfl) (bX3_checkTry_10 3 _ rfl)
theorem dX3_checkTry_164 : decode cX3_checkTry 164 = .ok (.invokevirtual 523, 3) := dz_182 (bX3_checkTry_10 4 _ rfl) (bX3_checkTry_10 5 _ rfl) (bX3_checkTry_10 6 _ rfl)
theorem dX3_checkTry_167 : decode cX3_checkTry 167 = .ok (.return_, 1) := dz_177 (bX3_checkTry_10 7 _ rfl)
def m_X3_checkTry_91 (rc : Nat → Int32 → Int32 → ch_S → Option (ch_S)) (x1 : Int32)  (σ : ch_S) : Option (ch_S) := (ch_ma σ fX3_place x1).bind fun v1 => (m_X3_isBad v1 σ).bind fun p2 => some (p2)
theorem s_X3_checkTry_91 {g : State} {d : Nat} {rc : Nat → Int32 → Int32 → ch_S → Option (ch_S)} {m : Nat} {w : ch_W} (hr0 : ∀ {z0 : Int32} {z1 : Int32} {σ : ch_S} {p : ch_S} {Q : Outcome → ch_W → Prop}, rc 0 z0 z1 σ = some p → ch_eV Q (ch_put m w p) → ch_CT g false yX3_checkBlock (d + 7) [.ref m, .int z0, .int z1] (ch_put m w σ) Q)  {x1 : Int32} {σ : ch_S} {res : ch_S} {Q : Outcome → ch_W → Prop} (h : m_X3_checkTry_91 rc x1 σ = some res) (hk : (fun r => ch_eV Q (ch_put m w r)) res) : ch_FT g false mX3_checkTry (d + 8) 91 [some (va_rf (some m)), some (.int x1), none, none, none, none] [] (ch_put m w σ) Q := by
  unfold m_X3_checkTry_91 at h
  refine ch_aload_n 0 (some m) dX3_checkTry_91 rfl (ch_aload_n 0 (some m) dX3_checkTry_92 rfl (mp_gA 27 dX3_checkTry_93 fl_X3_49 rfl (ch_iload_n 1 _ dX3_checkTry_96 rfl (mp_iald dX3_checkTry_97 mk_27 h (fun v1 h => ?_)))))
  obtain ⟨p2, hp3, h⟩ := ch_bd h
  refine ch_iv yX3_isBad prog_14_method_42_code 2 none (ci := 3) (q := (RX3, TX3, 109)) (b := m) (d' := 2) (av := [.int v1]) (rest := []) rfl dX3_checkTry_98 q2048 q2050 rfl qs141 q2051 can_X3_isBad (Nat.le_trans (Nat.le_of_ble_eq_true rfl) (Nat.le_add_left 8 d)) (Nat.le_of_ble_eq_true rfl) ch_put_tag (cp_kV (w1 := ch_put m w p2) (fun Q' hq => s_X3_isBad hp3 hq) ?_)
  obtain rfl := Option.some.inj h
  exact ch_return dX3_checkTry_101 rfl hk

def m_X3_checkTry (rc : Nat → Int32 → Int32 → ch_S → Option (ch_S)) (x1 : Int32) (x2 : Int32) (σ : ch_S) : Option (ch_S) := (m_X3_keepSets (3 * x2) σ).bind fun p1 => (ch_ma p1 fX3_inner x1).bind fun v3 => (rc 0 v3 (x2 + 1) p1).bind fun p4 => if (p4.1 fX3_bad) < 0 then ((m_X3_keepSets ((3 * x2) + 1) p4).bind fun p6 => (ch_bit (σ.1 fX3_dead)).bind fun _ => (ch_mI p6 fX3_dead (σ.1 fX3_dead)).bind fun σ8 => (m_X3_backSets (3 * x2) σ8).bind fun p9 => (ch_ma p9 fX3_toldType x1).bind fun v11 => (m_X3_meant v11 p9).bind fun v12 => if v12 = 5 then (m_X3_checkTry_91 rc x1 p9) else ((ch_ma p9 fX3_toldName x1).bind fun v14 => (m_X3_variableOf v14 p9).bind fun v15 => if v15 < 0 then ((ch_mw p9 fX3_toldType x1 v12).bind fun σ17 => (ch_mw σ17 fX3_variable x1 (σ17.1 fX3_variables)).bind fun σ18 => (ch_ma σ18 fX3_toldName x1).bind fun v19 => (m_X3_addVariable v19 v12 1 σ18).bind fun p20 => (ch_ma p20 fX3_other x1).bind fun v22 => (rc 0 v22 (x2 + 1) p20).bind fun p23 => (ch_mI p23 fX3_variables ((p23.1 fX3_variables) - 1)).bind fun σ25 => (m_X3_joinSets ((3 * x2) + 1) (p4.1 fX3_dead) σ25).bind fun p26 => some (p26)) else (m_X3_checkTry_91 rc x1 p9))) else (some (p4))
theorem s_X3_checkTry {g : State} {d : Nat} {rc : Nat → Int32 → Int32 → ch_S → Option (ch_S)} {m : Nat} {w : ch_W} (hr0 : ∀ {z0 : Int32} {z1 : Int32} {σ : ch_S} {p : ch_S} {Q : Outcome → ch_W → Prop}, rc 0 z0 z1 σ = some p → ch_eV Q (ch_put m w p) → ch_CT g false yX3_checkBlock (d + 7) [.ref m, .int z0, .int z1] (ch_put m w σ) Q)  {x1 : Int32} {x2 : Int32} {σ : ch_S} {res : ch_S} {Q : Outcome → ch_W → Prop} (h : m_X3_checkTry rc x1 x2 σ = some res) (hk : (fun r => ch_eV Q (ch_put m w r)) res) : ch_CT g false yX3_checkTry (d + 8) [.ref m, .int x1, .int x2] (ch_put m w σ) Q := by
  unfold m_X3_checkTry at h
  refine ch_ctL mX3_checkTry (ls := [some (va_rf (some m)), some (.int x1), some (.int x2), none, none, none]) q2170 rfl (ch_lyr (r := some m) (ch_lyi (ch_lyi ch_ly0))) (Nat.le_of_ble_eq_true rfl) rfl ?_
  obtain ⟨p1, hp2, h⟩ := ch_bd h
  refine ch_aload_n 0 (some m) dX3_checkTry_0 rfl (mp_gI 66 dX3_checkTry_1 fl_X3_476 rfl (ch_istore_n 3 _ (ls1 := [some (va_rf (some m)), some (.int x1), some (.int x2), some (.int (σ.1 fX3_dead)), none, none]) dX3_checkTry_4 (Nat.le_of_ble_eq_true rfl) rfl (ch_aload_n 0 (some m) dX3_checkTry_5 rfl (ch_iconst _ 3 dX3_checkTry_6 rfl (ch_iload_n 2 _ dX3_checkTry_7 rfl (ch_imul _ _ dX3_checkTry_8 (ch_iv yX3_keepSets prog_14_method_58_code 3 none (ci := 3) (q := (RX3, TX3, 109)) (b := m) (d' := 2) (av := [.int (3 * x2)]) (rest := []) rfl dX3_checkTry_9 q2151 q2153 rfl qs166 q2154 can_X3_keepSets (Nat.le_trans (Nat.le_of_ble_eq_true rfl) (Nat.le_add_left 8 d)) (Nat.le_of_ble_eq_true rfl) ch_put_tag (cp_kV (w1 := ch_put m w p1) (fun Q' hq => s_X3_keepSets hp2 hq) ?_))))))))
  refine ch_aload_n 0 (some m) dX3_checkTry_12 rfl (ch_aload_n 0 (some m) dX3_checkTry_13 rfl (mp_gA 34 dX3_checkTry_14 fl_X3_70 rfl (ch_iload_n 1 _ dX3_checkTry_17 rfl (mp_iald dX3_checkTry_18 mk_34 h (fun v3 h => ?_)))))
  obtain ⟨p4, hp5, h⟩ := ch_bd h
  refine ch_iload_n 2 _ dX3_checkTry_19 rfl (ch_iconst _ 1 dX3_checkTry_20 rfl (ch_iadd _ _ dX3_checkTry_21 (ch_iv yX3_checkBlock prog_14_method_57_code 5 none (ci := 3) (q := (RX3, TX3, 109)) (b := m) (d' := (d + 7)) (av := [.int v3, .int (x2 + 1)]) (rest := []) rfl dX3_checkTry_22 q2084 q2086 rfl qs150 q2087 can_X3_checkBlock (Nat.le_refl _) (Nat.le_of_ble_eq_true rfl) ch_put_tag (cp_kV (w1 := ch_put m w p4) (fun Q' hq => hr0 hp5 hq) ?_))))
  refine ch_aload_n 0 (some m) dX3_checkTry_25 rfl (mp_gI 58 dX3_checkTry_26 fl_X3_409 rfl (cp_if_lt _ (tgt := 33) dX3_checkTry_29 rfl h (fun h => ?_) (fun h => ?_)))
  · refine ch_aload_n 0 (some m) dX3_checkTry_33 rfl (mp_gI 66 dX3_checkTry_34 fl_X3_476 rfl (ch_istore 4 _ (ls1 := [some (va_rf (some m)), some (.int x1), some (.int x2), some (.int (σ.1 fX3_dead)), some (.int (p4.1 fX3_dead)), none]) dX3_checkTry_37 (Nat.le_of_ble_eq_true rfl) rfl (ch_aload_n 0 (some m) dX3_checkTry_39 rfl (ch_iconst _ 3 dX3_checkTry_40 rfl (ch_iload_n 2 _ dX3_checkTry_41 rfl (ch_imul _ _ dX3_checkTry_42 (ch_iconst _ 1 dX3_checkTry_43 rfl (?_))))))))
    obtain ⟨p6, hp7, h⟩ := ch_bd h
    refine ch_iadd _ _ dX3_checkTry_44 (ch_iv yX3_keepSets prog_14_method_58_code 3 none (ci := 3) (q := (RX3, TX3, 109)) (b := m) (d' := 2) (av := [.int ((3 * x2) + 1)]) (rest := []) rfl dX3_checkTry_45 q2151 q2153 rfl qs166 q2154 can_X3_keepSets (Nat.le_trans (Nat.le_of_ble_eq_true rfl) (Nat.le_add_left 8 d)) (Nat.le_of_ble_eq_true rfl) ch_put_tag (cp_kV (w1 := ch_put m w p6) (fun Q' hq => s_X3_keepSets hp7 hq) ?_))
    refine ch_aload_n 0 (some m) dX3_checkTry_48 rfl (ch_iload_n 3 _ dX3_checkTry_49 rfl (mp_pZ (k := 66) dX3_checkTry_50 fl_X3_476 rfl rfl rfl h (fun σ8 h => ?_)))
    obtain ⟨p9, hp10, h⟩ := ch_bd h
    refine ch_aload_n 0 (some m) dX3_checkTry_53 rfl (ch_iconst _ 3 dX3_checkTry_54 rfl (ch_iload_n 2 _ dX3_checkTry_55 rfl (ch_imul _ _ dX3_checkTry_56 (ch_iv yX3_backSets prog_14_method_59_code 3 none (ci := 3) (q := (RX3, TX3, 109)) (b := m) (d' := 2) (av := [.int (3 * x2)]) (rest := []) rfl dX3_checkTry_57 q2155 q2157 rfl qs167 q2158 can_X3_backSets (Nat.le_trans (Nat.le_of_ble_eq_true rfl) (Nat.le_add_left 8 d)) (Nat.le_of_ble_eq_true rfl) ch_put_tag (cp_kV (w1 := ch_put m w p9) (fun Q' hq => s_X3_backSets hp10 hq) ?_)))))
    refine ch_aload_n 0 (some m) dX3_checkTry_60 rfl (ch_aload_n 0 (some m) dX3_checkTry_61 rfl (mp_gA 31 dX3_checkTry_62 fl_X3_61 rfl (ch_iload_n 1 _ dX3_checkTry_65 rfl (mp_iald dX3_checkTry_66 mk_31 h (fun v11 h => ?_)))))
    obtain ⟨v12, hp13, h⟩ := ch_bd h
    refine ch_iv yX3_meant prog_14_method_44_code 3 (some .int) (ci := 3) (q := (RX3, TX3, 109)) (b := m) (d' := 3) (av := [.int v11]) (rest := []) rfl dX3_checkTry_67 q2056 q2058 rfl qs143 q2059 can_X3_meant (Nat.le_trans (Nat.le_of_ble_eq_true rfl) (Nat.le_add_left 8 d)) (Nat.le_of_ble_eq_true rfl) ch_put_tag (cp_kI (v := v12) (w1 := ch_put m w p9) (fun Q' hq => s_X3_meant hp13 hq) ?_)
    refine ch_istore 5 _ (ls1 := [some (va_rf (some m)), some (.int x1), some (.int x2), some (.int (σ.1 fX3_dead)), some (.int (p4.1 fX3_dead)), some (.int v12)]) dX3_checkTry_70 (Nat.le_of_ble_eq_true rfl) rfl (ch_iload 5 _ dX3_checkTry_72 rfl (ch_iconst _ 5 dX3_checkTry_74 rfl (cp_icmp_eq _ _ (tgt := 91) dX3_checkTry_75 rfl h (fun h => ?_) (fun h => ?_))))
    · exact ch_FT.wk (ch_wS (ch_wS (ch_wN (ch_wN (ch_wN (ch_wN ch_w0)))))) (s_X3_checkTry_91 hr0 h hk)
    · refine ch_aload_n 0 (some m) dX3_checkTry_78 rfl (ch_aload_n 0 (some m) dX3_checkTry_79 rfl (mp_gA 32 dX3_checkTry_80 fl_X3_64 rfl (ch_iload_n 1 _ dX3_checkTry_83 rfl (mp_iald dX3_checkTry_84 mk_32 h (fun v14 h => ?_)))))
      obtain ⟨v15, hp16, h⟩ := ch_bd h
      refine ch_iv yX3_variableOf prog_14_method_54_code 3 (some .int) (ci := 3) (q := (RX3, TX3, 109)) (b := m) (d' := 2) (av := [.int v14]) (rest := []) rfl dX3_checkTry_85 q2104 q2106 rfl qs155 q2107 can_X3_variableOf (Nat.le_trans (Nat.le_of_ble_eq_true rfl) (Nat.le_add_left 8 d)) (Nat.le_of_ble_eq_true rfl) ch_put_tag (cp_kI (v := v15) (w1 := ch_put m w p9) (fun Q' hq => s_X3_variableOf hp16 hq) ?_)
      refine cp_if_lt _ (tgt := 102) dX3_checkTry_88 rfl h (fun h => ?_) (fun h => ?_)
      · refine ch_aload_n 0 (some m) dX3_checkTry_102 rfl (mp_gA 31 dX3_checkTry_103 fl_X3_61 rfl (ch_iload_n 1 _ dX3_checkTry_106 rfl (ch_iload 5 _ dX3_checkTry_107 rfl (mp_iast dX3_checkTry_109 mk_31 rfl h (fun σ17 h => ?_)))))
        refine ch_aload_n 0 (some m) dX3_checkTry_110 rfl (mp_gA 33 dX3_checkTry_111 fl_X3_67 rfl (ch_iload_n 1 _ dX3_checkTry_114 rfl (ch_aload_n 0 (some m) dX3_checkTry_115 rfl (mp_gI 62 dX3_checkTry_116 fl_X3_467 rfl (mp_iast dX3_checkTry_119 mk_33 rfl h (fun σ18 h => ?_))))))
        refine ch_aload_n 0 (some m) dX3_checkTry_120 rfl (ch_aload_n 0 (some m) dX3_checkTry_121 rfl (mp_gA 32 dX3_checkTry_122 fl_X3_64 rfl (ch_iload_n 1 _ dX3_checkTry_125 rfl (mp_iald dX3_checkTry_126 mk_32 h (fun v19 h => ?_)))))
        obtain ⟨p20, hp21, h⟩ := ch_bd h
        refine ch_iload 5 _ dX3_checkTry_127 rfl (ch_iconst _ 1 dX3_checkTry_129 rfl (ch_iv yX3_addVariable prog_14_method_55_code 4 none (ci := 3) (q := (RX3, TX3, 109)) (b := m) (d' := 2) (av := [.int v19, .int v12, .int 1]) (rest := []) rfl dX3_checkTry_130 q2080 q2082 rfl qs149 q2083 can_X3_addVariable (Nat.le_trans (Nat.le_of_ble_eq_true rfl) (Nat.le_add_left 8 d)) (Nat.le_of_ble_eq_true rfl) ch_put_tag (cp_kV (w1 := ch_put m w p20) (fun Q' hq => s_X3_addVariable hp21 hq) ?_)))
        refine ch_aload_n 0 (some m) dX3_checkTry_133 rfl (ch_aload_n 0 (some m) dX3_checkTry_134 rfl (mp_gA 35 dX3_checkTry_135 fl_X3_73 rfl (ch_iload_n 1 _ dX3_checkTry_138 rfl (mp_iald dX3_checkTry_139 mk_35 h (fun v22 h => ?_)))))
        obtain ⟨p23, hp24, h⟩ := ch_bd h
        refine ch_iload_n 2 _ dX3_checkTry_140 rfl (ch_iconst _ 1 dX3_checkTry_141 rfl (ch_iadd _ _ dX3_checkTry_142 (ch_iv yX3_checkBlock prog_14_method_57_code 5 none (ci := 3) (q := (RX3, TX3, 109)) (b := m) (d' := (d + 7)) (av := [.int v22, .int (x2 + 1)]) (rest := []) rfl dX3_checkTry_143 q2084 q2086 rfl qs150 q2087 can_X3_checkBlock (Nat.le_refl _) (Nat.le_of_ble_eq_true rfl) ch_put_tag (cp_kV (w1 := ch_put m w p23) (fun Q' hq => hr0 hp24 hq) ?_))))
        refine ch_aload_n 0 (some m) dX3_checkTry_146 rfl (ch_dup dX3_checkTry_147 (ch_cat _) (mp_gI 62 dX3_checkTry_148 fl_X3_467 rfl (ch_iconst _ 1 dX3_checkTry_151 rfl (ch_isub _ _ dX3_checkTry_152 (mp_pI (k := 62) dX3_checkTry_153 fl_X3_467 rfl rfl rfl h (fun σ25 h => ?_))))))
        obtain ⟨p26, hp27, h⟩ := ch_bd h
        refine ch_aload_n 0 (some m) dX3_checkTry_156 rfl (ch_iconst _ 3 dX3_checkTry_157 rfl (ch_iload_n 2 _ dX3_checkTry_158 rfl (ch_imul _ _ dX3_checkTry_159 (ch_iconst _ 1 dX3_checkTry_160 rfl (ch_iadd _ _ dX3_checkTry_161 (ch_iload 4 _ dX3_checkTry_162 rfl (ch_iv yX3_joinSets prog_14_method_60_code 4 none (ci := 3) (q := (RX3, TX3, 109)) (b := m) (d' := 2) (av := [.int ((3 * x2) + 1), .int (p4.1 fX3_dead)]) (rest := []) rfl dX3_checkTry_164 q2159 q2161 rfl qs168 q2162 can_X3_joinSets (Nat.le_trans (Nat.le_of_ble_eq_true rfl) (Nat.le_add_left 8 d)) (Nat.le_of_ble_eq_true rfl) ch_put_tag (cp_kV (w1 := ch_put m w p26) (fun Q' hq => s_X3_joinSets hp27 hq) ?_))))))))
        obtain rfl := Option.some.inj h
        exact ch_return dX3_checkTry_167 rfl hk
      · exact ch_FT.wk (ch_wS (ch_wS (ch_wN (ch_wN (ch_wN (ch_wN ch_w0)))))) (s_X3_checkTry_91 hr0 h hk)
  · obtain rfl := Option.some.inj h
    exact ch_return dX3_checkTry_32 rfl hk

def cr_MC : Nat → Nat → Int32 → Int32 → ch_S → Option (ch_S)
  | 0 => fun _ _ _ _ => none
  | d + 1 => fun k z0 z1 σ => if k = 0 then m_X3_checkBlock (cr_MC d) z0 z1 σ else if k = 1 then m_X3_checkOne (cr_MC d) z0 z1 σ else if k = 2 then m_X3_checkIf (cr_MC d) z0 z1 σ else if k = 3 then m_X3_checkWhile (cr_MC d) z0 z1 σ else m_X3_checkTry (cr_MC d) z0 z1 σ
theorem sr_MC {g : State} {m : Nat} {w : ch_W} : ∀ d : Nat, (∀ {z0 : Int32} {z1 : Int32} {σ : ch_S} {p : ch_S} {Q : Outcome → ch_W → Prop}, cr_MC d 0 z0 z1 σ = some p → ch_eV Q (ch_put m w p) → ch_CT g false yX3_checkBlock (d + 7) [.ref m, .int z0, .int z1] (ch_put m w σ) Q) ∧ (∀ {z0 : Int32} {z1 : Int32} {σ : ch_S} {p : ch_S} {Q : Outcome → ch_W → Prop}, cr_MC d 1 z0 z1 σ = some p → ch_eV Q (ch_put m w p) → ch_CT g false yX3_checkOne (d + 7) [.ref m, .int z0, .int z1] (ch_put m w σ) Q) ∧ (∀ {z0 : Int32} {z1 : Int32} {σ : ch_S} {p : ch_S} {Q : Outcome → ch_W → Prop}, cr_MC d 2 z0 z1 σ = some p → ch_eV Q (ch_put m w p) → ch_CT g false yX3_checkIf (d + 7) [.ref m, .int z0, .int z1] (ch_put m w σ) Q) ∧ (∀ {z0 : Int32} {z1 : Int32} {σ : ch_S} {p : ch_S} {Q : Outcome → ch_W → Prop}, cr_MC d 3 z0 z1 σ = some p → ch_eV Q (ch_put m w p) → ch_CT g false yX3_checkWhile (d + 7) [.ref m, .int z0, .int z1] (ch_put m w σ) Q) ∧ (∀ {z0 : Int32} {z1 : Int32} {σ : ch_S} {p : ch_S} {Q : Outcome → ch_W → Prop}, cr_MC d 4 z0 z1 σ = some p → ch_eV Q (ch_put m w p) → ch_CT g false yX3_checkTry (d + 7) [.ref m, .int z0, .int z1] (ch_put m w σ) Q) := by
  intro d
  induction d with
  | zero => exact ⟨fun h _ => (by cases h), fun h _ => (by cases h), fun h _ => (by cases h), fun h _ => (by cases h), fun h _ => (by cases h)⟩
  | succ d ih =>
    exact ⟨fun {z0 z1 σ p Q} h hk => s_X3_checkBlock ih.2.1 h hk,
      fun {z0 z1 σ p Q} h hk => s_X3_checkOne ih.2.2.1 ih.2.2.2.1 ih.2.2.2.2 h hk,
      fun {z0 z1 σ p Q} h hk => s_X3_checkIf ih.1 h hk,
      fun {z0 z1 σ p Q} h hk => s_X3_checkWhile ih.1 h hk,
      fun {z0 z1 σ p Q} h hk => s_X3_checkTry ih.1 h hk⟩
theorem sr_X3_checkBlock {g : State} {m : Nat} {w : ch_W} {z0 : Int32} {z1 : Int32} {σ : ch_S} {p : ch_S} {Q : Outcome → ch_W → Prop} (h : cr_MC 100 0 z0 z1 σ = some p) (hk : ch_eV Q (ch_put m w p)) : ch_CT g false yX3_checkBlock 107 [.ref m, .int z0, .int z1] (ch_put m w σ) Q := (sr_MC 100).1 h hk
theorem sr_X3_checkOne {g : State} {m : Nat} {w : ch_W} {z0 : Int32} {z1 : Int32} {σ : ch_S} {p : ch_S} {Q : Outcome → ch_W → Prop} (h : cr_MC 100 1 z0 z1 σ = some p) (hk : ch_eV Q (ch_put m w p)) : ch_CT g false yX3_checkOne 107 [.ref m, .int z0, .int z1] (ch_put m w σ) Q := (sr_MC 100).2.1 h hk
theorem sr_X3_checkIf {g : State} {m : Nat} {w : ch_W} {z0 : Int32} {z1 : Int32} {σ : ch_S} {p : ch_S} {Q : Outcome → ch_W → Prop} (h : cr_MC 100 2 z0 z1 σ = some p) (hk : ch_eV Q (ch_put m w p)) : ch_CT g false yX3_checkIf 107 [.ref m, .int z0, .int z1] (ch_put m w σ) Q := (sr_MC 100).2.2.1 h hk
theorem sr_X3_checkWhile {g : State} {m : Nat} {w : ch_W} {z0 : Int32} {z1 : Int32} {σ : ch_S} {p : ch_S} {Q : Outcome → ch_W → Prop} (h : cr_MC 100 3 z0 z1 σ = some p) (hk : ch_eV Q (ch_put m w p)) : ch_CT g false yX3_checkWhile 107 [.ref m, .int z0, .int z1] (ch_put m w σ) Q := (sr_MC 100).2.2.2.1 h hk
theorem sr_X3_checkTry {g : State} {m : Nat} {w : ch_W} {z0 : Int32} {z1 : Int32} {σ : ch_S} {p : ch_S} {Q : Outcome → ch_W → Prop} (h : cr_MC 100 4 z0 z1 σ = some p) (hk : ch_eV Q (ch_put m w p)) : ch_CT g false yX3_checkTry 107 [.ref m, .int z0, .int z1] (ch_put m w σ) Q := (sr_MC 100).2.2.2.2 h hk

theorem bX3_checkMethod_0 : ch_ck cX3_checkMethod 0 [42, 27, 181, 1, 214, 42, 28, 181, 1, 217, 42, 3, 181, 1, 211, 42] := ch_ckof (by decide +kernel)
theorem bX3_checkMethod_1 : ch_ck cX3_checkMethod 16 [3, 181, 1, 220, 42, 180, 0, 110, 28, 46, 62, 29, 42, 180, 0, 110] := ch_ckof (by decide +kernel)
theorem bX3_checkMethod_2 : ch_ck cX3_checkMethod 32 [28, 4, 96, 46, 162, 0, 26, 42, 42, 180, 0, 125, 29, 46, 42, 180] := ch_ckof (by decide +kernel)
theorem bX3_checkMethod_3 : ch_ck cX3_checkMethod 48 [0, 122, 29, 46, 4, 182, 1, 223, 132, 3, 1, 167, 255, 224, 42, 42] := ch_ckof (by decide +kernel)
theorem bX3_checkMethod_4 : ch_ck cX3_checkMethod 64 [180, 0, 113, 28, 46, 3, 182, 1, 227, 42, 180, 1, 153, 156, 0, 30] := ch_ckof (by decide +kernel)
theorem bX3_checkMethod_5 : ch_ck cX3_checkMethod 80 [42, 180, 0, 103, 28, 46, 6, 159, 0, 20, 42, 180, 1, 220, 154, 0] := ch_ckof (by decide +kernel)
theorem bX3_checkMethod_6 : ch_ck cX3_checkMethod 96 [13, 42, 42, 180, 0, 116, 28, 46, 182, 1, 163, 177] := ch_ckof (by decide +kernel)
theorem dX3_checkMethod_0 : decode cX3_checkMethod 0 = .ok (.aload_n 0, 1) := dz_42 (bX3_checkMethod_0 0 _ rfl)
theorem dX3_checkMethod_1 : decode cX3_checkMethod 1 = .ok (.iload_n 1, 1) := dz_27 (bX3_checkMethod_0 1 _ rfl)
theorem dX3_checkMethod_2 : decode cX3_checkMethod 2 = .ok (.putfield 470, 3) := dz_181 (bX3_checkMethod_0 2 _ rfl) (bX3_checkMethod_0 3 _ rfl) (bX3_checkMethod_0 4 _ rfl)
theorem dX3_checkMethod_5 : decode cX3_checkMethod 5 = .ok (.aload_n 0, 1) := dz_42 (bX3_checkMethod_0 5 _ rfl)
theorem dX3_checkMethod_6 : decode cX3_checkMethod 6 = .ok (.iload_n 2, 1) := dz_28 (bX3_checkMethod_0 6 _ rfl)
theorem dX3_checkMethod_7 : decode cX3_checkMethod 7 = .ok (.putfield 473, 3) := dz_181 (bX3_checkMethod_0 7 _ rfl) (bX3_checkMethod_0 8 _ rfl) (bX3_checkMethod_0 9 _ rfl)
theorem dX3_checkMethod_10 : decode cX3_checkMethod 10 = .ok (.aload_n 0, 1) := dz_42 (bX3_checkMethod_0 10 _ rfl)
theorem dX3_checkMethod_11 : decode cX3_checkMethod 11 = .ok (.iconst 0, 1) := dz_3 (bX3_checkMethod_0 11 _ rfl)
theorem dX3_checkMethod_12 : decode cX3_checkMethod 12 = .ok (.putfield 467, 3) := dz_181 (bX3_checkMethod_0 12 _ rfl) (bX3_checkMethod_0 13 _ rfl) (bX3_checkMethod_0 14 _ rfl)
theorem dX3_checkMethod_15 : decode cX3_checkMethod 15 = .ok (.aload_n 0, 1) := dz_42 (bX3_checkMethod_0 15 _ rfl)
theorem dX3_checkMethod_16 : decode cX3_checkMethod 16 = .ok (.iconst 0, 1) := dz_3 (bX3_checkMethod_1 0 _ rfl)
theorem dX3_checkMethod_17 : decode cX3_checkMethod 17 = .ok (.putfield 476, 3) := dz_181 (bX3_checkMethod_1 1 _ rfl) (bX3_checkMethod_1 2 _ rfl) (bX3_checkMethod_1 3 _ rfl)
theorem dX3_checkMethod_20 : decode cX3_checkMethod 20 = .ok (.aload_n 0, 1) := dz_42 (bX3_checkMethod_1 4 _ rfl)
theorem dX3_checkMethod_21 : decode cX3_checkMethod 21 = .ok (.getfield 110, 3) := dz_180 (bX3_checkMethod_1 5 _ rfl) (bX3_checkMethod_1 6 _ rfl) (bX3_checkMethod_1 7 _ rfl)
theorem dX3_checkMethod_24 : decode cX3_checkMethod 24 = .ok (.iload_n 2, 1) := dz_28 (bX3_checkMethod_1 8 _ rfl)
theorem dX3_checkMethod_25 : decode cX3_checkMethod 25 = .ok (.iaload, 1) := dz_46 (bX3_checkMethod_1 9 _ rfl)
theorem dX3_checkMethod_26 : decode cX3_checkMethod 26 = .ok (.istore_n 3, 1) := dz_62 (bX3_checkMethod_1 10 _ rfl)
theorem dX3_checkMethod_27 : decode cX3_checkMethod 27 = .ok (.iload_n 3, 1) := dz_29 (bX3_checkMethod_1 11 _ rfl)
theorem dX3_checkMethod_28 : decode cX3_checkMethod 28 = .ok (.aload_n 0, 1) := dz_42 (bX3_checkMethod_1 12 _ rfl)
theorem dX3_checkMethod_29 : decode cX3_checkMethod 29 = .ok (.getfield 110, 3) := dz_180 (bX3_checkMethod_1 13 _ rfl) (bX3_checkMethod_1 14 _ rfl) (bX3_checkMethod_1 15 _ rfl)
theorem dX3_checkMethod_32 : decode cX3_checkMethod 32 = .ok (.iload_n 2, 1) := dz_28 (bX3_checkMethod_2 0 _ rfl)
theorem dX3_checkMethod_33 : decode cX3_checkMethod 33 = .ok (.iconst 1, 1) := dz_4 (bX3_checkMethod_2 1 _ rfl)
theorem dX3_checkMethod_34 : decode cX3_checkMethod 34 = .ok (.iadd, 1) := dz_96 (bX3_checkMethod_2 2 _ rfl)
theorem dX3_checkMethod_35 : decode cX3_checkMethod 35 = .ok (.iaload, 1) := dz_46 (bX3_checkMethod_2 3 _ rfl)
theorem dX3_checkMethod_36 : decode cX3_checkMethod 36 = .ok (.if_icmp .ge 26, 3) := dz_162 (bX3_checkMethod_2 4 _ rfl) (bX3_checkMethod_2 5 _ rfl) (bX3_checkMethod_2 6 _ rfl)
theorem dX3_checkMethod_39 : decode cX3_checkMethod 39 = .ok (.aload_n 0, 1) := dz_42 (bX3_checkMethod_2 7 _ rfl)
theorem dX3_checkMethod_40 : decode cX3_checkMethod 40 = .ok (.aload_n 0, 1) := dz_42 (bX3_checkMethod_2 8 _ rfl)
theorem dX3_checkMethod_41 : decode cX3_checkMethod 41 = .ok (.getfield 125, 3) := dz_180 (bX3_checkMethod_2 9 _ rfl) (bX3_checkMethod_2 10 _ rfl) (bX3_checkMethod_2 11 _ rfl)
theorem dX3_checkMethod_44 : decode cX3_checkMethod 44 = .ok (.iload_n 3, 1) := dz_29 (bX3_checkMethod_2 12 _ rfl)
theorem dX3_checkMethod_45 : decode cX3_checkMethod 45 = .ok (.iaload, 1) := dz_46 (bX3_checkMethod_2 13 _ rfl)
theorem dX3_checkMethod_46 : decode cX3_checkMethod 46 = .ok (.aload_n 0, 1) := dz_42 (bX3_checkMethod_2 14 _ rfl)
theorem dX3_checkMethod_47 : decode cX3_checkMethod 47 = .ok (.getfield 122, 3) := dz_180 (bX3_checkMethod_2 15 _ rfl) (bX3_checkMethod_3 0 _ rfl) (bX3_checkMethod_3 1 _ rfl)
theorem dX3_checkMethod_50 : decode cX3_checkMethod 50 = .ok (.iload_n 3, 1) := dz_29 (bX3_checkMethod_3 2 _ rfl)
theorem dX3_checkMethod_51 : decode cX3_checkMethod 51 = .ok (.iaload, 1) := dz_46 (bX3_checkMethod_3 3 _ rfl)
theorem dX3_checkMethod_52 : decode cX3_checkMethod 52 = .ok (.iconst 1, 1) := dz_4 (bX3_checkMethod_3 4 _ rfl)
theorem dX3_checkMethod_53 : decode cX3_checkMethod 53 = .ok (.invokevirtual 479, 3) := dz_182 (bX3_checkMethod_3 5 _ rfl) (bX3_checkMethod_3 6 _ rfl) (bX3_checkMethod_3 7 _ rfl)
theorem dX3_checkMethod_56 : decode cX3_checkMethod 56 = .ok (.iinc 3 1, 3) := dz_132 (bX3_checkMethod_3 8 _ rfl) (bX3_checkMethod_3 9 _ rfl) (bX3_checkMethod_3 10 _ rfl)
theorem dX3_checkMethod_59 : decode cX3_checkMethod 59 = .ok (.goto (-32), 3) := dz_167 (bX3_checkMethod_3 11 _ rfl) (bX3_checkMethod_3 12 _ rfl) (bX3_checkMethod_3 13 _ rfl)
theorem dX3_checkMethod_62 : decode cX3_checkMethod 62 = .ok (.aload_n 0, 1) := dz_42 (bX3_checkMethod_3 14 _ rfl)
theorem dX3_checkMethod_63 : decode cX3_checkMethod 63 = .ok (.aload_n 0, 1) := dz_42 (bX3_checkMethod_3 15 _ rfl)
theorem dX3_checkMethod_64 : decode cX3_checkMethod 64 = .ok (.getfield 113, 3) := dz_180 (bX3_checkMethod_4 0 _ rfl) (bX3_checkMethod_4 1 _ rfl) (bX3_checkMethod_4 2 _ rfl)
theorem dX3_checkMethod_67 : decode cX3_checkMethod 67 = .ok (.iload_n 2, 1) := dz_28 (bX3_checkMethod_4 3 _ rfl)
theorem dX3_checkMethod_68 : decode cX3_checkMethod 68 = .ok (.iaload, 1) := dz_46 (bX3_checkMethod_4 4 _ rfl)
theorem dX3_checkMethod_69 : decode cX3_checkMethod 69 = .ok (.iconst 0, 1) := dz_3 (bX3_checkMethod_4 5 _ rfl)
theorem dX3_checkMethod_70 : decode cX3_checkMethod 70 = .ok (.invokevirtual 483, 3) := dz_182 (bX3_checkMethod_4 6 _ rfl) (bX3_checkMethod_4 7 _ rfl) (bX3_checkMethod_4 8 _ rfl)
theorem dX3_checkMethod_73 : decode cX3_checkMethod 73 = .ok (.aload_n 0, 1) := dz_42 (bX3_checkMethod_4 9 _ rfl)
theorem dX3_checkMethod_74 : decode cX3_checkMethod 74 = .ok (.getfield 409, 3) := dz_180 (bX3_checkMethod_4 10 _ rfl) (bX3_checkMethod_4 11 _ rfl) (bX3_checkMethod_4 12 _ rfl)
theorem dX3_checkMethod_77 : decode cX3_checkMethod 77 = .ok (.ifCond .ge 30, 3) := dz_156 (bX3_checkMethod_4 13 _ rfl) (bX3_checkMethod_4 14 _ rfl) (bX3_checkMethod_4 15 _ rfl)
theorem dX3_checkMethod_80 : decode cX3_checkMethod 80 = .ok (.aload_n 0, 1) := dz_42 (bX3_checkMethod_5 0 _ rfl)
theorem dX3_checkMethod_81 : decode cX3_checkMethod 81 = .ok (.getfield 103, 3) := dz_180 (bX3_checkMethod_5 1 _ rfl) (bX3_checkMethod_5 2 _ rfl) (bX3_checkMethod_5 3 _ rfl)
theorem dX3_checkMethod_84 : decode cX3_checkMethod 84 = .ok (.iload_n 2, 1) := dz_28 (bX3_checkMethod_5 4 _ rfl)
theorem dX3_checkMethod_85 : decode cX3_checkMethod 85 = .ok (.iaload, 1) := dz_46 (bX3_checkMethod_5 5 _ rfl)
theorem dX3_checkMethod_86 : decode cX3_checkMethod 86 = .ok (.iconst 3, 1) := dz_6 (bX3_checkMethod_5 6 _ rfl)
theorem dX3_checkMethod_87 : decode cX3_checkMethod 87 = .ok (.if_icmp .eq 20, 3) := dz_159 (bX3_checkMethod_5 7 _ rfl) (bX3_checkMethod_5 8 _ rfl) (bX3_checkMethod_5 9 _ rfl)
theorem dX3_checkMethod_90 : decode cX3_checkMethod 90 = .ok (.aload_n 0, 1) := dz_42 (bX3_checkMethod_5 10 _ rfl)
theorem dX3_checkMethod_91 : decode cX3_checkMethod 91 = .ok (.getfield 476, 3) := dz_180 (bX3_checkMethod_5 11 _ rfl) (bX3_checkMethod_5 12 _ rfl) (bX3_checkMethod_5 13 _ rfl)
theorem dX3_checkMethod_94 : decode cX3_checkMethod 94 = .ok (.ifCond .ne 13, 3) := dz_154 (bX3_checkMethod_5 14 _ rfl) (bX3_checkMethod_5 15 _ rfl) (bX3_checkMethod_6 0 _ rfl)
theorem dX3_checkMethod_97 : decode cX3_checkMethod 97 = .ok (.aload_n 0, 1) := dz_42 (bX3_checkMethod_6 1 _ rfl)
theorem dX3_checkMethod_98 : decode cX3_checkMethod 98 = .ok (.aload_n 0, 1) := dz_42 (bX3_checkMethod_6 2 _ rfl)
theorem dX3_checkMethod_99 : decode cX3_checkMethod 99 = .ok (.getfield 116, 3) := dz_180 (bX3_checkMethod_6 3 _ rfl) (bX3_checkMethod_6 4 _ rfl) (bX3_checkMethod_6 5 _ rfl)
theorem dX3_checkMethod_102 : decode cX3_checkMethod 102 = .ok (.iload_n 2, 1) := dz_28 (bX3_checkMethod_6 6 _ rfl)
theorem dX3_checkMethod_103 : decode cX3_checkMethod 103 = .ok (.iaload, 1) := dz_46 (bX3_checkMethod_6 7 _ rfl)
theorem dX3_checkMethod_104 : decode cX3_checkMethod 104 = .ok (.invokevirtual 419, 3) := dz_182 (bX3_checkMethod_6 8 _ rfl) (bX3_checkMethod_6 9 _ rfl) (bX3_checkMethod_6 10 _ rfl)
theorem dX3_checkMethod_107 : decode cX3_checkMethod 107 = .ok (.return_, 1) := dz_177 (bX3_checkMethod_6 11 _ rfl)
def m_X3_checkMethod_27 (x2 : Int32) (x3 : Int32)  (σ : ch_S) : Option ((Int32 × ch_S) ⊕ (ch_S)) := (ch_ma σ fX3_parameterFrom (x2 + 1)).bind fun v1 => if x3 < v1 then ((ch_ma σ fX3_parameterId x3).bind fun v9 => (ch_ma σ fX3_parameterType x3).bind fun v10 => (m_X3_addVariable v9 v10 1 σ).bind fun p11 => some (.inl (x3 + 1, p11))) else ((ch_ma σ fX3_body x2).bind fun v2 => (cr_MC 100 0 v2 0 σ).bind fun p3 => if (p3.1 fX3_bad) < 0 then ((ch_ma p3 fX3_memberType x2).bind fun v5 => if v5 = 3 then (some (.inr (p3))) else (if (p3.1 fX3_dead) = 0 then ((ch_ma p3 fX3_closeAt x2).bind fun v6 => (m_X3_isBad v6 p3).bind fun p7 => some (.inr (p7))) else (some (.inr (p3))))) else (some (.inr (p3))))
theorem s_X3_checkMethod_27 {g : State} {m : Nat} {w : ch_W} {x2 : Int32} {x3 : Int32} {σ : ch_S} {res : (Int32 × ch_S) ⊕ (ch_S)} {Q : Outcome → ch_W → Prop} (h : m_X3_checkMethod_27 x2 x3 σ = some res) (hk : (ch_sm (fun s => ch_FT g false mX3_checkMethod 108 27 [some (va_rf (some m)), none, some (.int x2), some (.int s.1)] [] (ch_put m w s.2) Q) (fun r => ch_eV Q (ch_put m w r))) res) : ch_FT g false mX3_checkMethod 108 27 [some (va_rf (some m)), none, some (.int x2), some (.int x3)] [] (ch_put m w σ) Q := by
  unfold m_X3_checkMethod_27 at h
  refine ch_iload_n 3 _ dX3_checkMethod_27 rfl (ch_aload_n 0 (some m) dX3_checkMethod_28 rfl (mp_gA 49 dX3_checkMethod_29 fl_X3_110 rfl (ch_iload_n 2 _ dX3_checkMethod_32 rfl (ch_iconst _ 1 dX3_checkMethod_33 rfl (ch_iadd _ _ dX3_checkMethod_34 (mp_iald dX3_checkMethod_35 mk_49 h (fun v1 h => ?_)))))))
  refine cp_icmp_ge _ _ (tgt := 62) dX3_checkMethod_36 rfl h (fun h => ?_) (fun h => ?_)
  · refine ch_aload_n 0 (some m) dX3_checkMethod_62 rfl (ch_aload_n 0 (some m) dX3_checkMethod_63 rfl (mp_gA 50 dX3_checkMethod_64 fl_X3_113 rfl (ch_iload_n 2 _ dX3_checkMethod_67 rfl (mp_iald dX3_checkMethod_68 mk_50 h (fun v2 h => ?_)))))
    obtain ⟨p3, hp4, h⟩ := ch_bd h
    refine ch_iconst _ 0 dX3_checkMethod_69 rfl (ch_iv yX3_checkBlock prog_14_method_57_code 5 none (ci := 3) (q := (RX3, TX3, 109)) (b := m) (d' := 107) (av := [.int v2, .int 0]) (rest := []) rfl dX3_checkMethod_70 q2084 q2086 rfl qs150 q2087 can_X3_checkBlock (Nat.le_of_ble_eq_true rfl) (Nat.le_of_ble_eq_true rfl) ch_put_tag (cp_kV (w1 := ch_put m w p3) (fun Q' hq => sr_X3_checkBlock hp4 hq) ?_))
    refine ch_aload_n 0 (some m) dX3_checkMethod_73 rfl (mp_gI 58 dX3_checkMethod_74 fl_X3_409 rfl (cp_if_ge _ (tgt := 107) dX3_checkMethod_77 rfl h (fun h => ?_) (fun h => ?_)))
    · obtain rfl := Option.some.inj h
      exact ch_return dX3_checkMethod_107 rfl hk
    · refine ch_aload_n 0 (some m) dX3_checkMethod_80 rfl (mp_gA 47 dX3_checkMethod_81 fl_X3_103 rfl (ch_iload_n 2 _ dX3_checkMethod_84 rfl (mp_iald dX3_checkMethod_85 mk_47 h (fun v5 h => ?_))))
      refine ch_iconst _ 3 dX3_checkMethod_86 rfl (cp_icmp_eq _ _ (tgt := 107) dX3_checkMethod_87 rfl h (fun h => ?_) (fun h => ?_))
      · obtain rfl := Option.some.inj h
        exact ch_return dX3_checkMethod_107 rfl hk
      · refine ch_aload_n 0 (some m) dX3_checkMethod_90 rfl (mp_gI 66 dX3_checkMethod_91 fl_X3_476 rfl (cp_if_ne _ (tgt := 107) dX3_checkMethod_94 rfl h (fun h => ?_) (fun h => ?_)))
        · obtain rfl := Option.some.inj h
          exact ch_return dX3_checkMethod_107 rfl hk
        · refine ch_aload_n 0 (some m) dX3_checkMethod_97 rfl (ch_aload_n 0 (some m) dX3_checkMethod_98 rfl (mp_gA 51 dX3_checkMethod_99 fl_X3_116 rfl (ch_iload_n 2 _ dX3_checkMethod_102 rfl (mp_iald dX3_checkMethod_103 mk_51 h (fun v6 h => ?_)))))
          obtain ⟨p7, hp8, h⟩ := ch_bd h
          refine ch_iv yX3_isBad prog_14_method_42_code 2 none (ci := 3) (q := (RX3, TX3, 109)) (b := m) (d' := 2) (av := [.int v6]) (rest := []) rfl dX3_checkMethod_104 q2048 q2050 rfl qs141 q2051 can_X3_isBad (Nat.le_of_ble_eq_true rfl) (Nat.le_of_ble_eq_true rfl) ch_put_tag (cp_kV (w1 := ch_put m w p7) (fun Q' hq => s_X3_isBad hp8 hq) ?_)
          obtain rfl := Option.some.inj h
          exact ch_return dX3_checkMethod_107 rfl hk
  · refine ch_aload_n 0 (some m) dX3_checkMethod_39 rfl (ch_aload_n 0 (some m) dX3_checkMethod_40 rfl (mp_gA 55 dX3_checkMethod_41 fl_X3_125 rfl (ch_iload_n 3 _ dX3_checkMethod_44 rfl (mp_iald dX3_checkMethod_45 mk_55 h (fun v9 h => ?_)))))
    refine ch_aload_n 0 (some m) dX3_checkMethod_46 rfl (mp_gA 54 dX3_checkMethod_47 fl_X3_122 rfl (ch_iload_n 3 _ dX3_checkMethod_50 rfl (mp_iald dX3_checkMethod_51 mk_54 h (fun v10 h => ?_))))
    obtain ⟨p11, hp12, h⟩ := ch_bd h
    refine ch_iconst _ 1 dX3_checkMethod_52 rfl (ch_iv yX3_addVariable prog_14_method_55_code 4 none (ci := 3) (q := (RX3, TX3, 109)) (b := m) (d' := 2) (av := [.int v9, .int v10, .int 1]) (rest := []) rfl dX3_checkMethod_53 q2080 q2082 rfl qs149 q2083 can_X3_addVariable (Nat.le_of_ble_eq_true rfl) (Nat.le_of_ble_eq_true rfl) ch_put_tag (cp_kV (w1 := ch_put m w p11) (fun Q' hq => s_X3_addVariable hp12 hq) ?_))
    refine ch_iinc 3 _ _ (x3 + 1) (ls1 := [some (va_rf (some m)), none, some (.int x2), some (.int (x3 + 1))]) dX3_checkMethod_56 rfl rfl (Nat.le_of_ble_eq_true rfl) rfl (ch_goto 27 dX3_checkMethod_59 rfl (ch_FT.wk (ch_wS (ch_wN (ch_wS (ch_wS ch_w0)))) ?_))
    obtain rfl := Option.some.inj h
    exact hk
theorem sl_X3_checkMethod_27 {g : State} {m : Nat} {w : ch_W} {x2 : Int32} {a : Int32 × ch_S} {res : ch_S} {Q : Outcome → ch_W → Prop} (h : ch_loop (fun (s : Int32 × ch_S) => m_X3_checkMethod_27 x2 s.1 s.2) a = some res) (hk : (fun r => ch_eV Q (ch_put m w r)) res) : ch_FT g false mX3_checkMethod 108 27 [some (va_rf (some m)), none, some (.int x2), some (.int a.1)] [] (ch_put m w a.2) Q := by
  refine ch_loop_ind (fun (a : Int32 × ch_S) (r : ch_S) => (fun r => ch_eV Q (ch_put m w r)) r → ch_FT g false mX3_checkMethod 108 27 [some (va_rf (some m)), none, some (.int x2), some (.int a.1)] [] (ch_put m w a.2) Q) ?_ ?_ a res h hk
  · intro a a2 b h1 ih hk
    exact s_X3_checkMethod_27  h1 (ih hk)
  · intro a b h1 hk
    exact s_X3_checkMethod_27  h1 hk

def m_X3_checkMethod (x1 : Int32) (x2 : Int32) (σ : ch_S) : Option (ch_S) := (ch_mI σ fX3_here x1).bind fun σ1 => (ch_mI σ1 fX3_method x2).bind fun σ2 => (ch_mI σ2 fX3_variables 0).bind fun σ3 => (ch_bit 0).bind fun _ => (ch_mI σ3 fX3_dead 0).bind fun σ4 => (ch_ma σ4 fX3_parameterFrom x2).bind fun v5 => ch_loop (fun (s : Int32 × ch_S) => m_X3_checkMethod_27 x2 s.1 s.2) (v5, σ4)
theorem s_X3_checkMethod {g : State} {m : Nat} {w : ch_W} {x1 : Int32} {x2 : Int32} {σ : ch_S} {res : ch_S} {Q : Outcome → ch_W → Prop} (h : m_X3_checkMethod x1 x2 σ = some res) (hk : (fun r => ch_eV Q (ch_put m w r)) res) : ch_CT g false yX3_checkMethod 108 [.ref m, .int x1, .int x2] (ch_put m w σ) Q := by
  unfold m_X3_checkMethod at h
  refine ch_ctL mX3_checkMethod (ls := [some (va_rf (some m)), some (.int x1), some (.int x2), none]) q2079 rfl (ch_lyr (r := some m) (ch_lyi (ch_lyi ch_ly0))) (Nat.le_of_ble_eq_true rfl) rfl ?_
  refine ch_aload_n 0 (some m) dX3_checkMethod_0 rfl (ch_iload_n 1 _ dX3_checkMethod_1 rfl (mp_pI (k := 60) dX3_checkMethod_2 fl_X3_470 rfl rfl rfl h (fun σ1 h => ?_)))
  refine ch_aload_n 0 (some m) dX3_checkMethod_5 rfl (ch_iload_n 2 _ dX3_checkMethod_6 rfl (mp_pI (k := 61) dX3_checkMethod_7 fl_X3_473 rfl rfl rfl h (fun σ2 h => ?_)))
  refine ch_aload_n 0 (some m) dX3_checkMethod_10 rfl (ch_iconst _ 0 dX3_checkMethod_11 rfl (mp_pI (k := 62) dX3_checkMethod_12 fl_X3_467 rfl rfl rfl h (fun σ3 h => ?_)))
  refine ch_aload_n 0 (some m) dX3_checkMethod_15 rfl (ch_iconst _ 0 dX3_checkMethod_16 rfl (mp_pZ (k := 66) dX3_checkMethod_17 fl_X3_476 rfl rfl rfl h (fun σ4 h => ?_)))
  refine ch_aload_n 0 (some m) dX3_checkMethod_20 rfl (mp_gA 49 dX3_checkMethod_21 fl_X3_110 rfl (ch_iload_n 2 _ dX3_checkMethod_24 rfl (mp_iald dX3_checkMethod_25 mk_49 h (fun v5 h => ?_))))
  exact ch_istore_n 3 _ (ls1 := [some (va_rf (some m)), some (.int x1), some (.int x2), some (.int v5)]) dX3_checkMethod_26 (Nat.le_of_ble_eq_true rfl) rfl (ch_FT.wk (ch_wS (ch_wN (ch_wS (ch_wS ch_w0)))) (sl_X3_checkMethod_27  h hk))

theorem bX3_program_0 : ch_ck cX3_program 0 [42, 42, 180, 1, 179, 181, 0, 240, 3, 60, 27, 42, 180, 1, 179, 162] := ch_ckof (by decide +kernel)
theorem bX3_program_1 : ch_ck cX3_program 16 [0, 21, 42, 180, 0, 13, 27, 42, 180, 0, 7, 27, 46, 79, 132, 1] := ch_ckof (by decide +kernel)
theorem bX3_program_2 : ch_ck cX3_program 32 [1, 167, 255, 233, 42, 3, 181, 1, 179, 42, 3, 181, 1, 182, 42, 3] := ch_ckof (by decide +kernel)
theorem bX3_program_3 : ch_ck cX3_program 48 [181, 1, 186, 42, 3, 181, 0, 253, 42, 2, 181, 1, 27, 42, 2, 181] := ch_ckof (by decide +kernel)
theorem bX3_program_4 : ch_ck cX3_program 64 [1, 153, 42, 3, 181, 1, 36, 42, 3, 181, 1, 46, 42, 3, 181, 1] := ch_ckof (by decide +kernel)
theorem bX3_program_5 : ch_ck cX3_program 80 [103, 42, 3, 181, 1, 100, 42, 3, 181, 1, 110, 42, 3, 181, 1, 147] := ch_ckof (by decide +kernel)
theorem bX3_program_6 : ch_ck cX3_program 96 [42, 3, 181, 1, 150, 42, 182, 1, 189, 3, 60, 27, 8, 162, 0, 30] := ch_ckof (by decide +kernel)
theorem bX3_program_7 : ch_ck cX3_program 112 [42, 180, 0, 79, 27, 27, 79, 42, 180, 0, 88, 27, 2, 79, 42, 180] := ch_ckof (by decide +kernel)
theorem bX3_program_8 : ch_ck cX3_program 128 [0, 94, 27, 3, 79, 132, 1, 1, 167, 255, 227, 42, 180, 0, 94, 8] := ch_ckof (by decide +kernel)
theorem bX3_program_9 : ch_ck cX3_program 144 [3, 79, 42, 180, 0, 110, 3, 3, 79, 42, 8, 181, 1, 141, 42, 182] := ch_ckof (by decide +kernel)
theorem bX3_program_10 : ch_ck cX3_program 160 [1, 33, 4, 60, 27, 153, 0, 42, 42, 42, 4, 182, 1, 74, 182, 1] := ch_ckof (by decide +kernel)
theorem bX3_program_11 : ch_ck cX3_program 176 [42, 153, 0, 7, 42, 182, 1, 192, 42, 180, 1, 27, 156, 0, 14, 42] := ch_ckof (by decide +kernel)
theorem bX3_program_12 : ch_ck cX3_program 192 [180, 1, 7, 153, 0, 7, 4, 167, 0, 4, 3, 60, 167, 255, 216, 42] := ch_ckof (by decide +kernel)
theorem bX3_program_13 : ch_ck cX3_program 208 [180, 1, 27, 155, 0, 10, 2, 42, 180, 1, 27, 100, 172, 42, 182, 1] := ch_ckof (by decide +kernel)
theorem bX3_program_14 : ch_ck cX3_program 224 [195, 42, 180, 1, 153, 156, 0, 7, 42, 182, 1, 198, 42, 42, 180, 1] := ch_ckof (by decide +kernel)
theorem bX3_program_15 : ch_ck cX3_program 240 [153, 156, 0, 11, 42, 8, 182, 1, 156, 167, 0, 4, 2, 181, 1, 201] := ch_ckof (by decide +kernel)
theorem bX3_program_16 : ch_ck cX3_program 256 [42, 180, 1, 201, 156, 0, 7, 2, 167, 0, 14, 42, 42, 180, 1, 201] := ch_ckof (by decide +kernel)
theorem bX3_program_17 : ch_ck cX3_program 272 [16, 6, 4, 182, 1, 166, 61, 42, 180, 1, 153, 156, 0, 41, 28, 155] := ch_ckof (by decide +kernel)
theorem bX3_program_18 : ch_ck cX3_program 288 [0, 29, 42, 180, 0, 103, 28, 46, 154, 0, 20, 42, 180, 0, 110, 28] := ch_ckof (by decide +kernel)
theorem bX3_program_19 : ch_ck cX3_program 304 [4, 96, 46, 42, 180, 0, 110, 28, 46, 164, 0, 11, 42, 42, 180, 0] := ch_ckof (by decide +kernel)
theorem bX3_program_20 : ch_ck cX3_program 320 [240, 182, 1, 163, 3, 62, 29, 42, 180, 1, 141, 162, 0, 16, 42, 180] := ch_ckof (by decide +kernel)
theorem bX3_program_21 : ch_ck cX3_program 336 [0, 91, 29, 2, 79, 132, 3, 1, 167, 255, 238, 3, 62, 29, 42, 180] := ch_ckof (by decide +kernel)
theorem bX3_program_22 : ch_ck cX3_program 352 [1, 141, 162, 0, 23, 42, 180, 1, 153, 156, 0, 16, 42, 29, 182, 1] := ch_ckof (by decide +kernel)
theorem bX3_program_23 : ch_ck cX3_program 368 [204, 54, 4, 132, 3, 1, 167, 255, 231, 8, 62, 29, 42, 180, 1, 141] := ch_ckof (by decide +kernel)
theorem bX3_program_24 : ch_ck cX3_program 384 [162, 0, 67, 42, 180, 1, 153, 156, 0, 60, 42, 180, 0, 94, 29, 46] := ch_ckof (by decide +kernel)
theorem bX3_program_25 : ch_ck cX3_program 400 [54, 4, 21, 4, 42, 180, 0, 94, 29, 4, 96, 46, 162, 0, 33, 42] := ch_ckof (by decide +kernel)
theorem bX3_program_26 : ch_ck cX3_program 416 [180, 1, 153, 156, 0, 26, 42, 180, 0, 106, 21, 4, 51, 153, 0, 10] := ch_ckof (by decide +kernel)
theorem bX3_program_27 : ch_ck cX3_program 432 [42, 29, 21, 4, 182, 1, 207, 132, 4, 1, 167, 255, 216, 132, 3, 1] := ch_ckof (by decide +kernel)
theorem bX3_program_28 : ch_ck cX3_program 448 [167, 255, 187, 42, 180, 1, 153, 155, 0, 12, 17, 216, 240, 42, 180, 1] := ch_ckof (by decide +kernel)
theorem bX3_program_29 : ch_ck cX3_program 464 [153, 100, 172, 42, 4, 181, 1, 182, 42, 180, 1, 141, 8, 100, 172] := ch_ckof (by decide +kernel)
theorem dX3_program_0 : decode cX3_program 0 = .ok (.aload_n 0, 1) := dz_42 (bX3_program_0 0 _ rfl)
theorem dX3_program_1 : decode cX3_program 1 = .ok (.aload_n 0, 1) := dz_42 (bX3_program_0 1 _ rfl)
theorem dX3_program_2 : decode cX3_program 2 = .ok (.getfield 435, 3) := dz_180 (bX3_program_0 2 _ rfl) (bX3_program_0 3 _ rfl) (bX3_program_0 4 _ rfl)
theorem dX3_program_5 : decode cX3_program 5 = .ok (.putfield 240, 3) := dz_181 (bX3_program_0 5 _ rfl) (bX3_program_0 6 _ rfl) (bX3_program_0 7 _ rfl)
theorem dX3_program_8 : decode cX3_program 8 = .ok (.iconst 0, 1) := dz_3 (bX3_program_0 8 _ rfl)
theorem dX3_program_9 : decode cX3_program 9 = .ok (.istore_n 1, 1) := dz_60 (bX3_program_0 9 _ rfl)
theorem dX3_program_10 : decode cX3_program 10 = .ok (.iload_n 1, 1) := dz_27 (bX3_program_0 10 _ rfl)
theorem dX3_program_11 : decode cX3_program 11 = .ok (.aload_n 0, 1) := dz_42 (bX3_program_0 11 _ rfl)
theorem dX3_program_12 : decode cX3_program 12 = .ok (.getfield 435, 3) := dz_180 (bX3_program_0 12 _ rfl) (bX3_program_0 13 _ rfl) (bX3_program_0 14 _ rfl)
theorem dX3_program_15 : decode cX3_program 15 = .ok (.if_icmp .ge 21, 3) := dz_162 (bX3_program_0 15 _ rfl) (bX3_program_1 0 _ rfl) (bX3_program_1 1 _ rfl)
theorem dX3_program_18 : decode cX3_program 18 = .ok (.aload_n 0, 1) := dz_42 (bX3_program_1 2 _ rfl)
theorem dX3_program_19 : decode cX3_program 19 = .ok (.getfield 13, 3) := dz_180 (bX3_program_1 3 _ rfl) (bX3_program_1 4 _ rfl) (bX3_program_1 5 _ rfl)
theorem dX3_program_22 : decode cX3_program 22 = .ok (.iload_n 1, 1) := dz_27 (bX3_program_1 6 _ rfl)
theorem dX3_program_23 : decode cX3_program 23 = .ok (.aload_n 0, 1) := dz_42 (bX3_program_1 7 _ rfl)
theorem dX3_program_24 : decode cX3_program 24 = .ok (.getfield 7, 3) := dz_180 (bX3_program_1 8 _ rfl) (bX3_program_1 9 _ rfl) (bX3_program_1 10 _ rfl)
theorem dX3_program_27 : decode cX3_program 27 = .ok (.iload_n 1, 1) := dz_27 (bX3_program_1 11 _ rfl)
theorem dX3_program_28 : decode cX3_program 28 = .ok (.iaload, 1) := dz_46 (bX3_program_1 12 _ rfl)
theorem dX3_program_29 : decode cX3_program 29 = .ok (.iastore, 1) := dz_79 (bX3_program_1 13 _ rfl)
theorem dX3_program_30 : decode cX3_program 30 = .ok (.iinc 1 1, 3) := dz_132 (bX3_program_1 14 _ rfl) (bX3_program_1 15 _ rfl) (bX3_program_2 0 _ rfl)
theorem dX3_program_33 : decode cX3_program 33 = .ok (.goto (-23), 3) := dz_167 (bX3_program_2 1 _ rfl) (bX3_program_2 2 _ rfl) (bX3_program_2 3 _ rfl)
theorem dX3_program_36 : decode cX3_program 36 = .ok (.aload_n 0, 1) := dz_42 (bX3_program_2 4 _ rfl)
theorem dX3_program_37 : decode cX3_program 37 = .ok (.iconst 0, 1) := dz_3 (bX3_program_2 5 _ rfl)
theorem dX3_program_38 : decode cX3_program 38 = .ok (.putfield 435, 3) := dz_181 (bX3_program_2 6 _ rfl) (bX3_program_2 7 _ rfl) (bX3_program_2 8 _ rfl)
theorem dX3_program_41 : decode cX3_program 41 = .ok (.aload_n 0, 1) := dz_42 (bX3_program_2 9 _ rfl)
theorem dX3_program_42 : decode cX3_program 42 = .ok (.iconst 0, 1) := dz_3 (bX3_program_2 10 _ rfl)
theorem dX3_program_43 : decode cX3_program 43 = .ok (.putfield 438, 3) := dz_181 (bX3_program_2 11 _ rfl) (bX3_program_2 12 _ rfl) (bX3_program_2 13 _ rfl)
theorem dX3_program_46 : decode cX3_program 46 = .ok (.aload_n 0, 1) := dz_42 (bX3_program_2 14 _ rfl)
theorem dX3_program_47 : decode cX3_program 47 = .ok (.iconst 0, 1) := dz_3 (bX3_program_2 15 _ rfl)
theorem dX3_program_48 : decode cX3_program 48 = .ok (.putfield 442, 3) := dz_181 (bX3_program_3 0 _ rfl) (bX3_program_3 1 _ rfl) (bX3_program_3 2 _ rfl)
theorem dX3_program_51 : decode cX3_program 51 = .ok (.aload_n 0, 1) := dz_42 (bX3_program_3 3 _ rfl)
theorem dX3_program_52 : decode cX3_program 52 = .ok (.iconst 0, 1) := dz_3 (bX3_program_3 4 _ rfl)
theorem dX3_program_53 : decode cX3_program 53 = .ok (.putfield 253, 3) := dz_181 (bX3_program_3 5 _ rfl) (bX3_program_3 6 _ rfl) (bX3_program_3 7 _ rfl)
theorem dX3_program_56 : decode cX3_program 56 = .ok (.aload_n 0, 1) := dz_42 (bX3_program_3 8 _ rfl)
theorem dX3_program_57 : decode cX3_program 57 = .ok (.iconst (-1), 1) := dz_2 (bX3_program_3 9 _ rfl)
theorem dX3_program_58 : decode cX3_program 58 = .ok (.putfield 283, 3) := dz_181 (bX3_program_3 10 _ rfl) (bX3_program_3 11 _ rfl) (bX3_program_3 12 _ rfl)
theorem dX3_program_61 : decode cX3_program 61 = .ok (.aload_n 0, 1) := dz_42 (bX3_program_3 13 _ rfl)
theorem dX3_program_62 : decode cX3_program 62 = .ok (.iconst (-1), 1) := dz_2 (bX3_program_3 14 _ rfl)
theorem dX3_program_63 : decode cX3_program 63 = .ok (.putfield 409, 3) := dz_181 (bX3_program_3 15 _ rfl) (bX3_program_4 0 _ rfl) (bX3_program_4 1 _ rfl)
theorem dX3_program_66 : decode cX3_program 66 = .ok (.aload_n 0, 1) := dz_42 (bX3_program_4 2 _ rfl)
theorem dX3_program_67 : decode cX3_program 67 = .ok (.iconst 0, 1) := dz_3 (bX3_program_4 3 _ rfl)
theorem dX3_program_68 : decode cX3_program 68 = .ok (.putfield 292, 3) := dz_181 (bX3_program_4 4 _ rfl) (bX3_program_4 5 _ rfl) (bX3_program_4 6 _ rfl)
theorem dX3_program_71 : decode cX3_program 71 = .ok (.aload_n 0, 1) := dz_42 (bX3_program_4 7 _ rfl)
theorem dX3_program_72 : decode cX3_program 72 = .ok (.iconst 0, 1) := dz_3 (bX3_program_4 8 _ rfl)
theorem dX3_program_73 : decode cX3_program 73 = .ok (.putfield 302, 3) := dz_181 (bX3_program_4 9 _ rfl) (bX3_program_4 10 _ rfl) (bX3_program_4 11 _ rfl)
theorem dX3_program_76 : decode cX3_program 76 = .ok (.aload_n 0, 1) := dz_42 (bX3_program_4 12 _ rfl)
theorem dX3_program_77 : decode cX3_program 77 = .ok (.iconst 0, 1) := dz_3 (bX3_program_4 13 _ rfl)
theorem dX3_program_78 : decode cX3_program 78 = .ok (.putfield 359, 3) := dz_181 (bX3_program_4 14 _ rfl) (bX3_program_4 15 _ rfl) (bX3_program_5 0 _ rfl)
theorem dX3_program_81 : decode cX3_program 81 = .ok (.aload_n 0, 1) := dz_42 (bX3_program_5 1 _ rfl)
theorem dX3_program_82 : decode cX3_program 82 = .ok (.iconst 0, 1) := dz_3 (bX3_program_5 2 _ rfl)
theorem dX3_program_83 : decode cX3_program 83 = .ok (.putfield 356, 3) := dz_181 (bX3_program_5 3 _ rfl) (bX3_program_5 4 _ rfl) (bX3_program_5 5 _ rfl)
theorem dX3_program_86 : decode cX3_program 86 = .ok (.aload_n 0, 1) := dz_42 (bX3_program_5 6 _ rfl)
theorem dX3_program_87 : decode cX3_program 87 = .ok (.iconst 0, 1) := dz_3 (bX3_program_5 7 _ rfl)
theorem dX3_program_88 : decode cX3_program 88 = .ok (.putfield 366, 3) := dz_181 (bX3_program_5 8 _ rfl) (bX3_program_5 9 _ rfl) (bX3_program_5 10 _ rfl)
theorem dX3_program_91 : decode cX3_program 91 = .ok (.aload_n 0, 1) := dz_42 (bX3_program_5 11 _ rfl)
theorem dX3_program_92 : decode cX3_program 92 = .ok (.iconst 0, 1) := dz_3 (bX3_program_5 12 _ rfl)
theorem dX3_program_93 : decode cX3_program 93 = .ok (.putfield 403, 3) := dz_181 (bX3_program_5 13 _ rfl) (bX3_program_5 14 _ rfl) (bX3_program_5 15 _ rfl)
theorem dX3_program_96 : decode cX3_program 96 = .ok (.aload_n 0, 1) := dz_42 (bX3_program_6 0 _ rfl)
theorem dX3_program_97 : decode cX3_program 97 = .ok (.iconst 0, 1) := dz_3 (bX3_program_6 1 _ rfl)
theorem dX3_program_98 : decode cX3_program 98 = .ok (.putfield 406, 3) := dz_181 (bX3_program_6 2 _ rfl) (bX3_program_6 3 _ rfl) (bX3_program_6 4 _ rfl)
theorem dX3_program_101 : decode cX3_program 101 = .ok (.aload_n 0, 1) := dz_42 (bX3_program_6 5 _ rfl)
theorem dX3_program_102 : decode cX3_program 102 = .ok (.invokevirtual 445, 3) := dz_182 (bX3_program_6 6 _ rfl) (bX3_program_6 7 _ rfl) (bX3_program_6 8 _ rfl)
theorem dX3_program_105 : decode cX3_program 105 = .ok (.iconst 0, 1) := dz_3 (bX3_program_6 9 _ rfl)
theorem dX3_program_106 : decode cX3_program 106 = .ok (.istore_n 1, 1) := dz_60 (bX3_program_6 10 _ rfl)
theorem dX3_program_107 : decode cX3_program 107 = .ok (.iload_n 1, 1) := dz_27 (bX3_program_6 11 _ rfl)
theorem dX3_program_108 : decode cX3_program 108 = .ok (.iconst 5, 1) := dz_8 (bX3_program_6 12 _ rfl)
theorem dX3_program_109 : decode cX3_program 109 = .ok (.if_icmp .ge 30, 3) := dz_162 (bX3_program_6 13 _ rfl) (bX3_program_6 14 _ rfl) (bX3_program_6 15 _ rfl)
theorem dX3_program_112 : decode cX3_program 112 = .ok (.aload_n 0, 1) := dz_42 (bX3_program_7 0 _ rfl)
theorem dX3_program_113 : decode cX3_program 113 = .ok (.getfield 79, 3) := dz_180 (bX3_program_7 1 _ rfl) (bX3_program_7 2 _ rfl) (bX3_program_7 3 _ rfl)
theorem dX3_program_116 : decode cX3_program 116 = .ok (.iload_n 1, 1) := dz_27 (bX3_program_7 4 _ rfl)
theorem dX3_program_117 : decode cX3_program 117 = .ok (.iload_n 1, 1) := dz_27 (bX3_program_7 5 _ rfl)
theorem dX3_program_118 : decode cX3_program 118 = .ok (.iastore, 1) := dz_79 (bX3_program_7 6 _ rfl)
theorem dX3_program_119 : decode cX3_program 119 = .ok (.aload_n 0, 1) := dz_42 (bX3_program_7 7 _ rfl)
theorem dX3_program_120 : decode cX3_program 120 = .ok (.getfield 88, 3) := dz_180 (bX3_program_7 8 _ rfl) (bX3_program_7 9 _ rfl) (bX3_program_7 10 _ rfl)
theorem dX3_program_123 : decode cX3_program 123 = .ok (.iload_n 1, 1) := dz_27 (bX3_program_7 11 _ rfl)
theorem dX3_program_124 : decode cX3_program 124 = .ok (.iconst (-1), 1) := dz_2 (bX3_program_7 12 _ rfl)
theorem dX3_program_125 : decode cX3_program 125 = .ok (.iastore, 1) := dz_79 (bX3_program_7 13 _ rfl)
theorem dX3_program_126 : decode cX3_program 126 = .ok (.aload_n 0, 1) := dz_42 (bX3_program_7 14 _ rfl)
theorem dX3_program_127 : decode cX3_program 127 = .ok (.getfield 94, 3) := dz_180 (bX3_program_7 15 _ rfl) (bX3_program_8 0 _ rfl) (bX3_program_8 1 _ rfl)
theorem dX3_program_130 : decode cX3_program 130 = .ok (.iload_n 1, 1) := dz_27 (bX3_program_8 2 _ rfl)
theorem dX3_program_131 : decode cX3_program 131 = .ok (.iconst 0, 1) := dz_3 (bX3_program_8 3 _ rfl)
theorem dX3_program_132 : decode cX3_program 132 = .ok (.iastore, 1) := dz_79 (bX3_program_8 4 _ rfl)
theorem dX3_program_133 : decode cX3_program 133 = .ok (.iinc 1 1, 3) := dz_132 (bX3_program_8 5 _ rfl) (bX3_program_8 6 _ rfl) (bX3_program_8 7 _ rfl)
theorem dX3_program_136 : decode cX3_program 136 = .ok (.goto (-29), 3) := dz_167 (bX3_program_8 8 _ rfl) (bX3_program_8 9 _ rfl) (bX3_program_8 10 _ rfl)
theorem dX3_program_139 : decode cX3_program 139 = .ok (.aload_n 0, 1) := dz_42 (bX3_program_8 11 _ rfl)
theorem dX3_program_140 : decode cX3_program 140 = .ok (.getfield 94, 3) := dz_180 (bX3_program_8 12 _ rfl) (bX3_program_8 13 _ rfl) (bX3_program_8 14 _ rfl)
theorem dX3_program_143 : decode cX3_program 143 = .ok (.iconst 5, 1) := dz_8 (bX3_program_8 15 _ rfl)
theorem dX3_program_144 : decode cX3_program 144 = .ok (.iconst 0, 1) := dz_3 (bX3_program_9 0 _ rfl)
theorem dX3_program_145 : decode cX3_program 145 = .ok (.iastore, 1) := dz_79 (bX3_program_9 1 _ rfl)
theorem dX3_program_146 : decode cX3_program 146 = .ok (.aload_n 0, 1) := dz_42 (bX3_program_9 2 _ rfl)
theorem dX3_program_147 : decode cX3_program 147 = .ok (.getfield 110, 3) := dz_180 (bX3_program_9 3 _ rfl) (bX3_program_9 4 _ rfl) (bX3_program_9 5 _ rfl)
theorem dX3_program_150 : decode cX3_program 150 = .ok (.iconst 0, 1) := dz_3 (bX3_program_9 6 _ rfl)
theorem dX3_program_151 : decode cX3_program 151 = .ok (.iconst 0, 1) := dz_3 (bX3_program_9 7 _ rfl)
theorem dX3_program_152 : decode cX3_program 152 = .ok (.iastore, 1) := dz_79 (bX3_program_9 8 _ rfl)
theorem dX3_program_153 : decode cX3_program 153 = .ok (.aload_n 0, 1) := dz_42 (bX3_program_9 9 _ rfl)
theorem dX3_program_154 : decode cX3_program 154 = .ok (.iconst 5, 1) := dz_8 (bX3_program_9 10 _ rfl)
theorem dX3_program_155 : decode cX3_program 155 = .ok (.putfield 397, 3) := dz_181 (bX3_program_9 11 _ rfl) (bX3_program_9 12 _ rfl) (bX3_program_9 13 _ rfl)
theorem dX3_program_158 : decode cX3_program 158 = .ok (.aload_n 0, 1) := dz_42 (bX3_program_9 14 _ rfl)
theorem dX3_program_159 : decode cX3_program 159 = .ok (.invokevirtual 289, 3) := dz_182 (bX3_program_9 15 _ rfl) (bX3_program_10 0 _ rfl) (bX3_program_10 1 _ rfl)
theorem dX3_program_162 : decode cX3_program 162 = .ok (.iconst 1, 1) := dz_4 (bX3_program_10 2 _ rfl)
theorem dX3_program_163 : decode cX3_program 163 = .ok (.istore_n 1, 1) := dz_60 (bX3_program_10 3 _ rfl)
theorem dX3_program_164 : decode cX3_program 164 = .ok (.iload_n 1, 1) := dz_27 (bX3_program_10 4 _ rfl)
theorem dX3_program_165 : decode cX3_program 165 = .ok (.ifCond .eq 42, 3) := dz_153 (bX3_program_10 5 _ rfl) (bX3_program_10 6 _ rfl) (bX3_program_10 7 _ rfl)
theorem dX3_program_168 : decode cX3_program 168 = .ok (.aload_n 0, 1) := dz_42 (bX3_program_10 8 _ rfl)
theorem dX3_program_169 : decode cX3_program 169 = .ok (.aload_n 0, 1) := dz_42 (bX3_program_10 9 _ rfl)
theorem dX3_program_170 : decode cX3_program 170 = .ok (.iconst 1, 1) := dz_4 (bX3_program_10 10 _ rfl)
theorem dX3_program_171 : decode cX3_program 171 = .ok (.invokevirtual 330, 3) := dz_182 (bX3_program_10 11 _ rfl) (bX3_program_10 12 _ rfl) (bX3_program_10 13 _ rfl)
theorem dX3_program_174 : decode cX3_program 174 = .ok (.invokevirtual 298, 3) := dz_182 (bX3_program_10 14 _ rfl) (bX3_program_10 15 _ rfl) (bX3_program_11 0 _ rfl)
theorem dX3_program_177 : decode cX3_program 177 = .ok (.ifCond .eq 7, 3) := dz_153 (bX3_program_11 1 _ rfl) (bX3_program_11 2 _ rfl) (bX3_program_11 3 _ rfl)
theorem dX3_program_180 : decode cX3_program 180 = .ok (.aload_n 0, 1) := dz_42 (bX3_program_11 4 _ rfl)
theorem dX3_program_181 : decode cX3_program 181 = .ok (.invokevirtual 448, 3) := dz_182 (bX3_program_11 5 _ rfl) (bX3_program_11 6 _ rfl) (bX3_program_11 7 _ rfl)
theorem dX3_program_184 : decode cX3_program 184 = .ok (.aload_n 0, 1) := dz_42 (bX3_program_11 8 _ rfl)
theorem dX3_program_185 : decode cX3_program 185 = .ok (.getfield 283, 3) := dz_180 (bX3_program_11 9 _ rfl) (bX3_program_11 10 _ rfl) (bX3_program_11 11 _ rfl)
theorem dX3_program_188 : decode cX3_program 188 = .ok (.ifCond .ge 14, 3) := dz_156 (bX3_program_11 12 _ rfl) (bX3_program_11 13 _ rfl) (bX3_program_11 14 _ rfl)
theorem dX3_program_191 : decode cX3_program 191 = .ok (.aload_n 0, 1) := dz_42 (bX3_program_11 15 _ rfl)
theorem dX3_program_192 : decode cX3_program 192 = .ok (.getfield 263, 3) := dz_180 (bX3_program_12 0 _ rfl) (bX3_program_12 1 _ rfl) (bX3_program_12 2 _ rfl)
theorem dX3_program_195 : decode cX3_program 195 = .ok (.ifCond .eq 7, 3) := dz_153 (bX3_program_12 3 _ rfl) (bX3_program_12 4 _ rfl) (bX3_program_12 5 _ rfl)
theorem dX3_program_198 : decode cX3_program 198 = .ok (.iconst 1, 1) := dz_4 (bX3_program_12 6 _ rfl)
theorem dX3_program_199 : decode cX3_program 199 = .ok (.goto 4, 3) := dz_167 (bX3_program_12 7 _ rfl) (bX3_program_12 8 _ rfl) (bX3_program_12 9 _ rfl)
theorem dX3_program_202 : decode cX3_program 202 = .ok (.iconst 0, 1) := dz_3 (bX3_program_12 10 _ rfl)
theorem dX3_program_203 : decode cX3_program 203 = .ok (.istore_n 1, 1) := dz_60 (bX3_program_12 11 _ rfl)
theorem dX3_program_204 : decode cX3_program 204 = .ok (.goto (-40), 3) := dz_167 (bX3_program_12 12 _ rfl) (bX3_program_12 13 _ rfl) (bX3_program_12 14 _ rfl)
theorem dX3_program_207 : decode cX3_program 207 = .ok (.aload_n 0, 1) := dz_42 (bX3_program_12 15 _ rfl)
theorem dX3_program_208 : decode cX3_program 208 = .ok (.getfield 283, 3) := dz_180 (bX3_program_13 0 _ rfl) (bX3_program_13 1 _ rfl) (bX3_program_13 2 _ rfl)
theorem dX3_program_211 : decode cX3_program 211 = .ok (.ifCond .lt 10, 3) := dz_155 (bX3_program_13 3 _ rfl) (bX3_program_13 4 _ rfl) (bX3_program_13 5 _ rfl)
theorem dX3_program_214 : decode cX3_program 214 = .ok (.iconst (-1), 1) := dz_2 (bX3_program_13 6 _ rfl)
theorem dX3_program_215 : decode cX3_program 215 = .ok (.aload_n 0, 1) := dz_42 (bX3_program_13 7 _ rfl)
theorem dX3_program_216 : decode cX3_program 216 = .ok (.getfield 283, 3) := dz_180 (bX3_program_13 8 _ rfl) (bX3_program_13 9 _ rfl) (bX3_program_13 10 _ rfl)
theorem dX3_program_219 : decode cX3_program 219 = .ok (.isub, 1) := dz_100 (bX3_program_13 11 _ rfl)
theorem dX3_program_220 : decode cX3_program 220 = .ok (.ireturn, 1) := dz_172 (bX3_program_13 12 _ rfl)
theorem dX3_program_221 : decode cX3_program 221 = .ok (.aload_n 0, 1) := dz_42 (bX3_program_13 13 _ rfl)
theorem dX3_program_222 : decode cX3_program 222 = .ok (.invokevirtual 451, 3) := dz_182 (bX3_program_13 14 _ rfl) (bX3_program_13 15 _ rfl) (bX3_program_14 0 _ rfl)
theorem dX3_program_225 : decode cX3_program 225 = .ok (.aload_n 0, 1) := dz_42 (bX3_program_14 1 _ rfl)
theorem dX3_program_226 : decode cX3_program 226 = .ok (.getfield 409, 3) := dz_180 (bX3_program_14 2 _ rfl) (bX3_program_14 3 _ rfl) (bX3_program_14 4 _ rfl)
theorem dX3_program_229 : decode cX3_program 229 = .ok (.ifCond .ge 7, 3) := dz_156 (bX3_program_14 5 _ rfl) (bX3_program_14 6 _ rfl) (bX3_program_14 7 _ rfl)
theorem dX3_program_232 : decode cX3_program 232 = .ok (.aload_n 0, 1) := dz_42 (bX3_program_14 8 _ rfl)
theorem dX3_program_233 : decode cX3_program 233 = .ok (.invokevirtual 454, 3) := dz_182 (bX3_program_14 9 _ rfl) (bX3_program_14 10 _ rfl) (bX3_program_14 11 _ rfl)
theorem dX3_program_236 : decode cX3_program 236 = .ok (.aload_n 0, 1) := dz_42 (bX3_program_14 12 _ rfl)
theorem dX3_program_237 : decode cX3_program 237 = .ok (.aload_n 0, 1) := dz_42 (bX3_program_14 13 _ rfl)
theorem dX3_program_238 : decode cX3_program 238 = .ok (.getfield 409, 3) := dz_180 (bX3_program_14 14 _ rfl) (bX3_program_14 15 _ rfl) (bX3_program_15 0 _ rfl)
theorem dX3_program_241 : decode cX3_program 241 = .ok (.ifCond .ge 11, 3) := dz_156 (bX3_program_15 1 _ rfl) (bX3_program_15 2 _ rfl) (bX3_program_15 3 _ rfl)
theorem dX3_program_244 : decode cX3_program 244 = .ok (.aload_n 0, 1) := dz_42 (bX3_program_15 4 _ rfl)
theorem dX3_program_245 : decode cX3_program 245 = .ok (.iconst 5, 1) := dz_8 (bX3_program_15 5 _ rfl)
theorem dX3_program_246 : decode cX3_program 246 = .ok (.invokevirtual 412, 3) := dz_182 (bX3_program_15 6 _ rfl) (bX3_program_15 7 _ rfl) (bX3_program_15 8 _ rfl)
theorem dX3_program_249 : decode cX3_program 249 = .ok (.goto 4, 3) := dz_167 (bX3_program_15 9 _ rfl) (bX3_program_15 10 _ rfl) (bX3_program_15 11 _ rfl)
theorem dX3_program_252 : decode cX3_program 252 = .ok (.iconst (-1), 1) := dz_2 (bX3_program_15 12 _ rfl)
theorem dX3_program_253 : decode cX3_program 253 = .ok (.putfield 457, 3) := dz_181 (bX3_program_15 13 _ rfl) (bX3_program_15 14 _ rfl) (bX3_program_15 15 _ rfl)
theorem dX3_program_256 : decode cX3_program 256 = .ok (.aload_n 0, 1) := dz_42 (bX3_program_16 0 _ rfl)
theorem dX3_program_257 : decode cX3_program 257 = .ok (.getfield 457, 3) := dz_180 (bX3_program_16 1 _ rfl) (bX3_program_16 2 _ rfl) (bX3_program_16 3 _ rfl)
theorem dX3_program_260 : decode cX3_program 260 = .ok (.ifCond .ge 7, 3) := dz_156 (bX3_program_16 4 _ rfl) (bX3_program_16 5 _ rfl) (bX3_program_16 6 _ rfl)
theorem dX3_program_263 : decode cX3_program 263 = .ok (.iconst (-1), 1) := dz_2 (bX3_program_16 7 _ rfl)
theorem dX3_program_264 : decode cX3_program 264 = .ok (.goto 14, 3) := dz_167 (bX3_program_16 8 _ rfl) (bX3_program_16 9 _ rfl) (bX3_program_16 10 _ rfl)
theorem dX3_program_267 : decode cX3_program 267 = .ok (.aload_n 0, 1) := dz_42 (bX3_program_16 11 _ rfl)
theorem dX3_program_268 : decode cX3_program 268 = .ok (.aload_n 0, 1) := dz_42 (bX3_program_16 12 _ rfl)
theorem dX3_program_269 : decode cX3_program 269 = .ok (.getfield 457, 3) := dz_180 (bX3_program_16 13 _ rfl) (bX3_program_16 14 _ rfl) (bX3_program_16 15 _ rfl)
theorem dX3_program_272 : decode cX3_program 272 = .ok (.bipush 6, 2) := dz_16 (bX3_program_17 0 _ rfl) (bX3_program_17 1 _ rfl)
theorem dX3_program_274 : decode cX3_program 274 = .ok (.iconst 1, 1) := dz_4 (bX3_program_17 2 _ rfl)
theorem dX3_program_275 : decode cX3_program 275 = .ok (.invokevirtual 422, 3) := dz_182 (bX3_program_17 3 _ rfl) (bX3_program_17 4 _ rfl) (bX3_program_17 5 _ rfl)
theorem dX3_program_278 : decode cX3_program 278 = .ok (.istore_n 2, 1) := dz_61 (bX3_program_17 6 _ rfl)
theorem dX3_program_279 : decode cX3_program 279 = .ok (.aload_n 0, 1) := dz_42 (bX3_program_17 7 _ rfl)
theorem dX3_program_280 : decode cX3_program 280 = .ok (.getfield 409, 3) := dz_180 (bX3_program_17 8 _ rfl) (bX3_program_17 9 _ rfl) (bX3_program_17 10 _ rfl)
theorem dX3_program_283 : decode cX3_program 283 = .ok (.ifCond .ge 41, 3) := dz_156 (bX3_program_17 11 _ rfl) (bX3_program_17 12 _ rfl) (bX3_program_17 13 _ rfl)
theorem dX3_program_286 : decode cX3_program 286 = .ok (.iload_n 2, 1) := dz_28 (bX3_program_17 14 _ rfl)
theorem dX3_program_287 : decode cX3_program 287 = .ok (.ifCond .lt 29, 3) := dz_155 (bX3_program_17 15 _ rfl) (bX3_program_18 0 _ rfl) (bX3_program_18 1 _ rfl)
theorem dX3_program_290 : decode cX3_program 290 = .ok (.aload_n 0, 1) := dz_42 (bX3_program_18 2 _ rfl)
theorem dX3_program_291 : decode cX3_program 291 = .ok (.getfield 103, 3) := dz_180 (bX3_program_18 3 _ rfl) (bX3_program_18 4 _ rfl) (bX3_program_18 5 _ rfl)
theorem dX3_program_294 : decode cX3_program 294 = .ok (.iload_n 2, 1) := dz_28 (bX3_program_18 6 _ rfl)
theorem dX3_program_295 : decode cX3_program 295 = .ok (.iaload, 1) := dz_46 (bX3_program_18 7 _ rfl)
theorem dX3_program_296 : decode cX3_program 296 = .ok (.ifCond .ne 20, 3) := dz_154 (bX3_program_18 8 _ rfl) (bX3_program_18 9 _ rfl) (bX3_program_18 10 _ rfl)
theorem dX3_program_299 : decode cX3_program 299 = .ok (.aload_n 0, 1) := dz_42 (bX3_program_18 11 _ rfl)
theorem dX3_program_300 : decode cX3_program 300 = .ok (.getfield 110, 3) := dz_180 (bX3_program_18 12 _ rfl) (bX3_program_18 13 _ rfl) (bX3_program_18 14 _ rfl)
theorem dX3_program_303 : decode cX3_program 303 = .ok (.iload_n 2, 1) := dz_28 (bX3_program_18 15 _ rfl)
theorem dX3_program_304 : decode cX3_program 304 = .ok (.iconst 1, 1) := dz_4 (bX3_program_19 0 _ rfl)
theorem dX3_program_305 : decode cX3_program 305 = .ok (.iadd, 1) := dz_96 (bX3_program_19 1 _ rfl)
theorem dX3_program_306 : decode cX3_program 306 = .ok (.iaload, 1) := dz_46 (bX3_program_19 2 _ rfl)
theorem dX3_program_307 : decode cX3_program 307 = .ok (.aload_n 0, 1) := dz_42 (bX3_program_19 3 _ rfl)
theorem dX3_program_308 : decode cX3_program 308 = .ok (.getfield 110, 3) := dz_180 (bX3_program_19 4 _ rfl) (bX3_program_19 5 _ rfl) (bX3_program_19 6 _ rfl)
theorem dX3_program_311 : decode cX3_program 311 = .ok (.iload_n 2, 1) := dz_28 (bX3_program_19 7 _ rfl)
theorem dX3_program_312 : decode cX3_program 312 = .ok (.iaload, 1) := dz_46 (bX3_program_19 8 _ rfl)
theorem dX3_program_313 : decode cX3_program 313 = .ok (.if_icmp .le 11, 3) := dz_164 (bX3_program_19 9 _ rfl) (bX3_program_19 10 _ rfl) (bX3_program_19 11 _ rfl)
theorem dX3_program_316 : decode cX3_program 316 = .ok (.aload_n 0, 1) := dz_42 (bX3_program_19 12 _ rfl)
theorem dX3_program_317 : decode cX3_program 317 = .ok (.aload_n 0, 1) := dz_42 (bX3_program_19 13 _ rfl)
theorem dX3_program_318 : decode cX3_program 318 = .ok (.getfield 240, 3) := dz_180 (bX3_program_19 14 _ rfl) (bX3_program_19 15 _ rfl) (bX3_program_20 0 _ rfl)
theorem dX3_program_321 : decode cX3_program 321 = .ok (.invokevirtual 419, 3) := dz_182 (bX3_program_20 1 _ rfl) (bX3_program_20 2 _ rfl) (bX3_program_20 3 _ rfl)
theorem dX3_program_324 : decode cX3_program 324 = .ok (.iconst 0, 1) := dz_3 (bX3_program_20 4 _ rfl)
theorem dX3_program_325 : decode cX3_program 325 = .ok (.istore_n 3, 1) := dz_62 (bX3_program_20 5 _ rfl)
theorem dX3_program_326 : decode cX3_program 326 = .ok (.iload_n 3, 1) := dz_29 (bX3_program_20 6 _ rfl)
theorem dX3_program_327 : decode cX3_program 327 = .ok (.aload_n 0, 1) := dz_42 (bX3_program_20 7 _ rfl)
theorem dX3_program_328 : decode cX3_program 328 = .ok (.getfield 397, 3) := dz_180 (bX3_program_20 8 _ rfl) (bX3_program_20 9 _ rfl) (bX3_program_20 10 _ rfl)
theorem dX3_program_331 : decode cX3_program 331 = .ok (.if_icmp .ge 16, 3) := dz_162 (bX3_program_20 11 _ rfl) (bX3_program_20 12 _ rfl) (bX3_program_20 13 _ rfl)
theorem dX3_program_334 : decode cX3_program 334 = .ok (.aload_n 0, 1) := dz_42 (bX3_program_20 14 _ rfl)
theorem dX3_program_335 : decode cX3_program 335 = .ok (.getfield 91, 3) := dz_180 (bX3_program_20 15 _ rfl) (bX3_program_21 0 _ rfl) (bX3_program_21 1 _ rfl)
theorem dX3_program_338 : decode cX3_program 338 = .ok (.iload_n 3, 1) := dz_29 (bX3_program_21 2 _ rfl)
theorem dX3_program_339 : decode cX3_program 339 = .ok (.iconst (-1), 1) := dz_2 (bX3_program_21 3 _ rfl)
theorem dX3_program_340 : decode cX3_program 340 = .ok (.iastore, 1) := dz_79 (bX3_program_21 4 _ rfl)
theorem dX3_program_341 : decode cX3_program 341 = .ok (.iinc 3 1, 3) := dz_132 (bX3_program_21 5 _ rfl) (bX3_program_21 6 _ rfl) (bX3_program_21 7 _ rfl)
theorem dX3_program_344 : decode cX3_program 344 = .ok (.goto (-18), 3) := dz_167 (bX3_program_21 8 _ rfl) (bX3_program_21 9 _ rfl) (bX3_program_21 10 _ rfl)
theorem dX3_program_347 : decode cX3_program 347 = .ok (.iconst 0, 1) := dz_3 (bX3_program_21 11 _ rfl)
theorem dX3_program_348 : decode cX3_program 348 = .ok (.istore_n 3, 1) := dz_62 (bX3_program_21 12 _ rfl)
theorem dX3_program_349 : decode cX3_program 349 = .ok (.iload_n 3, 1) := dz_29 (bX3_program_21 13 _ rfl)
theorem dX3_program_350 : decode cX3_program 350 = .ok (.aload_n 0, 1) := dz_42 (bX3_program_21 14 _ rfl)
theorem dX3_program_351 : decode cX3_program 351 = .ok (.getfield 397, 3) := dz_180 (bX3_program_21 15 _ rfl) (bX3_program_22 0 _ rfl) (bX3_program_22 1 _ rfl)
theorem dX3_program_354 : decode cX3_program 354 = .ok (.if_icmp .ge 23, 3) := dz_162 (bX3_program_22 2 _ rfl) (bX3_program_22 3 _ rfl) (bX3_program_22 4 _ rfl)
theorem dX3_program_357 : decode cX3_program 357 = .ok (.aload_n 0, 1) := dz_42 (bX3_program_22 5 _ rfl)
theorem dX3_program_358 : decode cX3_program 358 = .ok (.getfield 409, 3) := dz_180 (bX3_program_22 6 _ rfl) (bX3_program_22 7 _ rfl) (bX3_program_22 8 _ rfl)
theorem dX3_program_361 : decode cX3_program 361 = .ok (.ifCond .ge 16, 3) := dz_156 (bX3_program_22 9 _ rfl) (bX3_program_22 10 _ rfl) (bX3_program_22 11 _ rfl)
theorem dX3_program_364 : decode cX3_program 364 = .ok (.aload_n 0, 1) := dz_42 (bX3_program_22 12 _ rfl)
theorem dX3_program_365 : decode cX3_program 365 = .ok (.iload_n 3, 1) := dz_29 (bX3_program_22 13 _ rfl)
theorem dX3_program_366 : decode cX3_program 366 = .ok (.invokevirtual 460, 3) := dz_182 (bX3_program_22 14 _ rfl) (bX3_program_22 15 _ rfl) (bX3_program_23 0 _ rfl)
theorem dX3_program_369 : decode cX3_program 369 = .ok (.istore 4, 2) := dz_54 (bX3_program_23 1 _ rfl) (bX3_program_23 2 _ rfl)
theorem dX3_program_371 : decode cX3_program 371 = .ok (.iinc 3 1, 3) := dz_132 (bX3_program_23 3 _ rfl) (bX3_program_23 4 _ rfl) (bX3_program_23 5 _ rfl)
theorem dX3_program_374 : decode cX3_program 374 = .ok (.goto (-25), 3) := dz_167 (bX3_program_23 6 _ rfl) (bX3_program_23 7 _ rfl) (bX3_program_23 8 _ rfl)
theorem dX3_program_377 : decode cX3_program 377 = .ok (.iconst 5, 1) := dz_8 (bX3_program_23 9 _ rfl)
theorem dX3_program_378 : decode cX3_program 378 = .ok (.istore_n 3, 1) := dz_62 (bX3_program_23 10 _ rfl)
theorem dX3_program_379 : decode cX3_program 379 = .ok (.iload_n 3, 1) := dz_29 (bX3_program_23 11 _ rfl)
theorem dX3_program_380 : decode cX3_program 380 = .ok (.aload_n 0, 1) := dz_42 (bX3_program_23 12 _ rfl)
theorem dX3_program_381 : decode cX3_program 381 = .ok (.getfield 397, 3) := dz_180 (bX3_program_23 13 _ rfl) (bX3_program_23 14 _ rfl) (bX3_program_23 15 _ rfl)
theorem dX3_program_384 : decode cX3_program 384 = .ok (.if_icmp .ge 67, 3) := dz_162 (bX3_program_24 0 _ rfl) (bX3_program_24 1 _ rfl) (bX3_program_24 2 _ rfl)
theorem dX3_program_387 : decode cX3_program 387 = .ok (.aload_n 0, 1) := dz_42 (bX3_program_24 3 _ rfl)
theorem dX3_program_388 : decode cX3_program 388 = .ok (.getfield 409, 3) := dz_180 (bX3_program_24 4 _ rfl) (bX3_program_24 5 _ rfl) (bX3_program_24 6 _ rfl)
theorem dX3_program_391 : decode cX3_program 391 = .ok (.ifCond .ge 60, 3) := dz_156 (bX3_program_24 7 _ rfl) (bX3_program_24 8 _ rfl) (bX3_program_24 9 _ rfl)
theorem dX3_program_394 : decode cX3_program 394 = .ok (.aload_n 0, 1) := dz_42 (bX3_program_24 10 _ rfl)
theorem dX3_program_395 : decode cX3_program 395 = .ok (.getfield 94, 3) := dz_180 (bX3_program_24 11 _ rfl) (bX3_program_24 12 _ rfl) (bX3_program_24 13 _ rfl)
theorem dX3_program_398 : decode cX3_program 398 = .ok (.iload_n 3, 1) := dz_29 (bX3_program_24 14 _ rfl)
theorem dX3_program_399 : decode cX3_program 399 = .ok (.iaload, 1) := dz_46 (bX3_program_24 15 _ rfl)
theorem dX3_program_400 : decode cX3_program 400 = .ok (.istore 4, 2) := dz_54 (bX3_program_25 0 _ rfl) (bX3_program_25 1 _ rfl)
theorem dX3_program_402 : decode cX3_program 402 = .ok (.iload 4, 2) := dz_21 (bX3_program_25 2 _ rfl) (bX3_program_25 3 _ rfl)
theorem dX3_program_404 : decode cX3_program 404 = .ok (.aload_n 0, 1) := dz_42 (bX3_program_25 4 _ rfl)
theorem dX3_program_405 : decode cX3_program 405 = .ok (.getfield 94, 3) := dz_180 (bX3_program_25 5 _ rfl) (bX3_program_25 6 _ rfl) (bX3_program_25 7 _ rfl)
theorem dX3_program_408 : decode cX3_program 408 = .ok (.iload_n 3, 1) := dz_29 (bX3_program_25 8 _ rfl)
theorem dX3_program_409 : decode cX3_program 409 = .ok (.iconst 1, 1) := dz_4 (bX3_program_25 9 _ rfl)
theorem dX3_program_410 : decode cX3_program 410 = .ok (.iadd, 1) := dz_96 (bX3_program_25 10 _ rfl)
theorem dX3_program_411 : decode cX3_program 411 = .ok (.iaload, 1) := dz_46 (bX3_program_25 11 _ rfl)
theorem dX3_program_412 : decode cX3_program 412 = .ok (.if_icmp .ge 33, 3) := dz_162 (bX3_program_25 12 _ rfl) (bX3_program_25 13 _ rfl) (bX3_program_25 14 _ rfl)
theorem dX3_program_415 : decode cX3_program 415 = .ok (.aload_n 0, 1) := dz_42 (bX3_program_25 15 _ rfl)
theorem dX3_program_416 : decode cX3_program 416 = .ok (.getfield 409, 3) := dz_180 (bX3_program_26 0 _ rfl) (bX3_program_26 1 _ rfl) (bX3_program_26 2 _ rfl)
theorem dX3_program_419 : decode cX3_program 419 = .ok (.ifCond .ge 26, 3) := dz_156 (bX3_program_26 3 _ rfl) (bX3_program_26 4 _ rfl) (bX3_program_26 5 _ rfl)
theorem dX3_program_422 : decode cX3_program 422 = .ok (.aload_n 0, 1) := dz_42 (bX3_program_26 6 _ rfl)
theorem dX3_program_423 : decode cX3_program 423 = .ok (.getfield 106, 3) := dz_180 (bX3_program_26 7 _ rfl) (bX3_program_26 8 _ rfl) (bX3_program_26 9 _ rfl)
theorem dX3_program_426 : decode cX3_program 426 = .ok (.iload 4, 2) := dz_21 (bX3_program_26 10 _ rfl) (bX3_program_26 11 _ rfl)
theorem dX3_program_428 : decode cX3_program 428 = .ok (.baload, 1) := dz_51 (bX3_program_26 12 _ rfl)
theorem dX3_program_429 : decode cX3_program 429 = .ok (.ifCond .eq 10, 3) := dz_153 (bX3_program_26 13 _ rfl) (bX3_program_26 14 _ rfl) (bX3_program_26 15 _ rfl)
theorem dX3_program_432 : decode cX3_program 432 = .ok (.aload_n 0, 1) := dz_42 (bX3_program_27 0 _ rfl)
theorem dX3_program_433 : decode cX3_program 433 = .ok (.iload_n 3, 1) := dz_29 (bX3_program_27 1 _ rfl)
theorem dX3_program_434 : decode cX3_program 434 = .ok (.iload 4, 2) := dz_21 (bX3_program_27 2 _ rfl) (bX3_program_27 3 _ rfl)
theorem dX3_program_436 : decode cX3_program 436 = .ok (.invokevirtual 463, 3) := dz_182 (bX3_program_27 4 _ rfl) (bX3_program_27 5 _ rfl) (bX3_program_27 6 _ rfl)
theorem dX3_program_439 : decode cX3_program 439 = .ok (.iinc 4 1, 3) := dz_132 (bX3_program_27 7 _ rfl) (bX3_program_27 8 _ rfl) (bX3_program_27 9 _ rfl)
theorem dX3_program_442 : decode cX3_program 442 = .ok (.goto (-40), 3) := dz_167 (bX3_program_27 10 _ rfl) (bX3_program_27 11 _ rfl) (bX3_program_27 12 _ rfl)
theorem dX3_program_445 : decode cX3_program 445 = .ok (.iinc 3 1, 3) := dz_132 (bX3_program_27 13 _ rfl) (bX3_program_27 14 _ rfl) (bX3_program_27 15 _ rfl)
theorem dX3_program_448 : decode cX3_program 448 = .ok (.goto (-69), 3) := dz_167 (bX3_program_28 0 _ rfl) (bX3_program_28 1 _ rfl) (bX3_program_28 2 _ rfl)
theorem dX3_program_451 : decode cX3_program 451 = .ok (.aload_n 0, 1) := dz_42 (bX3_program_28 3 _ rfl)
theorem dX3_program_452 : decode cX3_program 452 = .ok (.getfield 409, 3) := dz_180 (bX3_program_28 4 _ rfl) (bX3_program_28 5 _ rfl) (bX3_program_28 6 _ rfl)
theorem dX3_program_455 : decode cX3_program 455 = .ok (.ifCond .lt 12, 3) := dz_155 (bX3_program_28 7 _ rfl) (bX3_program_28 8 _ rfl) (bX3_program_28 9 _ rfl)
theorem dX3_program_458 : decode cX3_program 458 = .ok (.sipush (-10000), 3) := dz_17 (bX3_program_28 10 _ rfl) (bX3_program_28 11 _ rfl) (bX3_program_28 12 _ rfl)
theorem dX3_program_461 : decode cX3_program 461 = .ok (.aload_n 0, 1) := dz_42 (bX3_program_28 13 _ rfl)
theorem dX3_program_462 : decode cX3_program 462 = .ok (.getfield 409, 3) := dz_180 (bX3_program_28 14 _ rfl) (bX3_program_28 15 _ rfl) (bX3_program_29 0 _ rfl)
theorem dX3_program_465 : decode cX3_program 465 = .ok (.isub, 1) := dz_100 (bX3_program_29 1 _ rfl)
theorem dX3_program_466 : decode cX3_program 466 = .ok (.ireturn, 1) := dz_172 (bX3_program_29 2 _ rfl)
theorem dX3_program_467 : decode cX3_program 467 = .ok (.aload_n 0, 1) := dz_42 (bX3_program_29 3 _ rfl)
theorem dX3_program_468 : decode cX3_program 468 = .ok (.iconst 1, 1) := dz_4 (bX3_program_29 4 _ rfl)
theorem dX3_program_469 : decode cX3_program 469 = .ok (.putfield 438, 3) := dz_181 (bX3_program_29 5 _ rfl) (bX3_program_29 6 _ rfl) (bX3_program_29 7 _ rfl)
theorem dX3_program_472 : decode cX3_program 472 = .ok (.aload_n 0, 1) := dz_42 (bX3_program_29 8 _ rfl)
theorem dX3_program_473 : decode cX3_program 473 = .ok (.getfield 397, 3) := dz_180 (bX3_program_29 9 _ rfl) (bX3_program_29 10 _ rfl) (bX3_program_29 11 _ rfl)
theorem dX3_program_476 : decode cX3_program 476 = .ok (.iconst 5, 1) := dz_8 (bX3_program_29 12 _ rfl)
theorem dX3_program_477 : decode cX3_program 477 = .ok (.isub, 1) := dz_100 (bX3_program_29 13 _ rfl)
theorem dX3_program_478 : decode cX3_program 478 = .ok (.ireturn, 1) := dz_172 (bX3_program_29 14 _ rfl)
def m_X3_program_451   (σ : ch_S) : Option (Int32 × ch_S) := if (σ.1 fX3_bad) < 0 then ((ch_bit 1).bind fun _ => (ch_mI σ fX3_hasProgram 1).bind fun σ1 => some (((σ1.1 fX3_classes) - 5, σ1))) else (some (((-10000) - (σ.1 fX3_bad), σ)))
theorem s_X3_program_451 {g : State} {m : Nat} {w : ch_W} {σ : ch_S} {res : Int32 × ch_S} {Q : Outcome → ch_W → Prop} (h : m_X3_program_451  σ = some res) (hk : (fun r => ch_eI Q (r.1, ch_put m w r.2)) res) : ch_FT g false mX3_program 532 451 [some (va_rf (some m)), none, none, none, none] [] (ch_put m w σ) Q := by
  unfold m_X3_program_451 at h
  refine ch_aload_n 0 (some m) dX3_program_451 rfl (mp_gI 58 dX3_program_452 fl_X3_409 rfl (cp_if_lt _ (tgt := 467) dX3_program_455 rfl h (fun h => ?_) (fun h => ?_)))
  · refine ch_aload_n 0 (some m) dX3_program_467 rfl (ch_iconst _ 1 dX3_program_468 rfl (mp_pZ (k := 56) dX3_program_469 fl_X3_438 rfl rfl rfl h (fun σ1 h => ?_)))
    obtain rfl := Option.some.inj h
    exact ch_aload_n 0 (some m) dX3_program_472 rfl (mp_gI 37 dX3_program_473 fl_X3_397 rfl (ch_iconst _ 5 dX3_program_476 rfl (ch_isub _ _ dX3_program_477 (ch_ireturn _ dX3_program_478 rfl rfl hk))))
  · obtain rfl := Option.some.inj h
    exact ch_sipush _ (-10000) dX3_program_458 rfl (ch_aload_n 0 (some m) dX3_program_461 rfl (mp_gI 58 dX3_program_462 fl_X3_409 rfl (ch_isub _ _ dX3_program_465 (ch_ireturn _ dX3_program_466 rfl rfl hk))))

def m_X3_program_402 (x3 : Int32) (x4 : Int32)  (σ : ch_S) : Option ((Int32 × ch_S) ⊕ ((Int32 × ch_S) ⊕ (Int32 × ch_S))) := (ch_ma σ fX3_memberFrom (x3 + 1)).bind fun v1 => if x4 < v1 then (if (σ.1 fX3_bad) < 0 then ((ch_ma σ fX3_isMethod x4).bind fun v2 => if v2 = 0 then (some (.inl (x4 + 1, σ))) else ((m_X3_checkMethod x3 x4 σ).bind fun p3 => some (.inl (x4 + 1, p3)))) else (some (.inr (.inl (x3 + 1, σ))))) else (some (.inr (.inl (x3 + 1, σ))))
theorem s_X3_program_402 {g : State} {m : Nat} {w : ch_W} {x3 : Int32} {x4 : Int32} {σ : ch_S} {res : (Int32 × ch_S) ⊕ ((Int32 × ch_S) ⊕ (Int32 × ch_S))} {Q : Outcome → ch_W → Prop} (h : m_X3_program_402 x3 x4 σ = some res) (hk : (ch_sm (fun s => ch_FT g false mX3_program 532 402 [some (va_rf (some m)), none, none, some (.int x3), some (.int s.1)] [] (ch_put m w s.2) Q) (ch_sm (fun s => ch_FT g false mX3_program 532 379 [some (va_rf (some m)), none, none, some (.int s.1), none] [] (ch_put m w s.2) Q) (fun r => ch_eI Q (r.1, ch_put m w r.2)))) res) : ch_FT g false mX3_program 532 402 [some (va_rf (some m)), none, none, some (.int x3), some (.int x4)] [] (ch_put m w σ) Q := by
  unfold m_X3_program_402 at h
  refine ch_iload 4 _ dX3_program_402 rfl (ch_aload_n 0 (some m) dX3_program_404 rfl (mp_gA 43 dX3_program_405 fl_X3_94 rfl (ch_iload_n 3 _ dX3_program_408 rfl (ch_iconst _ 1 dX3_program_409 rfl (ch_iadd _ _ dX3_program_410 (mp_iald dX3_program_411 mk_43 h (fun v1 h => ?_)))))))
  refine cp_icmp_ge _ _ (tgt := 445) dX3_program_412 rfl h (fun h => ?_) (fun h => ?_)
  · refine ch_iinc 3 _ _ (x3 + 1) (ls1 := [some (va_rf (some m)), none, none, some (.int (x3 + 1)), some (.int x4)]) dX3_program_445 rfl rfl (Nat.le_of_ble_eq_true rfl) rfl (ch_goto 379 dX3_program_448 rfl (ch_FT.wk (ch_wS (ch_wN (ch_wN (ch_wS (ch_wN ch_w0))))) ?_))
    obtain rfl := Option.some.inj h
    exact hk
  · refine ch_aload_n 0 (some m) dX3_program_415 rfl (mp_gI 58 dX3_program_416 fl_X3_409 rfl (cp_if_ge _ (tgt := 445) dX3_program_419 rfl h (fun h => ?_) (fun h => ?_)))
    · refine ch_iinc 3 _ _ (x3 + 1) (ls1 := [some (va_rf (some m)), none, none, some (.int (x3 + 1)), some (.int x4)]) dX3_program_445 rfl rfl (Nat.le_of_ble_eq_true rfl) rfl (ch_goto 379 dX3_program_448 rfl (ch_FT.wk (ch_wS (ch_wN (ch_wN (ch_wS (ch_wN ch_w0))))) ?_))
      obtain rfl := Option.some.inj h
      exact hk
    · refine ch_aload_n 0 (some m) dX3_program_422 rfl (mp_gA 48 dX3_program_423 fl_X3_106 rfl (ch_iload 4 _ dX3_program_426 rfl (mp_zald dX3_program_428 mk_48 h (fun v2 h => ?_))))
      refine cp_if_eq _ (tgt := 439) dX3_program_429 rfl h (fun h => ?_) (fun h => ?_)
      · refine ch_iinc 4 _ _ (x4 + 1) (ls1 := [some (va_rf (some m)), none, none, some (.int x3), some (.int (x4 + 1))]) dX3_program_439 rfl rfl (Nat.le_of_ble_eq_true rfl) rfl (ch_goto 402 dX3_program_442 rfl (ch_FT.wk (ch_wS (ch_wN (ch_wN (ch_wS (ch_wS ch_w0))))) ?_))
        obtain rfl := Option.some.inj h
        exact hk
      · obtain ⟨p3, hp4, h⟩ := ch_bd h
        refine ch_aload_n 0 (some m) dX3_program_432 rfl (ch_iload_n 3 _ dX3_program_433 rfl (ch_iload 4 _ dX3_program_434 rfl (ch_iv yX3_checkMethod prog_14_method_56_code 4 none (ci := 3) (q := (RX3, TX3, 109)) (b := m) (d' := 108) (av := [.int x3, .int x4]) (rest := []) rfl dX3_program_436 q2076 q2078 rfl qs148 q2079 can_X3_checkMethod (Nat.le_of_ble_eq_true rfl) (Nat.le_of_ble_eq_true rfl) ch_put_tag (cp_kV (w1 := ch_put m w p3) (fun Q' hq => s_X3_checkMethod hp4 hq) ?_))))
        refine ch_iinc 4 _ _ (x4 + 1) (ls1 := [some (va_rf (some m)), none, none, some (.int x3), some (.int (x4 + 1))]) dX3_program_439 rfl rfl (Nat.le_of_ble_eq_true rfl) rfl (ch_goto 402 dX3_program_442 rfl (ch_FT.wk (ch_wS (ch_wN (ch_wN (ch_wS (ch_wS ch_w0))))) ?_))
        obtain rfl := Option.some.inj h
        exact hk
theorem sl_X3_program_402 {g : State} {m : Nat} {w : ch_W} {x3 : Int32} {a : Int32 × ch_S} {res : (Int32 × ch_S) ⊕ (Int32 × ch_S)} {Q : Outcome → ch_W → Prop} (h : ch_loop (fun (s : Int32 × ch_S) => m_X3_program_402 x3 s.1 s.2) a = some res) (hk : (ch_sm (fun s => ch_FT g false mX3_program 532 379 [some (va_rf (some m)), none, none, some (.int s.1), none] [] (ch_put m w s.2) Q) (fun r => ch_eI Q (r.1, ch_put m w r.2))) res) : ch_FT g false mX3_program 532 402 [some (va_rf (some m)), none, none, some (.int x3), some (.int a.1)] [] (ch_put m w a.2) Q := by
  refine ch_loop_ind (fun (a : Int32 × ch_S) (r : (Int32 × ch_S) ⊕ (Int32 × ch_S)) => (ch_sm (fun s => ch_FT g false mX3_program 532 379 [some (va_rf (some m)), none, none, some (.int s.1), none] [] (ch_put m w s.2) Q) (fun r => ch_eI Q (r.1, ch_put m w r.2))) r → ch_FT g false mX3_program 532 402 [some (va_rf (some m)), none, none, some (.int x3), some (.int a.1)] [] (ch_put m w a.2) Q) ?_ ?_ a res h hk
  · intro a a2 b h1 ih hk
    exact s_X3_program_402  h1 (ih hk)
  · intro a b h1 hk
    exact s_X3_program_402  h1 hk

def m_X3_program_379 (x3 : Int32)  (σ : ch_S) : Option ((Int32 × ch_S) ⊕ (Int32 × ch_S)) := if x3 < (σ.1 fX3_classes) then (if (σ.1 fX3_bad) < 0 then ((ch_ma σ fX3_memberFrom x3).bind fun v1 => ch_loop (fun (s : Int32 × ch_S) => m_X3_program_402 x3 s.1 s.2) (v1, σ)) else ((m_X3_program_451 σ).bind fun r => some (.inr (r)))) else ((m_X3_program_451 σ).bind fun r => some (.inr (r)))
theorem s_X3_program_379 {g : State} {m : Nat} {w : ch_W} {x3 : Int32} {σ : ch_S} {res : (Int32 × ch_S) ⊕ (Int32 × ch_S)} {Q : Outcome → ch_W → Prop} (h : m_X3_program_379 x3 σ = some res) (hk : (ch_sm (fun s => ch_FT g false mX3_program 532 379 [some (va_rf (some m)), none, none, some (.int s.1), none] [] (ch_put m w s.2) Q) (fun r => ch_eI Q (r.1, ch_put m w r.2))) res) : ch_FT g false mX3_program 532 379 [some (va_rf (some m)), none, none, some (.int x3), none] [] (ch_put m w σ) Q := by
  unfold m_X3_program_379 at h
  refine ch_iload_n 3 _ dX3_program_379 rfl (ch_aload_n 0 (some m) dX3_program_380 rfl (mp_gI 37 dX3_program_381 fl_X3_397 rfl (cp_icmp_ge _ _ (tgt := 451) dX3_program_384 rfl h (fun h => ?_) (fun h => ?_))))
  · obtain ⟨r, hr, h⟩ := ch_bd h
    obtain rfl := Option.some.inj h
    exact ch_FT.wk (ch_wS (ch_wN (ch_wN (ch_wN (ch_wN ch_w0))))) (s_X3_program_451  hr hk)
  · refine ch_aload_n 0 (some m) dX3_program_387 rfl (mp_gI 58 dX3_program_388 fl_X3_409 rfl (cp_if_ge _ (tgt := 451) dX3_program_391 rfl h (fun h => ?_) (fun h => ?_)))
    · obtain ⟨r, hr, h⟩ := ch_bd h
      obtain rfl := Option.some.inj h
      exact ch_FT.wk (ch_wS (ch_wN (ch_wN (ch_wN (ch_wN ch_w0))))) (s_X3_program_451  hr hk)
    · refine ch_aload_n 0 (some m) dX3_program_394 rfl (mp_gA 43 dX3_program_395 fl_X3_94 rfl (ch_iload_n 3 _ dX3_program_398 rfl (mp_iald dX3_program_399 mk_43 h (fun v1 h => ?_))))
      exact ch_istore 4 _ (ls1 := [some (va_rf (some m)), none, none, some (.int x3), some (.int v1)]) dX3_program_400 (Nat.le_of_ble_eq_true rfl) rfl (ch_FT.wk (ch_wS (ch_wN (ch_wN (ch_wS (ch_wS ch_w0))))) (sl_X3_program_402  h hk))
theorem sl_X3_program_379 {g : State} {m : Nat} {w : ch_W} {a : Int32 × ch_S} {res : Int32 × ch_S} {Q : Outcome → ch_W → Prop} (h : ch_loop (fun (s : Int32 × ch_S) => m_X3_program_379 s.1 s.2) a = some res) (hk : (fun r => ch_eI Q (r.1, ch_put m w r.2)) res) : ch_FT g false mX3_program 532 379 [some (va_rf (some m)), none, none, some (.int a.1), none] [] (ch_put m w a.2) Q := by
  refine ch_loop_ind (fun (a : Int32 × ch_S) (r : Int32 × ch_S) => (fun r => ch_eI Q (r.1, ch_put m w r.2)) r → ch_FT g false mX3_program 532 379 [some (va_rf (some m)), none, none, some (.int a.1), none] [] (ch_put m w a.2) Q) ?_ ?_ a res h hk
  · intro a a2 b h1 ih hk
    exact s_X3_program_379  h1 (ih hk)
  · intro a b h1 hk
    exact s_X3_program_379  h1 hk

def m_X3_program_349 (x3 : Int32)  (σ : ch_S) : Option ((Int32 × ch_S) ⊕ (Int32 × ch_S)) := if x3 < (σ.1 fX3_classes) then (if (σ.1 fX3_bad) < 0 then ((m_X3_setSlots x3 σ).bind fun p1 => some (.inl (x3 + 1, p1.2))) else ((ch_loop (fun (s : Int32 × ch_S) => m_X3_program_379 s.1 s.2) (5, σ)).bind fun r => some (.inr (r)))) else ((ch_loop (fun (s : Int32 × ch_S) => m_X3_program_379 s.1 s.2) (5, σ)).bind fun r => some (.inr (r)))
theorem s_X3_program_349 {g : State} {m : Nat} {w : ch_W} {x3 : Int32} {σ : ch_S} {res : (Int32 × ch_S) ⊕ (Int32 × ch_S)} {Q : Outcome → ch_W → Prop} (h : m_X3_program_349 x3 σ = some res) (hk : (ch_sm (fun s => ch_FT g false mX3_program 532 349 [some (va_rf (some m)), none, none, some (.int s.1), none] [] (ch_put m w s.2) Q) (fun r => ch_eI Q (r.1, ch_put m w r.2))) res) : ch_FT g false mX3_program 532 349 [some (va_rf (some m)), none, none, some (.int x3), none] [] (ch_put m w σ) Q := by
  unfold m_X3_program_349 at h
  refine ch_iload_n 3 _ dX3_program_349 rfl (ch_aload_n 0 (some m) dX3_program_350 rfl (mp_gI 37 dX3_program_351 fl_X3_397 rfl (cp_icmp_ge _ _ (tgt := 377) dX3_program_354 rfl h (fun h => ?_) (fun h => ?_))))
  · obtain ⟨r, hr, h⟩ := ch_bd h
    obtain rfl := Option.some.inj h
    exact ch_iconst _ 5 dX3_program_377 rfl (ch_istore_n 3 _ (ls1 := [some (va_rf (some m)), none, none, some (.int 5), none]) dX3_program_378 (Nat.le_of_ble_eq_true rfl) rfl (ch_FT.wk (ch_wS (ch_wN (ch_wN (ch_wS (ch_wN ch_w0))))) (sl_X3_program_379  hr hk)))
  · refine ch_aload_n 0 (some m) dX3_program_357 rfl (mp_gI 58 dX3_program_358 fl_X3_409 rfl (cp_if_ge _ (tgt := 377) dX3_program_361 rfl h (fun h => ?_) (fun h => ?_)))
    · obtain ⟨r, hr, h⟩ := ch_bd h
      obtain rfl := Option.some.inj h
      exact ch_iconst _ 5 dX3_program_377 rfl (ch_istore_n 3 _ (ls1 := [some (va_rf (some m)), none, none, some (.int 5), none]) dX3_program_378 (Nat.le_of_ble_eq_true rfl) rfl (ch_FT.wk (ch_wS (ch_wN (ch_wN (ch_wS (ch_wN ch_w0))))) (sl_X3_program_379  hr hk)))
    · obtain ⟨p1, hp2, h⟩ := ch_bd h
      refine ch_aload_n 0 (some m) dX3_program_364 rfl (ch_iload_n 3 _ dX3_program_365 rfl (ch_iv yX3_setSlots prog_14_method_52_code 5 (some .int) (ci := 3) (q := (RX3, TX3, 109)) (b := m) (d' := 2) (av := [.int x3]) (rest := []) rfl dX3_program_366 q2072 q2074 rfl qs147 q2075 can_X3_setSlots (Nat.le_of_ble_eq_true rfl) (Nat.le_of_ble_eq_true rfl) ch_put_tag (cp_kI (v := p1.1) (w1 := ch_put m w p1.2) (fun Q' hq => s_X3_setSlots hp2 hq) ?_)))
      refine ch_istore 4 _ (ls1 := [some (va_rf (some m)), none, none, some (.int x3), some (.int p1.1)]) dX3_program_369 (Nat.le_of_ble_eq_true rfl) rfl (ch_iinc 3 _ _ (x3 + 1) (ls1 := [some (va_rf (some m)), none, none, some (.int (x3 + 1)), some (.int p1.1)]) dX3_program_371 rfl rfl (Nat.le_of_ble_eq_true rfl) rfl (ch_goto 349 dX3_program_374 rfl (ch_FT.wk (ch_wS (ch_wN (ch_wN (ch_wS (ch_wN ch_w0))))) ?_)))
      obtain rfl := Option.some.inj h
      exact hk
theorem sl_X3_program_349 {g : State} {m : Nat} {w : ch_W} {a : Int32 × ch_S} {res : Int32 × ch_S} {Q : Outcome → ch_W → Prop} (h : ch_loop (fun (s : Int32 × ch_S) => m_X3_program_349 s.1 s.2) a = some res) (hk : (fun r => ch_eI Q (r.1, ch_put m w r.2)) res) : ch_FT g false mX3_program 532 349 [some (va_rf (some m)), none, none, some (.int a.1), none] [] (ch_put m w a.2) Q := by
  refine ch_loop_ind (fun (a : Int32 × ch_S) (r : Int32 × ch_S) => (fun r => ch_eI Q (r.1, ch_put m w r.2)) r → ch_FT g false mX3_program 532 349 [some (va_rf (some m)), none, none, some (.int a.1), none] [] (ch_put m w a.2) Q) ?_ ?_ a res h hk
  · intro a a2 b h1 ih hk
    exact s_X3_program_349  h1 (ih hk)
  · intro a b h1 hk
    exact s_X3_program_349  h1 hk

def m_X3_program_326 (x3 : Int32)  (σ : ch_S) : Option ((Int32 × ch_S) ⊕ (Int32 × ch_S)) := if x3 < (σ.1 fX3_classes) then ((ch_mw σ fX3_fieldMany x3 (-1)).bind fun σ1 => some (.inl (x3 + 1, σ1))) else ((ch_loop (fun (s : Int32 × ch_S) => m_X3_program_349 s.1 s.2) (0, σ)).bind fun r => some (.inr (r)))
theorem s_X3_program_326 {g : State} {m : Nat} {w : ch_W} {x3 : Int32} {σ : ch_S} {res : (Int32 × ch_S) ⊕ (Int32 × ch_S)} {Q : Outcome → ch_W → Prop} (h : m_X3_program_326 x3 σ = some res) (hk : (ch_sm (fun s => ch_FT g false mX3_program 532 326 [some (va_rf (some m)), none, none, some (.int s.1), none] [] (ch_put m w s.2) Q) (fun r => ch_eI Q (r.1, ch_put m w r.2))) res) : ch_FT g false mX3_program 532 326 [some (va_rf (some m)), none, none, some (.int x3), none] [] (ch_put m w σ) Q := by
  unfold m_X3_program_326 at h
  refine ch_iload_n 3 _ dX3_program_326 rfl (ch_aload_n 0 (some m) dX3_program_327 rfl (mp_gI 37 dX3_program_328 fl_X3_397 rfl (cp_icmp_ge _ _ (tgt := 347) dX3_program_331 rfl h (fun h => ?_) (fun h => ?_))))
  · obtain ⟨r, hr, h⟩ := ch_bd h
    obtain rfl := Option.some.inj h
    exact ch_iconst _ 0 dX3_program_347 rfl (ch_istore_n 3 _ (ls1 := [some (va_rf (some m)), none, none, some (.int 0), none]) dX3_program_348 (Nat.le_of_ble_eq_true rfl) rfl (ch_FT.wk (ch_wS (ch_wN (ch_wN (ch_wS (ch_wN ch_w0))))) (sl_X3_program_349  hr hk)))
  · refine ch_aload_n 0 (some m) dX3_program_334 rfl (mp_gA 42 dX3_program_335 fl_X3_91 rfl (ch_iload_n 3 _ dX3_program_338 rfl (ch_iconst _ (-1) dX3_program_339 rfl (mp_iast dX3_program_340 mk_42 rfl h (fun σ1 h => ?_)))))
    refine ch_iinc 3 _ _ (x3 + 1) (ls1 := [some (va_rf (some m)), none, none, some (.int (x3 + 1)), none]) dX3_program_341 rfl rfl (Nat.le_of_ble_eq_true rfl) rfl (ch_goto 326 dX3_program_344 rfl (ch_FT.wk (ch_wS (ch_wN (ch_wN (ch_wS (ch_wN ch_w0))))) ?_))
    obtain rfl := Option.some.inj h
    exact hk
theorem sl_X3_program_326 {g : State} {m : Nat} {w : ch_W} {a : Int32 × ch_S} {res : Int32 × ch_S} {Q : Outcome → ch_W → Prop} (h : ch_loop (fun (s : Int32 × ch_S) => m_X3_program_326 s.1 s.2) a = some res) (hk : (fun r => ch_eI Q (r.1, ch_put m w r.2)) res) : ch_FT g false mX3_program 532 326 [some (va_rf (some m)), none, none, some (.int a.1), none] [] (ch_put m w a.2) Q := by
  refine ch_loop_ind (fun (a : Int32 × ch_S) (r : Int32 × ch_S) => (fun r => ch_eI Q (r.1, ch_put m w r.2)) r → ch_FT g false mX3_program 532 326 [some (va_rf (some m)), none, none, some (.int a.1), none] [] (ch_put m w a.2) Q) ?_ ?_ a res h hk
  · intro a a2 b h1 ih hk
    exact s_X3_program_326  h1 (ih hk)
  · intro a b h1 hk
    exact s_X3_program_326  h1 hk

def m_X3_program_316   (σ : ch_S) : Option (Int32 × ch_S) := (m_X3_isBad (σ.1 fX3_length) σ).bind fun p1 => ch_loop (fun (s : Int32 × ch_S) => m_X3_program_326 s.1 s.2) (0, p1)
theorem s_X3_program_316 {g : State} {m : Nat} {w : ch_W} {σ : ch_S} {res : Int32 × ch_S} {Q : Outcome → ch_W → Prop} (h : m_X3_program_316  σ = some res) (hk : (fun r => ch_eI Q (r.1, ch_put m w r.2)) res) : ch_FT g false mX3_program 532 316 [some (va_rf (some m)), none, none, none, none] [] (ch_put m w σ) Q := by
  unfold m_X3_program_316 at h
  obtain ⟨p1, hp2, h⟩ := ch_bd h
  refine ch_aload_n 0 (some m) dX3_program_316 rfl (ch_aload_n 0 (some m) dX3_program_317 rfl (mp_gI 3 dX3_program_318 fl_X3_240 rfl (ch_iv yX3_isBad prog_14_method_42_code 2 none (ci := 3) (q := (RX3, TX3, 109)) (b := m) (d' := 2) (av := [.int (σ.1 fX3_length)]) (rest := []) rfl dX3_program_321 q2048 q2050 rfl qs141 q2051 can_X3_isBad (Nat.le_of_ble_eq_true rfl) (Nat.le_of_ble_eq_true rfl) ch_put_tag (cp_kV (w1 := ch_put m w p1) (fun Q' hq => s_X3_isBad hp2 hq) ?_))))
  exact ch_iconst _ 0 dX3_program_324 rfl (ch_istore_n 3 _ (ls1 := [some (va_rf (some m)), none, none, some (.int 0), none]) dX3_program_325 (Nat.le_of_ble_eq_true rfl) rfl (ch_FT.wk (ch_wS (ch_wN (ch_wN (ch_wS (ch_wN ch_w0))))) (sl_X3_program_326  h hk)))

def m_X3_program_278  (y0 : Int32) (σ : ch_S) : Option (Int32 × ch_S) := if (σ.1 fX3_bad) < 0 then (if y0 < 0 then (m_X3_program_316 σ) else ((ch_ma σ fX3_memberType y0).bind fun v1 => if v1 = 0 then ((ch_ma σ fX3_parameterFrom (y0 + 1)).bind fun v2 => (ch_ma σ fX3_parameterFrom y0).bind fun v3 => if v3 < v2 then (m_X3_program_316 σ) else (ch_loop (fun (s : Int32 × ch_S) => m_X3_program_326 s.1 s.2) (0, σ))) else (m_X3_program_316 σ))) else (ch_loop (fun (s : Int32 × ch_S) => m_X3_program_326 s.1 s.2) (0, σ))
theorem s_X3_program_278 {g : State} {m : Nat} {w : ch_W} {y0 : Int32} {σ : ch_S} {res : Int32 × ch_S} {Q : Outcome → ch_W → Prop} (h : m_X3_program_278 y0 σ = some res) (hk : (fun r => ch_eI Q (r.1, ch_put m w r.2)) res) : ch_FT g false mX3_program 532 278 [some (va_rf (some m)), none, none, none, none] [.int y0] (ch_put m w σ) Q := by
  unfold m_X3_program_278 at h
  refine ch_istore_n 2 _ (ls1 := [some (va_rf (some m)), none, some (.int y0), none, none]) dX3_program_278 (Nat.le_of_ble_eq_true rfl) rfl (ch_aload_n 0 (some m) dX3_program_279 rfl (mp_gI 58 dX3_program_280 fl_X3_409 rfl (cp_if_ge _ (tgt := 324) dX3_program_283 rfl h (fun h => ?_) (fun h => ?_))))
  · exact ch_iconst _ 0 dX3_program_324 rfl (ch_istore_n 3 _ (ls1 := [some (va_rf (some m)), none, some (.int y0), some (.int 0), none]) dX3_program_325 (Nat.le_of_ble_eq_true rfl) rfl (ch_FT.wk (ch_wS (ch_wN (ch_wN (ch_wS (ch_wN ch_w0))))) (sl_X3_program_326  h hk)))
  · refine ch_iload_n 2 _ dX3_program_286 rfl (cp_if_lt _ (tgt := 316) dX3_program_287 rfl h (fun h => ?_) (fun h => ?_))
    · exact ch_FT.wk (ch_wS (ch_wN (ch_wN (ch_wN (ch_wN ch_w0))))) (s_X3_program_316  h hk)
    · refine ch_aload_n 0 (some m) dX3_program_290 rfl (mp_gA 47 dX3_program_291 fl_X3_103 rfl (ch_iload_n 2 _ dX3_program_294 rfl (mp_iald dX3_program_295 mk_47 h (fun v1 h => ?_))))
      refine cp_if_ne _ (tgt := 316) dX3_program_296 rfl h (fun h => ?_) (fun h => ?_)
      · exact ch_FT.wk (ch_wS (ch_wN (ch_wN (ch_wN (ch_wN ch_w0))))) (s_X3_program_316  h hk)
      · refine ch_aload_n 0 (some m) dX3_program_299 rfl (mp_gA 49 dX3_program_300 fl_X3_110 rfl (ch_iload_n 2 _ dX3_program_303 rfl (ch_iconst _ 1 dX3_program_304 rfl (ch_iadd _ _ dX3_program_305 (mp_iald dX3_program_306 mk_49 h (fun v2 h => ?_))))))
        refine ch_aload_n 0 (some m) dX3_program_307 rfl (mp_gA 49 dX3_program_308 fl_X3_110 rfl (ch_iload_n 2 _ dX3_program_311 rfl (mp_iald dX3_program_312 mk_49 h (fun v3 h => ?_))))
        refine cp_icmp_le _ _ (tgt := 324) dX3_program_313 rfl h (fun h => ?_) (fun h => ?_)
        · exact ch_iconst _ 0 dX3_program_324 rfl (ch_istore_n 3 _ (ls1 := [some (va_rf (some m)), none, some (.int y0), some (.int 0), none]) dX3_program_325 (Nat.le_of_ble_eq_true rfl) rfl (ch_FT.wk (ch_wS (ch_wN (ch_wN (ch_wS (ch_wN ch_w0))))) (sl_X3_program_326  h hk)))
        · exact ch_FT.wk (ch_wS (ch_wN (ch_wN (ch_wN (ch_wN ch_w0))))) (s_X3_program_316  h hk)

def m_X3_program_253  (y0 : Int32) (σ : ch_S) : Option (Int32 × ch_S) := (ch_mI σ fX3_mainClass y0).bind fun σ1 => if (σ1.1 fX3_mainClass) < 0 then (m_X3_program_278 (-1) σ1) else ((m_X3_memberOf (σ1.1 fX3_mainClass) 6 1 σ1).bind fun v2 => m_X3_program_278 v2 σ1)
theorem s_X3_program_253 {g : State} {m : Nat} {w : ch_W} {y0 : Int32} {σ : ch_S} {res : Int32 × ch_S} {Q : Outcome → ch_W → Prop} (h : m_X3_program_253 y0 σ = some res) (hk : (fun r => ch_eI Q (r.1, ch_put m w r.2)) res) : ch_FT g false mX3_program 532 253 [some (va_rf (some m)), none, none, none, none] [.int y0, va_rf (some m)] (ch_put m w σ) Q := by
  unfold m_X3_program_253 at h
  refine mp_pI (k := 59) dX3_program_253 fl_X3_457 rfl rfl rfl h (fun σ1 h => ?_)
  refine ch_aload_n 0 (some m) dX3_program_256 rfl (mp_gI 59 dX3_program_257 fl_X3_457 rfl (cp_if_ge _ (tgt := 267) dX3_program_260 rfl h (fun h => ?_) (fun h => ?_)))
  · obtain ⟨v2, hp3, h⟩ := ch_bd h
    refine ch_aload_n 0 (some m) dX3_program_267 rfl (ch_aload_n 0 (some m) dX3_program_268 rfl (mp_gI 59 dX3_program_269 fl_X3_457 rfl (ch_bipush _ 6 dX3_program_272 rfl (ch_iconst _ 1 dX3_program_274 rfl (ch_iv yX3_memberOf prog_14_method_47_code 6 (some .int) (ci := 3) (q := (RX3, TX3, 109)) (b := m) (d' := 2) (av := [.int (σ1.1 fX3_mainClass), .int 6, .int 1]) (rest := []) rfl dX3_program_275 q2064 q2066 rfl qs145 q2067 can_X3_memberOf (Nat.le_of_ble_eq_true rfl) (Nat.le_of_ble_eq_true rfl) ch_put_tag (cp_kI (v := v2) (w1 := ch_put m w σ1) (fun Q' hq => s_X3_memberOf hp3 hq) ?_))))))
    exact ch_FT.wk (ch_wS (ch_wN (ch_wN (ch_wN (ch_wN ch_w0))))) (s_X3_program_278  h hk)
  · exact ch_iconst _ (-1) dX3_program_263 rfl (ch_goto 278 dX3_program_264 rfl (ch_FT.wk (ch_wS (ch_wN (ch_wN (ch_wN (ch_wN ch_w0))))) (s_X3_program_278  h hk)))

def m_X3_program_236   (σ : ch_S) : Option (Int32 × ch_S) := if (σ.1 fX3_bad) < 0 then ((m_X3_classOf 5 σ).bind fun v1 => m_X3_program_253 v1 σ) else (m_X3_program_253 (-1) σ)
theorem s_X3_program_236 {g : State} {m : Nat} {w : ch_W} {σ : ch_S} {res : Int32 × ch_S} {Q : Outcome → ch_W → Prop} (h : m_X3_program_236  σ = some res) (hk : (fun r => ch_eI Q (r.1, ch_put m w r.2)) res) : ch_FT g false mX3_program 532 236 [some (va_rf (some m)), none, none, none, none] [] (ch_put m w σ) Q := by
  unfold m_X3_program_236 at h
  refine ch_aload_n 0 (some m) dX3_program_236 rfl (ch_aload_n 0 (some m) dX3_program_237 rfl (mp_gI 58 dX3_program_238 fl_X3_409 rfl (cp_if_ge _ (tgt := 252) dX3_program_241 rfl h (fun h => ?_) (fun h => ?_))))
  · exact ch_iconst _ (-1) dX3_program_252 rfl (ch_FT.wk (ch_wS (ch_wN (ch_wN (ch_wN (ch_wN ch_w0))))) (s_X3_program_253  h hk))
  · obtain ⟨v1, hp2, h⟩ := ch_bd h
    refine ch_aload_n 0 (some m) dX3_program_244 rfl (ch_iconst _ 5 dX3_program_245 rfl (ch_iv yX3_classOf prog_14_method_43_code 3 (some .int) (ci := 3) (q := (RX3, TX3, 109)) (b := m) (d' := 2) (av := [.int 5]) (rest := [va_rf (some m)]) rfl dX3_program_246 q2044 q2046 rfl qs140 q2047 can_X3_classOf (Nat.le_of_ble_eq_true rfl) (ch_hw (Nat.le_of_ble_eq_true rfl)) ch_put_tag (cp_kI (v := v1) (w1 := ch_put m w σ) (fun Q' hq => s_X3_classOf hp2 hq) ?_)))
    exact ch_goto 253 dX3_program_249 rfl (ch_FT.wk (ch_wS (ch_wN (ch_wN (ch_wN (ch_wN ch_w0))))) (s_X3_program_253  h hk))

def m_X3_program_184   (σ : ch_S) : Option ((Int32 × ch_S) ⊕ (Int32 × ch_S)) := if (σ.1 fX3_wrong) < 0 then (if (σ.1 fX3_word) = 0 then (some (.inl (0, σ))) else (some (.inl (1, σ)))) else (some (.inl (0, σ)))
theorem s_X3_program_184 {g : State} {m : Nat} {w : ch_W} {σ : ch_S} {res : (Int32 × ch_S) ⊕ (Int32 × ch_S)} {Q : Outcome → ch_W → Prop} (h : m_X3_program_184  σ = some res) (hk : (ch_sm (fun s => ch_FT g false mX3_program 532 164 [some (va_rf (some m)), some (.int s.1), none, none, none] [] (ch_put m w s.2) Q) (fun r => ch_eI Q (r.1, ch_put m w r.2))) res) : ch_FT g false mX3_program 532 184 [some (va_rf (some m)), none, none, none, none] [] (ch_put m w σ) Q := by
  unfold m_X3_program_184 at h
  refine ch_aload_n 0 (some m) dX3_program_184 rfl (mp_gI 9 dX3_program_185 fl_X3_283 rfl (cp_if_ge _ (tgt := 202) dX3_program_188 rfl h (fun h => ?_) (fun h => ?_)))
  · refine ch_iconst _ 0 dX3_program_202 rfl (ch_istore_n 1 _ (ls1 := [some (va_rf (some m)), some (.int 0), none, none, none]) dX3_program_203 (Nat.le_of_ble_eq_true rfl) rfl (ch_goto 164 dX3_program_204 rfl (ch_FT.wk (ch_wS (ch_wS (ch_wN (ch_wN (ch_wN ch_w0))))) ?_)))
    obtain rfl := Option.some.inj h
    exact hk
  · refine ch_aload_n 0 (some m) dX3_program_191 rfl (mp_gI 5 dX3_program_192 fl_X3_263 rfl (cp_if_eq _ (tgt := 202) dX3_program_195 rfl h (fun h => ?_) (fun h => ?_)))
    · refine ch_iconst _ 0 dX3_program_202 rfl (ch_istore_n 1 _ (ls1 := [some (va_rf (some m)), some (.int 0), none, none, none]) dX3_program_203 (Nat.le_of_ble_eq_true rfl) rfl (ch_goto 164 dX3_program_204 rfl (ch_FT.wk (ch_wS (ch_wS (ch_wN (ch_wN (ch_wN ch_w0))))) ?_)))
      obtain rfl := Option.some.inj h
      exact hk
    · refine ch_iconst _ 1 dX3_program_198 rfl (ch_goto 203 dX3_program_199 rfl (ch_istore_n 1 _ (ls1 := [some (va_rf (some m)), some (.int 1), none, none, none]) dX3_program_203 (Nat.le_of_ble_eq_true rfl) rfl (ch_goto 164 dX3_program_204 rfl (ch_FT.wk (ch_wS (ch_wS (ch_wN (ch_wN (ch_wN ch_w0))))) ?_))))
      obtain rfl := Option.some.inj h
      exact hk

def m_X3_program_164 (x1 : Int32)  (σ : ch_S) : Option ((Int32 × ch_S) ⊕ (Int32 × ch_S)) := if x1 = 0 then (if (σ.1 fX3_wrong) < 0 then ((m_X3_checkClasses σ).bind fun p1 => if (p1.1 fX3_bad) < 0 then ((m_X3_checkMembers p1).bind fun p3 => (m_X3_program_236 p3).bind fun r => some (.inr (r))) else ((m_X3_program_236 p1).bind fun r => some (.inr (r)))) else (some (.inr (((-1) - (σ.1 fX3_wrong), σ))))) else ((m_X3_isKey 1 σ).bind fun v5 => (m_X3_passes v5 σ).bind fun p7 => if p7.1 = 0 then (m_X3_program_184 p7.2) else ((m_X3_readClass p7.2).bind fun p9 => m_X3_program_184 p9))
theorem s_X3_program_164 {g : State} {m : Nat} {w : ch_W} {x1 : Int32} {σ : ch_S} {res : (Int32 × ch_S) ⊕ (Int32 × ch_S)} {Q : Outcome → ch_W → Prop} (h : m_X3_program_164 x1 σ = some res) (hk : (ch_sm (fun s => ch_FT g false mX3_program 532 164 [some (va_rf (some m)), some (.int s.1), none, none, none] [] (ch_put m w s.2) Q) (fun r => ch_eI Q (r.1, ch_put m w r.2))) res) : ch_FT g false mX3_program 532 164 [some (va_rf (some m)), some (.int x1), none, none, none] [] (ch_put m w σ) Q := by
  unfold m_X3_program_164 at h
  refine ch_iload_n 1 _ dX3_program_164 rfl (cp_if_eq _ (tgt := 207) dX3_program_165 rfl h (fun h => ?_) (fun h => ?_))
  · refine ch_aload_n 0 (some m) dX3_program_207 rfl (mp_gI 9 dX3_program_208 fl_X3_283 rfl (cp_if_lt _ (tgt := 221) dX3_program_211 rfl h (fun h => ?_) (fun h => ?_)))
    · obtain ⟨p1, hp2, h⟩ := ch_bd h
      refine ch_aload_n 0 (some m) dX3_program_221 rfl (ch_iv yX3_checkClasses prog_14_method_48_code 4 none (ci := 3) (q := (RX3, TX3, 109)) (b := m) (d' := 3) (av := []) (rest := []) rfl dX3_program_222 q2040 q2042 rfl qs139 q2043 can_X3_checkClasses (Nat.le_of_ble_eq_true rfl) (Nat.le_of_ble_eq_true rfl) ch_put_tag (cp_kV (w1 := ch_put m w p1) (fun Q' hq => s_X3_checkClasses hp2 hq) ?_))
      refine ch_aload_n 0 (some m) dX3_program_225 rfl (mp_gI 58 dX3_program_226 fl_X3_409 rfl (cp_if_ge _ (tgt := 236) dX3_program_229 rfl h (fun h => ?_) (fun h => ?_)))
      · obtain ⟨r, hr, h⟩ := ch_bd h
        obtain rfl := Option.some.inj h
        exact ch_FT.wk (ch_wS (ch_wN (ch_wN (ch_wN (ch_wN ch_w0))))) (s_X3_program_236  hr hk)
      · obtain ⟨p3, hp4, h⟩ := ch_bd h
        refine ch_aload_n 0 (some m) dX3_program_232 rfl (ch_iv yX3_checkMembers prog_14_method_51_code 4 none (ci := 3) (q := (RX3, TX3, 109)) (b := m) (d' := 4) (av := []) (rest := []) rfl dX3_program_233 q2052 q2054 rfl qs142 q2055 can_X3_checkMembers (Nat.le_of_ble_eq_true rfl) (Nat.le_of_ble_eq_true rfl) ch_put_tag (cp_kV (w1 := ch_put m w p3) (fun Q' hq => s_X3_checkMembers hp4 hq) ?_))
        obtain ⟨r, hr, h⟩ := ch_bd h
        obtain rfl := Option.some.inj h
        exact ch_FT.wk (ch_wS (ch_wN (ch_wN (ch_wN (ch_wN ch_w0))))) (s_X3_program_236  hr hk)
    · obtain rfl := Option.some.inj h
      exact ch_iconst _ (-1) dX3_program_214 rfl (ch_aload_n 0 (some m) dX3_program_215 rfl (mp_gI 9 dX3_program_216 fl_X3_283 rfl (ch_isub _ _ dX3_program_219 (ch_ireturn _ dX3_program_220 rfl rfl hk))))
  · obtain ⟨v5, hp6, h⟩ := ch_bd h
    refine ch_aload_n 0 (some m) dX3_program_168 rfl (ch_aload_n 0 (some m) dX3_program_169 rfl (ch_iconst _ 1 dX3_program_170 rfl (ch_iv yX3_isKey prog_14_method_15_code 2 (some .boolean) (ci := 3) (q := (RX3, TX3, 109)) (b := m) (d' := 2) (av := [.int 1]) (rest := [va_rf (some m)]) rfl dX3_program_171 q1922 q1924 rfl qs110 q1925 can_X3_isKey (Nat.le_of_ble_eq_true rfl) (ch_hw (Nat.le_of_ble_eq_true rfl)) ch_put_tag (cp_kI (v := v5) (w1 := ch_put m w σ) (fun Q' hq => s_X3_isKey hp6 hq) ?_))))
    obtain ⟨p7, hp8, h⟩ := ch_bd h
    refine ch_iv yX3_passes prog_14_method_16_code 3 (some .boolean) (ci := 3) (q := (RX3, TX3, 109)) (b := m) (d' := 5) (av := [.int v5]) (rest := []) rfl dX3_program_174 q1926 q1928 rfl qs111 q1929 can_X3_passes (Nat.le_of_ble_eq_true rfl) (Nat.le_of_ble_eq_true rfl) ch_put_tag (cp_kI (v := p7.1) (w1 := ch_put m w p7.2) (fun Q' hq => s_X3_passes hp8 hq) ?_)
    refine cp_if_eq _ (tgt := 184) dX3_program_177 rfl h (fun h => ?_) (fun h => ?_)
    · exact ch_FT.wk (ch_wS (ch_wN (ch_wN (ch_wN (ch_wN ch_w0))))) (s_X3_program_184  h hk)
    · obtain ⟨p9, hp10, h⟩ := ch_bd h
      refine ch_aload_n 0 (some m) dX3_program_180 rfl (ch_iv yX3_readClass prog_14_method_40_code 2 none (ci := 3) (q := (RX3, TX3, 109)) (b := m) (d' := 531) (av := []) (rest := []) rfl dX3_program_181 q1934 q1936 rfl qs113 q1937 can_X3_readClass (Nat.le_of_ble_eq_true rfl) (Nat.le_of_ble_eq_true rfl) ch_put_tag (cp_kV (w1 := ch_put m w p9) (fun Q' hq => s_X3_readClass hp10 hq) ?_))
      exact ch_FT.wk (ch_wS (ch_wN (ch_wN (ch_wN (ch_wN ch_w0))))) (s_X3_program_184  h hk)
theorem sl_X3_program_164 {g : State} {m : Nat} {w : ch_W} {a : Int32 × ch_S} {res : Int32 × ch_S} {Q : Outcome → ch_W → Prop} (h : ch_loop (fun (s : Int32 × ch_S) => m_X3_program_164 s.1 s.2) a = some res) (hk : (fun r => ch_eI Q (r.1, ch_put m w r.2)) res) : ch_FT g false mX3_program 532 164 [some (va_rf (some m)), some (.int a.1), none, none, none] [] (ch_put m w a.2) Q := by
  refine ch_loop_ind (fun (a : Int32 × ch_S) (r : Int32 × ch_S) => (fun r => ch_eI Q (r.1, ch_put m w r.2)) r → ch_FT g false mX3_program 532 164 [some (va_rf (some m)), some (.int a.1), none, none, none] [] (ch_put m w a.2) Q) ?_ ?_ a res h hk
  · intro a a2 b h1 ih hk
    exact s_X3_program_164  h1 (ih hk)
  · intro a b h1 hk
    exact s_X3_program_164  h1 hk

def m_X3_program_107 (x1 : Int32)  (σ : ch_S) : Option ((Int32 × ch_S) ⊕ (Int32 × ch_S)) := if x1 < 5 then ((ch_mw σ fX3_classId x1 x1).bind fun σ6 => (ch_mw σ6 fX3_parent x1 (-1)).bind fun σ7 => (ch_mw σ7 fX3_memberFrom x1 0).bind fun σ8 => some (.inl (x1 + 1, σ8))) else ((ch_mw σ fX3_memberFrom 5 0).bind fun σ1 => (ch_mw σ1 fX3_parameterFrom 0 0).bind fun σ2 => (ch_mI σ2 fX3_classes 5).bind fun σ3 => (m_X3_next σ3).bind fun p4 => (ch_loop (fun (s : Int32 × ch_S) => m_X3_program_164 s.1 s.2) (1, p4)).bind fun r => some (.inr (r)))
theorem s_X3_program_107 {g : State} {m : Nat} {w : ch_W} {x1 : Int32} {σ : ch_S} {res : (Int32 × ch_S) ⊕ (Int32 × ch_S)} {Q : Outcome → ch_W → Prop} (h : m_X3_program_107 x1 σ = some res) (hk : (ch_sm (fun s => ch_FT g false mX3_program 532 107 [some (va_rf (some m)), some (.int s.1), none, none, none] [] (ch_put m w s.2) Q) (fun r => ch_eI Q (r.1, ch_put m w r.2))) res) : ch_FT g false mX3_program 532 107 [some (va_rf (some m)), some (.int x1), none, none, none] [] (ch_put m w σ) Q := by
  unfold m_X3_program_107 at h
  refine ch_iload_n 1 _ dX3_program_107 rfl (ch_iconst _ 5 dX3_program_108 rfl (cp_icmp_ge _ _ (tgt := 139) dX3_program_109 rfl h (fun h => ?_) (fun h => ?_)))
  · refine ch_aload_n 0 (some m) dX3_program_139 rfl (mp_gA 43 dX3_program_140 fl_X3_94 rfl (ch_iconst _ 5 dX3_program_143 rfl (ch_iconst _ 0 dX3_program_144 rfl (mp_iast dX3_program_145 mk_43 rfl h (fun σ1 h => ?_)))))
    refine ch_aload_n 0 (some m) dX3_program_146 rfl (mp_gA 49 dX3_program_147 fl_X3_110 rfl (ch_iconst _ 0 dX3_program_150 rfl (ch_iconst _ 0 dX3_program_151 rfl (mp_iast dX3_program_152 mk_49 rfl h (fun σ2 h => ?_)))))
    refine ch_aload_n 0 (some m) dX3_program_153 rfl (ch_iconst _ 5 dX3_program_154 rfl (mp_pI (k := 37) dX3_program_155 fl_X3_397 rfl rfl rfl h (fun σ3 h => ?_)))
    obtain ⟨p4, hp5, h⟩ := ch_bd h
    refine ch_aload_n 0 (some m) dX3_program_158 rfl (ch_iv yX3_next prog_14_method_12_code 4 none (ci := 3) (q := (RX3, TX3, 109)) (b := m) (d' := 4) (av := []) (rest := []) rfl dX3_program_159 q1884 q1886 rfl qs105 q1887 can_X3_next (Nat.le_of_ble_eq_true rfl) (Nat.le_of_ble_eq_true rfl) ch_put_tag (cp_kV (w1 := ch_put m w p4) (fun Q' hq => s_X3_next hp5 hq) ?_))
    obtain ⟨r, hr, h⟩ := ch_bd h
    obtain rfl := Option.some.inj h
    exact ch_iconst _ 1 dX3_program_162 rfl (ch_istore_n 1 _ (ls1 := [some (va_rf (some m)), some (.int 1), none, none, none]) dX3_program_163 (Nat.le_of_ble_eq_true rfl) rfl (ch_FT.wk (ch_wS (ch_wS (ch_wN (ch_wN (ch_wN ch_w0))))) (sl_X3_program_164  hr hk)))
  · refine ch_aload_n 0 (some m) dX3_program_112 rfl (mp_gA 38 dX3_program_113 fl_X3_79 rfl (ch_iload_n 1 _ dX3_program_116 rfl (ch_iload_n 1 _ dX3_program_117 rfl (mp_iast dX3_program_118 mk_38 rfl h (fun σ6 h => ?_)))))
    refine ch_aload_n 0 (some m) dX3_program_119 rfl (mp_gA 41 dX3_program_120 fl_X3_88 rfl (ch_iload_n 1 _ dX3_program_123 rfl (ch_iconst _ (-1) dX3_program_124 rfl (mp_iast dX3_program_125 mk_41 rfl h (fun σ7 h => ?_)))))
    refine ch_aload_n 0 (some m) dX3_program_126 rfl (mp_gA 43 dX3_program_127 fl_X3_94 rfl (ch_iload_n 1 _ dX3_program_130 rfl (ch_iconst _ 0 dX3_program_131 rfl (mp_iast dX3_program_132 mk_43 rfl h (fun σ8 h => ?_)))))
    refine ch_iinc 1 _ _ (x1 + 1) (ls1 := [some (va_rf (some m)), some (.int (x1 + 1)), none, none, none]) dX3_program_133 rfl rfl (Nat.le_of_ble_eq_true rfl) rfl (ch_goto 107 dX3_program_136 rfl (ch_FT.wk (ch_wS (ch_wS (ch_wN (ch_wN (ch_wN ch_w0))))) ?_))
    obtain rfl := Option.some.inj h
    exact hk
theorem sl_X3_program_107 {g : State} {m : Nat} {w : ch_W} {a : Int32 × ch_S} {res : Int32 × ch_S} {Q : Outcome → ch_W → Prop} (h : ch_loop (fun (s : Int32 × ch_S) => m_X3_program_107 s.1 s.2) a = some res) (hk : (fun r => ch_eI Q (r.1, ch_put m w r.2)) res) : ch_FT g false mX3_program 532 107 [some (va_rf (some m)), some (.int a.1), none, none, none] [] (ch_put m w a.2) Q := by
  refine ch_loop_ind (fun (a : Int32 × ch_S) (r : Int32 × ch_S) => (fun r => ch_eI Q (r.1, ch_put m w r.2)) r → ch_FT g false mX3_program 532 107 [some (va_rf (some m)), some (.int a.1), none, none, none] [] (ch_put m w a.2) Q) ?_ ?_ a res h hk
  · intro a a2 b h1 ih hk
    exact s_X3_program_107  h1 (ih hk)
  · intro a b h1 hk
    exact s_X3_program_107  h1 hk

def m_X3_program_10 (x1 : Int32)  (σ : ch_S) : Option ((Int32 × ch_S) ⊕ (Int32 × ch_S)) := if x1 < (σ.1 fX3_taped) then ((ch_ma σ fX3_tape x1).bind fun v16 => (ch_mw σ fX3_source x1 v16).bind fun σ17 => some (.inl (x1 + 1, σ17))) else ((ch_mI σ fX3_taped 0).bind fun σ1 => (ch_bit 0).bind fun _ => (ch_mI σ1 fX3_hasProgram 0).bind fun σ2 => (ch_bit 0).bind fun _ => (ch_mI σ2 fX3_hasRun 0).bind fun σ3 => (ch_mI σ3 fX3_at 0).bind fun σ4 => (ch_mI σ4 fX3_wrong (-1)).bind fun σ5 => (ch_mI σ5 fX3_bad (-1)).bind fun σ6 => (ch_mI σ6 fX3_deep 0).bind fun σ7 => (ch_mI σ7 fX3_nodes 0).bind fun σ8 => (ch_mI σ8 fX3_listed 0).bind fun σ9 => (ch_mI σ9 fX3_held 0).bind fun σ10 => (ch_mI σ10 fX3_statements 0).bind fun σ11 => (ch_mI σ11 fX3_members 0).bind fun σ12 => (ch_mI σ12 fX3_parameters 0).bind fun σ13 => (m_X3_knownNames σ13).bind fun p14 => (ch_loop (fun (s : Int32 × ch_S) => m_X3_program_107 s.1 s.2) (0, p14)).bind fun r => some (.inr (r)))
theorem s_X3_program_10 {g : State} {m : Nat} {w : ch_W} {x1 : Int32} {σ : ch_S} {res : (Int32 × ch_S) ⊕ (Int32 × ch_S)} {Q : Outcome → ch_W → Prop} (h : m_X3_program_10 x1 σ = some res) (hk : (ch_sm (fun s => ch_FT g false mX3_program 532 10 [some (va_rf (some m)), some (.int s.1), none, none, none] [] (ch_put m w s.2) Q) (fun r => ch_eI Q (r.1, ch_put m w r.2))) res) : ch_FT g false mX3_program 532 10 [some (va_rf (some m)), some (.int x1), none, none, none] [] (ch_put m w σ) Q := by
  unfold m_X3_program_10 at h
  refine ch_iload_n 1 _ dX3_program_10 rfl (ch_aload_n 0 (some m) dX3_program_11 rfl (mp_gI 1 dX3_program_12 fl_X3_435 rfl (cp_icmp_ge _ _ (tgt := 36) dX3_program_15 rfl h (fun h => ?_) (fun h => ?_))))
  · refine ch_aload_n 0 (some m) dX3_program_36 rfl (ch_iconst _ 0 dX3_program_37 rfl (mp_pI (k := 1) dX3_program_38 fl_X3_435 rfl rfl rfl h (fun σ1 h => ?_)))
    refine ch_aload_n 0 (some m) dX3_program_41 rfl (ch_iconst _ 0 dX3_program_42 rfl (mp_pZ (k := 56) dX3_program_43 fl_X3_438 rfl rfl rfl h (fun σ2 h => ?_)))
    refine ch_aload_n 0 (some m) dX3_program_46 rfl (ch_iconst _ 0 dX3_program_47 rfl (mp_pZ (k := 69) dX3_program_48 fl_X3_442 rfl rfl rfl h (fun σ3 h => ?_)))
    refine ch_aload_n 0 (some m) dX3_program_51 rfl (ch_iconst _ 0 dX3_program_52 rfl (mp_pI (k := 4) dX3_program_53 fl_X3_253 rfl rfl rfl h (fun σ4 h => ?_)))
    refine ch_aload_n 0 (some m) dX3_program_56 rfl (ch_iconst _ (-1) dX3_program_57 rfl (mp_pI (k := 9) dX3_program_58 fl_X3_283 rfl rfl rfl h (fun σ5 h => ?_)))
    refine ch_aload_n 0 (some m) dX3_program_61 rfl (ch_iconst _ (-1) dX3_program_62 rfl (mp_pI (k := 58) dX3_program_63 fl_X3_409 rfl rfl rfl h (fun σ6 h => ?_)))
    refine ch_aload_n 0 (some m) dX3_program_66 rfl (ch_iconst _ 0 dX3_program_67 rfl (mp_pI (k := 10) dX3_program_68 fl_X3_292 rfl rfl rfl h (fun σ7 h => ?_)))
    refine ch_aload_n 0 (some m) dX3_program_71 rfl (ch_iconst _ 0 dX3_program_72 rfl (mp_pI (k := 15) dX3_program_73 fl_X3_302 rfl rfl rfl h (fun σ8 h => ?_)))
    refine ch_aload_n 0 (some m) dX3_program_76 rfl (ch_iconst _ 0 dX3_program_77 rfl (mp_pI (k := 21) dX3_program_78 fl_X3_359 rfl rfl rfl h (fun σ9 h => ?_)))
    refine ch_aload_n 0 (some m) dX3_program_81 rfl (ch_iconst _ 0 dX3_program_82 rfl (mp_pI (k := 23) dX3_program_83 fl_X3_356 rfl rfl rfl h (fun σ10 h => ?_)))
    refine ch_aload_n 0 (some m) dX3_program_86 rfl (ch_iconst _ 0 dX3_program_87 rfl (mp_pI (k := 25) dX3_program_88 fl_X3_366 rfl rfl rfl h (fun σ11 h => ?_)))
    refine ch_aload_n 0 (some m) dX3_program_91 rfl (ch_iconst _ 0 dX3_program_92 rfl (mp_pI (k := 44) dX3_program_93 fl_X3_403 rfl rfl rfl h (fun σ12 h => ?_)))
    refine ch_aload_n 0 (some m) dX3_program_96 rfl (ch_iconst _ 0 dX3_program_97 rfl (mp_pI (k := 53) dX3_program_98 fl_X3_406 rfl rfl rfl h (fun σ13 h => ?_)))
    obtain ⟨p14, hp15, h⟩ := ch_bd h
    refine ch_aload_n 0 (some m) dX3_program_101 rfl (ch_iv yX3_knownNames prog_14_method_3_code 5 none (ci := 3) (q := (RX3, TX3, 109)) (b := m) (d' := 2) (av := []) (rest := []) rfl dX3_program_102 q1880 q1882 rfl qs104 q1883 can_X3_knownNames (Nat.le_of_ble_eq_true rfl) (Nat.le_of_ble_eq_true rfl) ch_put_tag (cp_kV (w1 := ch_put m w p14) (fun Q' hq => s_X3_knownNames hp15 hq) ?_))
    obtain ⟨r, hr, h⟩ := ch_bd h
    obtain rfl := Option.some.inj h
    exact ch_iconst _ 0 dX3_program_105 rfl (ch_istore_n 1 _ (ls1 := [some (va_rf (some m)), some (.int 0), none, none, none]) dX3_program_106 (Nat.le_of_ble_eq_true rfl) rfl (ch_FT.wk (ch_wS (ch_wS (ch_wN (ch_wN (ch_wN ch_w0))))) (sl_X3_program_107  hr hk)))
  · refine ch_aload_n 0 (some m) dX3_program_18 rfl (mp_gA 2 dX3_program_19 fl_X3_13 rfl (ch_iload_n 1 _ dX3_program_22 rfl (ch_aload_n 0 (some m) dX3_program_23 rfl (mp_gA 0 dX3_program_24 fl_X3_7 rfl (ch_iload_n 1 _ dX3_program_27 rfl (mp_iald dX3_program_28 mk_0 h (fun v16 h => ?_)))))))
    refine mp_iast dX3_program_29 mk_2 rfl h (fun σ17 h => ?_)
    refine ch_iinc 1 _ _ (x1 + 1) (ls1 := [some (va_rf (some m)), some (.int (x1 + 1)), none, none, none]) dX3_program_30 rfl rfl (Nat.le_of_ble_eq_true rfl) rfl (ch_goto 10 dX3_program_33 rfl (ch_FT.wk (ch_wS (ch_wS (ch_wN (ch_wN (ch_wN ch_w0))))) ?_))
    obtain rfl := Option.some.inj h
    exact hk
theorem sl_X3_program_10 {g : State} {m : Nat} {w : ch_W} {a : Int32 × ch_S} {res : Int32 × ch_S} {Q : Outcome → ch_W → Prop} (h : ch_loop (fun (s : Int32 × ch_S) => m_X3_program_10 s.1 s.2) a = some res) (hk : (fun r => ch_eI Q (r.1, ch_put m w r.2)) res) : ch_FT g false mX3_program 532 10 [some (va_rf (some m)), some (.int a.1), none, none, none] [] (ch_put m w a.2) Q := by
  refine ch_loop_ind (fun (a : Int32 × ch_S) (r : Int32 × ch_S) => (fun r => ch_eI Q (r.1, ch_put m w r.2)) r → ch_FT g false mX3_program 532 10 [some (va_rf (some m)), some (.int a.1), none, none, none] [] (ch_put m w a.2) Q) ?_ ?_ a res h hk
  · intro a a2 b h1 ih hk
    exact s_X3_program_10  h1 (ih hk)
  · intro a b h1 hk
    exact s_X3_program_10  h1 hk

def m_X3_program  (σ : ch_S) : Option (Int32 × ch_S) := (ch_mI σ fX3_length (σ.1 fX3_taped)).bind fun σ1 => ch_loop (fun (s : Int32 × ch_S) => m_X3_program_10 s.1 s.2) (0, σ1)
theorem s_X3_program {g : State} {m : Nat} {w : ch_W} {σ : ch_S} {res : Int32 × ch_S} {Q : Outcome → ch_W → Prop} (h : m_X3_program  σ = some res) (hk : (fun r => ch_eI Q (r.1, ch_put m w r.2)) res) : ch_CT g false yX3_program 532 [.ref m] (ch_put m w σ) Q := by
  unfold m_X3_program at h
  refine ch_ctL mX3_program (ls := [some (va_rf (some m)), none, none, none, none]) q1879 rfl (ch_lyr (r := some m) ch_ly0) (Nat.le_of_ble_eq_true rfl) rfl ?_
  refine ch_aload_n 0 (some m) dX3_program_0 rfl (ch_aload_n 0 (some m) dX3_program_1 rfl (mp_gI 1 dX3_program_2 fl_X3_435 rfl (mp_pI (k := 3) dX3_program_5 fl_X3_240 rfl rfl rfl h (fun σ1 h => ?_))))
  exact ch_iconst _ 0 dX3_program_8 rfl (ch_istore_n 1 _ (ls1 := [some (va_rf (some m)), some (.int 0), none, none, none]) dX3_program_9 (Nat.le_of_ble_eq_true rfl) rfl (ch_FT.wk (ch_wS (ch_wS (ch_wN (ch_wN (ch_wN ch_w0))))) (sl_X3_program_10  h hk)))

