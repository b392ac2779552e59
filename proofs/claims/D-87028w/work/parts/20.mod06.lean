/-! printed by tools/dec.py -/
set_option maxRecDepth 100000
theorem bX3_hasRoom_0 : ch_ck cX3_hasRoom 0 [27, 42, 180, 2, 57, 42, 180, 2, 60, 100, 163, 0, 5, 4, 172, 42] := ch_ckof (by decide +kernel)
theorem bX3_hasRoom_1 : ch_ck cX3_hasRoom 16 [42, 182, 2, 63, 181, 2, 60, 42, 182, 2, 66, 27, 42, 180, 2, 57] := ch_ckof (by decide +kernel)
theorem bX3_hasRoom_2 : ch_ck cX3_hasRoom 32 [42, 180, 2, 60, 100, 163, 0, 7, 4, 167, 0, 4, 3, 172] := ch_ckof (by decide +kernel)
theorem dX3_hasRoom_0 : decode cX3_hasRoom 0 = .ok (.iload_n 1, 1) := dz_27 (bX3_hasRoom_0 0 _ rfl)
theorem dX3_hasRoom_1 : decode cX3_hasRoom 1 = .ok (.aload_n 0, 1) := dz_42 (bX3_hasRoom_0 1 _ rfl)
theorem dX3_hasRoom_2 : decode cX3_hasRoom 2 = .ok (.getfield 569, 3) := dz_180 (bX3_hasRoom_0 2 _ rfl) (bX3_hasRoom_0 3 _ rfl) (bX3_hasRoom_0 4 _ rfl)
theorem dX3_hasRoom_5 : decode cX3_hasRoom 5 = .ok (.aload_n 0, 1) := dz_42 (bX3_hasRoom_0 5 _ rfl)
theorem dX3_hasRoom_6 : decode cX3_hasRoom 6 = .ok (.getfield 572, 3) := dz_180 (bX3_hasRoom_0 6 _ rfl) (bX3_hasRoom_0 7 _ rfl) (bX3_hasRoom_0 8 _ rfl)
theorem dX3_hasRoom_9 : decode cX3_hasRoom 9 = .ok (.isub, 1) := dz_100 (bX3_hasRoom_0 9 _ rfl)
theorem dX3_hasRoom_10 : decode cX3_hasRoom 10 = .ok (.if_icmp .gt 5, 3) := dz_163 (bX3_hasRoom_0 10 _ rfl) (bX3_hasRoom_0 11 _ rfl) (bX3_hasRoom_0 12 _ rfl)
theorem dX3_hasRoom_13 : decode cX3_hasRoom 13 = .ok (.iconst 1, 1) := dz_4 (bX3_hasRoom_0 13 _ rfl)
theorem dX3_hasRoom_14 : decode cX3_hasRoom 14 = .ok (.ireturn, 1) := dz_172 (bX3_hasRoom_0 14 _ rfl)
theorem dX3_hasRoom_15 : decode cX3_hasRoom 15 = .ok (.aload_n 0, 1) := dz_42 (bX3_hasRoom_0 15 _ rfl)
theorem dX3_hasRoom_16 : decode cX3_hasRoom 16 = .ok (.aload_n 0, 1) := dz_42 (bX3_hasRoom_1 0 _ rfl)
theorem dX3_hasRoom_17 : decode cX3_hasRoom 17 = .ok (.invokevirtual 575, 3) := dz_182 (bX3_hasRoom_1 1 _ rfl) (bX3_hasRoom_1 2 _ rfl) (bX3_hasRoom_1 3 _ rfl)
theorem dX3_hasRoom_20 : decode cX3_hasRoom 20 = .ok (.putfield 572, 3) := dz_181 (bX3_hasRoom_1 4 _ rfl) (bX3_hasRoom_1 5 _ rfl) (bX3_hasRoom_1 6 _ rfl)
theorem dX3_hasRoom_23 : decode cX3_hasRoom 23 = .ok (.aload_n 0, 1) := dz_42 (bX3_hasRoom_1 7 _ rfl)
theorem dX3_hasRoom_24 : decode cX3_hasRoom 24 = .ok (.invokevirtual 578, 3) := dz_182 (bX3_hasRoom_1 8 _ rfl) (bX3_hasRoom_1 9 _ rfl) (bX3_hasRoom_1 10 _ rfl)
theorem dX3_hasRoom_27 : decode cX3_hasRoom 27 = .ok (.iload_n 1, 1) := dz_27 (bX3_hasRoom_1 11 _ rfl)
theorem dX3_hasRoom_28 : decode cX3_hasRoom 28 = .ok (.aload_n 0, 1) := dz_42 (bX3_hasRoom_1 12 _ rfl)
theorem dX3_hasRoom_29 : decode cX3_hasRoom 29 = .ok (.getfield 569, 3) := dz_180 (bX3_hasRoom_1 13 _ rfl) (bX3_hasRoom_1 14 _ rfl) (bX3_hasRoom_1 15 _ rfl)
theorem dX3_hasRoom_32 : decode cX3_hasRoom 32 = .ok (.aload_n 0, 1) := dz_42 (bX3_hasRoom_2 0 _ rfl)
theorem dX3_hasRoom_33 : decode cX3_hasRoom 33 = .ok (.getfield 572, 3) := dz_180 (bX3_hasRoom_2 1 _ rfl) (bX3_hasRoom_2 2 _ rfl) (bX3_hasRoom_2 3 _ rfl)
theorem dX3_hasRoom_36 : decode cX3_hasRoom 36 = .ok (.isub, 1) := dz_100 (bX3_hasRoom_2 4 _ rfl)
theorem dX3_hasRoom_37 : decode cX3_hasRoom 37 = .ok (.if_icmp .gt 7, 3) := dz_163 (bX3_hasRoom_2 5 _ rfl) (bX3_hasRoom_2 6 _ rfl) (bX3_hasRoom_2 7 _ rfl)
theorem dX3_hasRoom_40 : decode cX3_hasRoom 40 = .ok (.iconst 1, 1) := dz_4 (bX3_hasRoom_2 8 _ rfl)
theorem dX3_hasRoom_41 : decode cX3_hasRoom 41 = .ok (.goto 4, 3) := dz_167 (bX3_hasRoom_2 9 _ rfl) (bX3_hasRoom_2 10 _ rfl) (bX3_hasRoom_2 11 _ rfl)
theorem dX3_hasRoom_44 : decode cX3_hasRoom 44 = .ok (.iconst 0, 1) := dz_3 (bX3_hasRoom_2 12 _ rfl)
theorem dX3_hasRoom_45 : decode cX3_hasRoom 45 = .ok (.ireturn, 1) := dz_172 (bX3_hasRoom_2 13 _ rfl)
def m_X3_hasRoom (x1 : Int32) (σ : ch_S) : Option (Int32 × ch_S) := if ((σ.1 fX3_heap) - (σ.1 fX3_bound)) < x1 then ((m_X3_marked σ).bind fun p1 => (ch_mI p1.2 fX3_bound p1.1).bind fun σ3 => (m_X3_sweep σ3).bind fun p4 => if ((p4.1 fX3_heap) - (p4.1 fX3_bound)) < x1 then (some ((0, p4))) else (some ((1, p4)))) else (some ((1, σ)))
theorem s_X3_hasRoom {g : State} {m : Nat} {w : ch_W} {x1 : Int32} {σ : ch_S} {res : Int32 × ch_S} {Q : Outcome → ch_W → Prop} (h : m_X3_hasRoom x1 σ = some res) (hk : (fun r => ch_eI Q (r.1, ch_put m w r.2)) res) : ch_CT g false yX3_hasRoom 4 [.ref m, .int x1] (ch_put m w σ) Q := by
  unfold m_X3_hasRoom at h
  refine ch_ctL mX3_hasRoom (ls := [some (va_rf (some m)), some (.int x1)]) q2254 rfl (ch_lyr (r := some m) (ch_lyi ch_ly0)) (Nat.le_of_ble_eq_true rfl) rfl ?_
  refine ch_iload_n 1 _ dX3_hasRoom_0 rfl (ch_aload_n 0 (some m) dX3_hasRoom_1 rfl (mp_gI 72 dX3_hasRoom_2 fl_X3_569 rfl (ch_aload_n 0 (some m) dX3_hasRoom_5 rfl (mp_gI 73 dX3_hasRoom_6 fl_X3_572 rfl (ch_isub _ _ dX3_hasRoom_9 (cp_icmp_gt _ _ (tgt := 15) dX3_hasRoom_10 rfl h (fun h => ?_) (fun h => ?_)))))))
  · obtain ⟨p1, hp2, h⟩ := ch_bd h
    refine ch_aload_n 0 (some m) dX3_hasRoom_15 rfl (ch_aload_n 0 (some m) dX3_hasRoom_16 rfl (ch_iv yX3_marked prog_14_method_77_code 4 (some .int) (ci := 3) (q := (RX3, TX3, 109)) (b := m) (d' := 3) (av := []) (rest := [va_rf (some m)]) rfl dX3_hasRoom_17 q2255 q2257 rfl qs185 q2258 can_X3_marked (Nat.le_of_ble_eq_true rfl) (ch_hw (Nat.le_of_ble_eq_true rfl)) ch_put_tag (cp_kI (v := p1.1) (w1 := ch_put m w p1.2) (fun Q' hq => s_X3_marked hp2 hq) ?_)))
    refine mp_pI (k := 73) dX3_hasRoom_20 fl_X3_572 rfl rfl rfl h (fun σ3 h => ?_)
    obtain ⟨p4, hp5, h⟩ := ch_bd h
    refine ch_aload_n 0 (some m) dX3_hasRoom_23 rfl (ch_iv yX3_sweep prog_14_method_79_code 8 none (ci := 3) (q := (RX3, TX3, 109)) (b := m) (d' := 3) (av := []) (rest := []) rfl dX3_hasRoom_24 q2263 q2265 rfl qs187 q2266 can_X3_sweep (Nat.le_of_ble_eq_true rfl) (Nat.le_of_ble_eq_true rfl) ch_put_tag (cp_kV (w1 := ch_put m w p4) (fun Q' hq => s_X3_sweep hp5 hq) ?_))
    refine ch_iload_n 1 _ dX3_hasRoom_27 rfl (ch_aload_n 0 (some m) dX3_hasRoom_28 rfl (mp_gI 72 dX3_hasRoom_29 fl_X3_569 rfl (ch_aload_n 0 (some m) dX3_hasRoom_32 rfl (mp_gI 73 dX3_hasRoom_33 fl_X3_572 rfl (ch_isub _ _ dX3_hasRoom_36 (cp_icmp_gt _ _ (tgt := 44) dX3_hasRoom_37 rfl h (fun h => ?_) (fun h => ?_)))))))
    · obtain rfl := Option.some.inj h
      exact ch_iconst _ 0 dX3_hasRoom_44 rfl (ch_ireturn _ dX3_hasRoom_45 rfl rfl hk)
    · obtain rfl := Option.some.inj h
      exact ch_iconst _ 1 dX3_hasRoom_40 rfl (ch_goto 45 dX3_hasRoom_41 rfl (ch_ireturn _ dX3_hasRoom_45 rfl rfl hk))
  · obtain rfl := Option.some.inj h
    exact ch_iconst _ 1 dX3_hasRoom_13 rfl (ch_ireturn _ dX3_hasRoom_14 rfl rfl hk)

theorem bX3_ends_0 : ch_ck cX3_ends 0 [42, 27, 181, 2, 75, 42, 3, 181, 2, 72, 42, 3, 181, 2, 42, 42] := ch_ckof (by decide +kernel)
theorem bX3_ends_1 : ch_ck cX3_ends 16 [3, 181, 2, 48, 177] := ch_ckof (by decide +kernel)
theorem dX3_ends_0 : decode cX3_ends 0 = .ok (.aload_n 0, 1) := dz_42 (bX3_ends_0 0 _ rfl)
theorem dX3_ends_1 : decode cX3_ends 1 = .ok (.iload_n 1, 1) := dz_27 (bX3_ends_0 1 _ rfl)
theorem dX3_ends_2 : decode cX3_ends 2 = .ok (.putfield 587, 3) := dz_181 (bX3_ends_0 2 _ rfl) (bX3_ends_0 3 _ rfl) (bX3_ends_0 4 _ rfl)
theorem dX3_ends_5 : decode cX3_ends 5 = .ok (.aload_n 0, 1) := dz_42 (bX3_ends_0 5 _ rfl)
theorem dX3_ends_6 : decode cX3_ends 6 = .ok (.iconst 0, 1) := dz_3 (bX3_ends_0 6 _ rfl)
theorem dX3_ends_7 : decode cX3_ends 7 = .ok (.putfield 584, 3) := dz_181 (bX3_ends_0 7 _ rfl) (bX3_ends_0 8 _ rfl) (bX3_ends_0 9 _ rfl)
theorem dX3_ends_10 : decode cX3_ends 10 = .ok (.aload_n 0, 1) := dz_42 (bX3_ends_0 10 _ rfl)
theorem dX3_ends_11 : decode cX3_ends 11 = .ok (.iconst 0, 1) := dz_3 (bX3_ends_0 11 _ rfl)
theorem dX3_ends_12 : decode cX3_ends 12 = .ok (.putfield 554, 3) := dz_181 (bX3_ends_0 12 _ rfl) (bX3_ends_0 13 _ rfl) (bX3_ends_0 14 _ rfl)
theorem dX3_ends_15 : decode cX3_ends 15 = .ok (.aload_n 0, 1) := dz_42 (bX3_ends_0 15 _ rfl)
theorem dX3_ends_16 : decode cX3_ends 16 = .ok (.iconst 0, 1) := dz_3 (bX3_ends_1 0 _ rfl)
theorem dX3_ends_17 : decode cX3_ends 17 = .ok (.putfield 560, 3) := dz_181 (bX3_ends_1 1 _ rfl) (bX3_ends_1 2 _ rfl) (bX3_ends_1 3 _ rfl)
theorem dX3_ends_20 : decode cX3_ends 20 = .ok (.return_, 1) := dz_177 (bX3_ends_1 4 _ rfl)
def m_X3_ends (x1 : Int32) (σ : ch_S) : Option (ch_S) := (ch_mI σ fX3_over x1).bind fun σ1 => (ch_mI σ1 fX3_todo 0).bind fun σ2 => (ch_mI σ2 fX3_open 0).bind fun σ3 => (ch_mI σ3 fX3_piled 0).bind fun σ4 => some (σ4)
theorem s_X3_ends {g : State} {m : Nat} {w : ch_W} {x1 : Int32} {σ : ch_S} {res : ch_S} {Q : Outcome → ch_W → Prop} (h : m_X3_ends x1 σ = some res) (hk : (fun r => ch_eV Q (ch_put m w r)) res) : ch_CT g false yX3_ends 2 [.ref m, .int x1] (ch_put m w σ) Q := by
  unfold m_X3_ends at h
  refine ch_ctL mX3_ends (ls := [some (va_rf (some m)), some (.int x1)]) q2274 rfl (ch_lyr (r := some m) (ch_lyi ch_ly0)) (Nat.le_of_ble_eq_true rfl) rfl ?_
  refine ch_aload_n 0 (some m) dX3_ends_0 rfl (ch_iload_n 1 _ dX3_ends_1 rfl (mp_pI (k := 70) dX3_ends_2 fl_X3_587 rfl rfl rfl h (fun σ1 h => ?_)))
  refine ch_aload_n 0 (some m) dX3_ends_5 rfl (ch_iconst _ 0 dX3_ends_6 rfl (mp_pI (k := 103) dX3_ends_7 fl_X3_584 rfl rfl rfl h (fun σ2 h => ?_)))
  refine ch_aload_n 0 (some m) dX3_ends_10 rfl (ch_iconst _ 0 dX3_ends_11 rfl (mp_pI (k := 93) dX3_ends_12 fl_X3_554 rfl rfl rfl h (fun σ3 h => ?_)))
  refine ch_aload_n 0 (some m) dX3_ends_15 rfl (ch_iconst _ 0 dX3_ends_16 rfl (mp_pI (k := 100) dX3_ends_17 fl_X3_560 rfl rfl rfl h (fun σ4 h => ?_)))
  obtain rfl := Option.some.inj h
  exact ch_return dX3_ends_20 rfl hk

theorem bX3_leaf_0 : ch_ck cX3_leaf 0 [42, 180, 2, 42, 4, 100, 61, 42, 180, 0, 25, 27, 46, 170, 0, 0] := ch_ckof (by decide +kernel)
theorem bX3_leaf_1 : ch_ck cX3_leaf 16 [0, 0, 0, 233, 0, 0, 0, 0, 0, 0, 0, 21, 0, 0, 0, 103] := ch_ckof (by decide +kernel)
theorem bX3_leaf_2 : ch_ck cX3_leaf 32 [0, 0, 0, 117, 0, 0, 0, 126, 0, 0, 0, 140, 0, 0, 0, 233] := ch_ckof (by decide +kernel)
theorem bX3_leaf_3 : ch_ck cX3_leaf 48 [0, 0, 0, 233, 0, 0, 0, 233, 0, 0, 0, 233, 0, 0, 0, 233] := ch_ckof (by decide +kernel)
theorem bX3_leaf_4 : ch_ck cX3_leaf 64 [0, 0, 0, 233, 0, 0, 0, 233, 0, 0, 0, 233, 0, 0, 0, 233] := ch_ckof (by decide +kernel)
theorem bX3_leaf_5 : ch_ck cX3_leaf 80 [0, 0, 0, 233, 0, 0, 0, 233, 0, 0, 0, 233, 0, 0, 0, 233] := ch_ckof (by decide +kernel)
theorem bX3_leaf_6 : ch_ck cX3_leaf 96 [0, 0, 0, 233, 0, 0, 0, 233, 0, 0, 0, 152, 0, 0, 0, 195] := ch_ckof (by decide +kernel)
theorem bX3_leaf_7 : ch_ck cX3_leaf 112 [0, 0, 0, 103, 42, 42, 180, 0, 34, 27, 46, 3, 182, 2, 111, 167] := ch_ckof (by decide +kernel)
theorem bX3_leaf_8 : ch_ck cX3_leaf 128 [0, 165, 42, 2, 4, 182, 2, 111, 167, 0, 156, 42, 42, 180, 0, 178] := ch_ckof (by decide +kernel)
theorem bX3_leaf_9 : ch_ck cX3_leaf 144 [28, 46, 4, 182, 2, 111, 167, 0, 142, 42, 42, 182, 2, 114, 3, 182] := ch_ckof (by decide +kernel)
theorem bX3_leaf_10 : ch_ck cX3_leaf 160 [2, 111, 167, 0, 130, 42, 42, 180, 0, 191, 42, 180, 0, 181, 28, 46] := ch_ckof (by decide +kernel)
theorem bX3_leaf_11 : ch_ck cX3_leaf 176 [42, 180, 0, 34, 27, 46, 96, 46, 42, 180, 0, 194, 42, 180, 0, 181] := ch_ckof (by decide +kernel)
theorem bX3_leaf_12 : ch_ck cX3_leaf 192 [28, 46, 42, 180, 0, 34, 27, 46, 96, 51, 182, 2, 111, 167, 0, 87] := ch_ckof (by decide +kernel)
theorem bX3_leaf_13 : ch_ck cX3_leaf 208 [42, 180, 0, 157, 42, 180, 0, 178, 28, 46, 46, 42, 180, 0, 34, 27] := ch_ckof (by decide +kernel)
theorem bX3_leaf_14 : ch_ck cX3_leaf 224 [46, 96, 62, 42, 42, 180, 0, 172, 29, 46, 42, 180, 0, 175, 29, 51] := ch_ckof (by decide +kernel)
theorem bX3_leaf_15 : ch_ck cX3_leaf 240 [182, 2, 111, 167, 0, 49, 42, 180, 0, 91, 42, 180, 0, 34, 27, 46] := ch_ckof (by decide +kernel)
theorem bX3_leaf_16 : ch_ck cX3_leaf 256 [46, 62, 42, 5, 29, 96, 182, 2, 117, 153, 0, 22, 42, 42, 42, 180] := ch_ckof (by decide +kernel)
theorem bX3_leaf_17 : ch_ck cX3_leaf 272 [0, 34, 27, 46, 29, 182, 2, 120, 4, 182, 2, 111, 167, 0, 8, 42] := ch_ckof (by decide +kernel)
theorem bX3_leaf_18 : ch_ck cX3_leaf 288 [6, 182, 2, 93, 177] := ch_ckof (by decide +kernel)
theorem dX3_leaf_0 : decode cX3_leaf 0 = .ok (.aload_n 0, 1) := dz_42 (bX3_leaf_0 0 _ rfl)
theorem dX3_leaf_1 : decode cX3_leaf 1 = .ok (.getfield 554, 3) := dz_180 (bX3_leaf_0 1 _ rfl) (bX3_leaf_0 2 _ rfl) (bX3_leaf_0 3 _ rfl)
theorem dX3_leaf_4 : decode cX3_leaf 4 = .ok (.iconst 1, 1) := dz_4 (bX3_leaf_0 4 _ rfl)
theorem dX3_leaf_5 : decode cX3_leaf 5 = .ok (.isub, 1) := dz_100 (bX3_leaf_0 5 _ rfl)
theorem dX3_leaf_6 : decode cX3_leaf 6 = .ok (.istore_n 2, 1) := dz_61 (bX3_leaf_0 6 _ rfl)
theorem dX3_leaf_7 : decode cX3_leaf 7 = .ok (.aload_n 0, 1) := dz_42 (bX3_leaf_0 7 _ rfl)
theorem dX3_leaf_8 : decode cX3_leaf 8 = .ok (.getfield 25, 3) := dz_180 (bX3_leaf_0 8 _ rfl) (bX3_leaf_0 9 _ rfl) (bX3_leaf_0 10 _ rfl)
theorem dX3_leaf_11 : decode cX3_leaf 11 = .ok (.iload_n 1, 1) := dz_27 (bX3_leaf_0 11 _ rfl)
theorem dX3_leaf_12 : decode cX3_leaf 12 = .ok (.iaload, 1) := dz_46 (bX3_leaf_0 12 _ rfl)
theorem dX3_leaf_13 : decode cX3_leaf 13 = .ok (.tableswitch 233 0 21 #[103, 117, 126, 140, 233, 233, 233, 233, 233, 233, 233, 233, 233, 233, 233, 233, 233, 233, 233, 152, 195, 103], 103) := by decide +kernel
theorem dX3_leaf_116 : decode cX3_leaf 116 = .ok (.aload_n 0, 1) := dz_42 (bX3_leaf_7 4 _ rfl)
theorem dX3_leaf_117 : decode cX3_leaf 117 = .ok (.aload_n 0, 1) := dz_42 (bX3_leaf_7 5 _ rfl)
theorem dX3_leaf_118 : decode cX3_leaf 118 = .ok (.getfield 34, 3) := dz_180 (bX3_leaf_7 6 _ rfl) (bX3_leaf_7 7 _ rfl) (bX3_leaf_7 8 _ rfl)
theorem dX3_leaf_121 : decode cX3_leaf 121 = .ok (.iload_n 1, 1) := dz_27 (bX3_leaf_7 9 _ rfl)
theorem dX3_leaf_122 : decode cX3_leaf 122 = .ok (.iaload, 1) := dz_46 (bX3_leaf_7 10 _ rfl)
theorem dX3_leaf_123 : decode cX3_leaf 123 = .ok (.iconst 0, 1) := dz_3 (bX3_leaf_7 11 _ rfl)
theorem dX3_leaf_124 : decode cX3_leaf 124 = .ok (.invokevirtual 623, 3) := dz_182 (bX3_leaf_7 12 _ rfl) (bX3_leaf_7 13 _ rfl) (bX3_leaf_7 14 _ rfl)
theorem dX3_leaf_127 : decode cX3_leaf 127 = .ok (.goto 165, 3) := dz_167 (bX3_leaf_7 15 _ rfl) (bX3_leaf_8 0 _ rfl) (bX3_leaf_8 1 _ rfl)
theorem dX3_leaf_130 : decode cX3_leaf 130 = .ok (.aload_n 0, 1) := dz_42 (bX3_leaf_8 2 _ rfl)
theorem dX3_leaf_131 : decode cX3_leaf 131 = .ok (.iconst (-1), 1) := dz_2 (bX3_leaf_8 3 _ rfl)
theorem dX3_leaf_132 : decode cX3_leaf 132 = .ok (.iconst 1, 1) := dz_4 (bX3_leaf_8 4 _ rfl)
theorem dX3_leaf_133 : decode cX3_leaf 133 = .ok (.invokevirtual 623, 3) := dz_182 (bX3_leaf_8 5 _ rfl) (bX3_leaf_8 6 _ rfl) (bX3_leaf_8 7 _ rfl)
theorem dX3_leaf_136 : decode cX3_leaf 136 = .ok (.goto 156, 3) := dz_167 (bX3_leaf_8 8 _ rfl) (bX3_leaf_8 9 _ rfl) (bX3_leaf_8 10 _ rfl)
theorem dX3_leaf_139 : decode cX3_leaf 139 = .ok (.aload_n 0, 1) := dz_42 (bX3_leaf_8 11 _ rfl)
theorem dX3_leaf_140 : decode cX3_leaf 140 = .ok (.aload_n 0, 1) := dz_42 (bX3_leaf_8 12 _ rfl)
theorem dX3_leaf_141 : decode cX3_leaf 141 = .ok (.getfield 178, 3) := dz_180 (bX3_leaf_8 13 _ rfl) (bX3_leaf_8 14 _ rfl) (bX3_leaf_8 15 _ rfl)
theorem dX3_leaf_144 : decode cX3_leaf 144 = .ok (.iload_n 2, 1) := dz_28 (bX3_leaf_9 0 _ rfl)
theorem dX3_leaf_145 : decode cX3_leaf 145 = .ok (.iaload, 1) := dz_46 (bX3_leaf_9 1 _ rfl)
theorem dX3_leaf_146 : decode cX3_leaf 146 = .ok (.iconst 1, 1) := dz_4 (bX3_leaf_9 2 _ rfl)
theorem dX3_leaf_147 : decode cX3_leaf 147 = .ok (.invokevirtual 623, 3) := dz_182 (bX3_leaf_9 3 _ rfl) (bX3_leaf_9 4 _ rfl) (bX3_leaf_9 5 _ rfl)
theorem dX3_leaf_150 : decode cX3_leaf 150 = .ok (.goto 142, 3) := dz_167 (bX3_leaf_9 6 _ rfl) (bX3_leaf_9 7 _ rfl) (bX3_leaf_9 8 _ rfl)
theorem dX3_leaf_153 : decode cX3_leaf 153 = .ok (.aload_n 0, 1) := dz_42 (bX3_leaf_9 9 _ rfl)
theorem dX3_leaf_154 : decode cX3_leaf 154 = .ok (.aload_n 0, 1) := dz_42 (bX3_leaf_9 10 _ rfl)
theorem dX3_leaf_155 : decode cX3_leaf 155 = .ok (.invokevirtual 626, 3) := dz_182 (bX3_leaf_9 11 _ rfl) (bX3_leaf_9 12 _ rfl) (bX3_leaf_9 13 _ rfl)
theorem dX3_leaf_158 : decode cX3_leaf 158 = .ok (.iconst 0, 1) := dz_3 (bX3_leaf_9 14 _ rfl)
theorem dX3_leaf_159 : decode cX3_leaf 159 = .ok (.invokevirtual 623, 3) := dz_182 (bX3_leaf_9 15 _ rfl) (bX3_leaf_10 0 _ rfl) (bX3_leaf_10 1 _ rfl)
theorem dX3_leaf_162 : decode cX3_leaf 162 = .ok (.goto 130, 3) := dz_167 (bX3_leaf_10 2 _ rfl) (bX3_leaf_10 3 _ rfl) (bX3_leaf_10 4 _ rfl)
theorem dX3_leaf_165 : decode cX3_leaf 165 = .ok (.aload_n 0, 1) := dz_42 (bX3_leaf_10 5 _ rfl)
theorem dX3_leaf_166 : decode cX3_leaf 166 = .ok (.aload_n 0, 1) := dz_42 (bX3_leaf_10 6 _ rfl)
theorem dX3_leaf_167 : decode cX3_leaf 167 = .ok (.getfield 191, 3) := dz_180 (bX3_leaf_10 7 _ rfl) (bX3_leaf_10 8 _ rfl) (bX3_leaf_10 9 _ rfl)
theorem dX3_leaf_170 : decode cX3_leaf 170 = .ok (.aload_n 0, 1) := dz_42 (bX3_leaf_10 10 _ rfl)
theorem dX3_leaf_171 : decode cX3_leaf 171 = .ok (.getfield 181, 3) := dz_180 (bX3_leaf_10 11 _ rfl) (bX3_leaf_10 12 _ rfl) (bX3_leaf_10 13 _ rfl)
theorem dX3_leaf_174 : decode cX3_leaf 174 = .ok (.iload_n 2, 1) := dz_28 (bX3_leaf_10 14 _ rfl)
theorem dX3_leaf_175 : decode cX3_leaf 175 = .ok (.iaload, 1) := dz_46 (bX3_leaf_10 15 _ rfl)
theorem dX3_leaf_176 : decode cX3_leaf 176 = .ok (.aload_n 0, 1) := dz_42 (bX3_leaf_11 0 _ rfl)
theorem dX3_leaf_177 : decode cX3_leaf 177 = .ok (.getfield 34, 3) := dz_180 (bX3_leaf_11 1 _ rfl) (bX3_leaf_11 2 _ rfl) (bX3_leaf_11 3 _ rfl)
theorem dX3_leaf_180 : decode cX3_leaf 180 = .ok (.iload_n 1, 1) := dz_27 (bX3_leaf_11 4 _ rfl)
theorem dX3_leaf_181 : decode cX3_leaf 181 = .ok (.iaload, 1) := dz_46 (bX3_leaf_11 5 _ rfl)
theorem dX3_leaf_182 : decode cX3_leaf 182 = .ok (.iadd, 1) := dz_96 (bX3_leaf_11 6 _ rfl)
theorem dX3_leaf_183 : decode cX3_leaf 183 = .ok (.iaload, 1) := dz_46 (bX3_leaf_11 7 _ rfl)
theorem dX3_leaf_184 : decode cX3_leaf 184 = .ok (.aload_n 0, 1) := dz_42 (bX3_leaf_11 8 _ rfl)
theorem dX3_leaf_185 : decode cX3_leaf 185 = .ok (.getfield 194, 3) := dz_180 (bX3_leaf_11 9 _ rfl) (bX3_leaf_11 10 _ rfl) (bX3_leaf_11 11 _ rfl)
theorem dX3_leaf_188 : decode cX3_leaf 188 = .ok (.aload_n 0, 1) := dz_42 (bX3_leaf_11 12 _ rfl)
theorem dX3_leaf_189 : decode cX3_leaf 189 = .ok (.getfield 181, 3) := dz_180 (bX3_leaf_11 13 _ rfl) (bX3_leaf_11 14 _ rfl) (bX3_leaf_11 15 _ rfl)
theorem dX3_leaf_192 : decode cX3_leaf 192 = .ok (.iload_n 2, 1) := dz_28 (bX3_leaf_12 0 _ rfl)
theorem dX3_leaf_193 : decode cX3_leaf 193 = .ok (.iaload, 1) := dz_46 (bX3_leaf_12 1 _ rfl)
theorem dX3_leaf_194 : decode cX3_leaf 194 = .ok (.aload_n 0, 1) := dz_42 (bX3_leaf_12 2 _ rfl)
theorem dX3_leaf_195 : decode cX3_leaf 195 = .ok (.getfield 34, 3) := dz_180 (bX3_leaf_12 3 _ rfl) (bX3_leaf_12 4 _ rfl) (bX3_leaf_12 5 _ rfl)
theorem dX3_leaf_198 : decode cX3_leaf 198 = .ok (.iload_n 1, 1) := dz_27 (bX3_leaf_12 6 _ rfl)
theorem dX3_leaf_199 : decode cX3_leaf 199 = .ok (.iaload, 1) := dz_46 (bX3_leaf_12 7 _ rfl)
theorem dX3_leaf_200 : decode cX3_leaf 200 = .ok (.iadd, 1) := dz_96 (bX3_leaf_12 8 _ rfl)
theorem dX3_leaf_201 : decode cX3_leaf 201 = .ok (.baload, 1) := dz_51 (bX3_leaf_12 9 _ rfl)
theorem dX3_leaf_202 : decode cX3_leaf 202 = .ok (.invokevirtual 623, 3) := dz_182 (bX3_leaf_12 10 _ rfl) (bX3_leaf_12 11 _ rfl) (bX3_leaf_12 12 _ rfl)
theorem dX3_leaf_205 : decode cX3_leaf 205 = .ok (.goto 87, 3) := dz_167 (bX3_leaf_12 13 _ rfl) (bX3_leaf_12 14 _ rfl) (bX3_leaf_12 15 _ rfl)
theorem dX3_leaf_208 : decode cX3_leaf 208 = .ok (.aload_n 0, 1) := dz_42 (bX3_leaf_13 0 _ rfl)
theorem dX3_leaf_209 : decode cX3_leaf 209 = .ok (.getfield 157, 3) := dz_180 (bX3_leaf_13 1 _ rfl) (bX3_leaf_13 2 _ rfl) (bX3_leaf_13 3 _ rfl)
theorem dX3_leaf_212 : decode cX3_leaf 212 = .ok (.aload_n 0, 1) := dz_42 (bX3_leaf_13 4 _ rfl)
theorem dX3_leaf_213 : decode cX3_leaf 213 = .ok (.getfield 178, 3) := dz_180 (bX3_leaf_13 5 _ rfl) (bX3_leaf_13 6 _ rfl) (bX3_leaf_13 7 _ rfl)
theorem dX3_leaf_216 : decode cX3_leaf 216 = .ok (.iload_n 2, 1) := dz_28 (bX3_leaf_13 8 _ rfl)
theorem dX3_leaf_217 : decode cX3_leaf 217 = .ok (.iaload, 1) := dz_46 (bX3_leaf_13 9 _ rfl)
theorem dX3_leaf_218 : decode cX3_leaf 218 = .ok (.iaload, 1) := dz_46 (bX3_leaf_13 10 _ rfl)
theorem dX3_leaf_219 : decode cX3_leaf 219 = .ok (.aload_n 0, 1) := dz_42 (bX3_leaf_13 11 _ rfl)
theorem dX3_leaf_220 : decode cX3_leaf 220 = .ok (.getfield 34, 3) := dz_180 (bX3_leaf_13 12 _ rfl) (bX3_leaf_13 13 _ rfl) (bX3_leaf_13 14 _ rfl)
theorem dX3_leaf_223 : decode cX3_leaf 223 = .ok (.iload_n 1, 1) := dz_27 (bX3_leaf_13 15 _ rfl)
theorem dX3_leaf_224 : decode cX3_leaf 224 = .ok (.iaload, 1) := dz_46 (bX3_leaf_14 0 _ rfl)
theorem dX3_leaf_225 : decode cX3_leaf 225 = .ok (.iadd, 1) := dz_96 (bX3_leaf_14 1 _ rfl)
theorem dX3_leaf_226 : decode cX3_leaf 226 = .ok (.istore_n 3, 1) := dz_62 (bX3_leaf_14 2 _ rfl)
theorem dX3_leaf_227 : decode cX3_leaf 227 = .ok (.aload_n 0, 1) := dz_42 (bX3_leaf_14 3 _ rfl)
theorem dX3_leaf_228 : decode cX3_leaf 228 = .ok (.aload_n 0, 1) := dz_42 (bX3_leaf_14 4 _ rfl)
theorem dX3_leaf_229 : decode cX3_leaf 229 = .ok (.getfield 172, 3) := dz_180 (bX3_leaf_14 5 _ rfl) (bX3_leaf_14 6 _ rfl) (bX3_leaf_14 7 _ rfl)
theorem dX3_leaf_232 : decode cX3_leaf 232 = .ok (.iload_n 3, 1) := dz_29 (bX3_leaf_14 8 _ rfl)
theorem dX3_leaf_233 : decode cX3_leaf 233 = .ok (.iaload, 1) := dz_46 (bX3_leaf_14 9 _ rfl)
theorem dX3_leaf_234 : decode cX3_leaf 234 = .ok (.aload_n 0, 1) := dz_42 (bX3_leaf_14 10 _ rfl)
theorem dX3_leaf_235 : decode cX3_leaf 235 = .ok (.getfield 175, 3) := dz_180 (bX3_leaf_14 11 _ rfl) (bX3_leaf_14 12 _ rfl) (bX3_leaf_14 13 _ rfl)
theorem dX3_leaf_238 : decode cX3_leaf 238 = .ok (.iload_n 3, 1) := dz_29 (bX3_leaf_14 14 _ rfl)
theorem dX3_leaf_239 : decode cX3_leaf 239 = .ok (.baload, 1) := dz_51 (bX3_leaf_14 15 _ rfl)
theorem dX3_leaf_240 : decode cX3_leaf 240 = .ok (.invokevirtual 623, 3) := dz_182 (bX3_leaf_15 0 _ rfl) (bX3_leaf_15 1 _ rfl) (bX3_leaf_15 2 _ rfl)
theorem dX3_leaf_243 : decode cX3_leaf 243 = .ok (.goto 49, 3) := dz_167 (bX3_leaf_15 3 _ rfl) (bX3_leaf_15 4 _ rfl) (bX3_leaf_15 5 _ rfl)
theorem dX3_leaf_246 : decode cX3_leaf 246 = .ok (.aload_n 0, 1) := dz_42 (bX3_leaf_15 6 _ rfl)
theorem dX3_leaf_247 : decode cX3_leaf 247 = .ok (.getfield 91, 3) := dz_180 (bX3_leaf_15 7 _ rfl) (bX3_leaf_15 8 _ rfl) (bX3_leaf_15 9 _ rfl)
theorem dX3_leaf_250 : decode cX3_leaf 250 = .ok (.aload_n 0, 1) := dz_42 (bX3_leaf_15 10 _ rfl)
theorem dX3_leaf_251 : decode cX3_leaf 251 = .ok (.getfield 34, 3) := dz_180 (bX3_leaf_15 11 _ rfl) (bX3_leaf_15 12 _ rfl) (bX3_leaf_15 13 _ rfl)
theorem dX3_leaf_254 : decode cX3_leaf 254 = .ok (.iload_n 1, 1) := dz_27 (bX3_leaf_15 14 _ rfl)
theorem dX3_leaf_255 : decode cX3_leaf 255 = .ok (.iaload, 1) := dz_46 (bX3_leaf_15 15 _ rfl)
theorem dX3_leaf_256 : decode cX3_leaf 256 = .ok (.iaload, 1) := dz_46 (bX3_leaf_16 0 _ rfl)
theorem dX3_leaf_257 : decode cX3_leaf 257 = .ok (.istore_n 3, 1) := dz_62 (bX3_leaf_16 1 _ rfl)
theorem dX3_leaf_258 : decode cX3_leaf 258 = .ok (.aload_n 0, 1) := dz_42 (bX3_leaf_16 2 _ rfl)
theorem dX3_leaf_259 : decode cX3_leaf 259 = .ok (.iconst 2, 1) := dz_5 (bX3_leaf_16 3 _ rfl)
theorem dX3_leaf_260 : decode cX3_leaf 260 = .ok (.iload_n 3, 1) := dz_29 (bX3_leaf_16 4 _ rfl)
theorem dX3_leaf_261 : decode cX3_leaf 261 = .ok (.iadd, 1) := dz_96 (bX3_leaf_16 5 _ rfl)
theorem dX3_leaf_262 : decode cX3_leaf 262 = .ok (.invokevirtual 629, 3) := dz_182 (bX3_leaf_16 6 _ rfl) (bX3_leaf_16 7 _ rfl) (bX3_leaf_16 8 _ rfl)
theorem dX3_leaf_265 : decode cX3_leaf 265 = .ok (.ifCond .eq 22, 3) := dz_153 (bX3_leaf_16 9 _ rfl) (bX3_leaf_16 10 _ rfl) (bX3_leaf_16 11 _ rfl)
theorem dX3_leaf_268 : decode cX3_leaf 268 = .ok (.aload_n 0, 1) := dz_42 (bX3_leaf_16 12 _ rfl)
theorem dX3_leaf_269 : decode cX3_leaf 269 = .ok (.aload_n 0, 1) := dz_42 (bX3_leaf_16 13 _ rfl)
theorem dX3_leaf_270 : decode cX3_leaf 270 = .ok (.aload_n 0, 1) := dz_42 (bX3_leaf_16 14 _ rfl)
theorem dX3_leaf_271 : decode cX3_leaf 271 = .ok (.getfield 34, 3) := dz_180 (bX3_leaf_16 15 _ rfl) (bX3_leaf_17 0 _ rfl) (bX3_leaf_17 1 _ rfl)
theorem dX3_leaf_274 : decode cX3_leaf 274 = .ok (.iload_n 1, 1) := dz_27 (bX3_leaf_17 2 _ rfl)
theorem dX3_leaf_275 : decode cX3_leaf 275 = .ok (.iaload, 1) := dz_46 (bX3_leaf_17 3 _ rfl)
theorem dX3_leaf_276 : decode cX3_leaf 276 = .ok (.iload_n 3, 1) := dz_29 (bX3_leaf_17 4 _ rfl)
theorem dX3_leaf_277 : decode cX3_leaf 277 = .ok (.invokevirtual 632, 3) := dz_182 (bX3_leaf_17 5 _ rfl) (bX3_leaf_17 6 _ rfl) (bX3_leaf_17 7 _ rfl)
theorem dX3_leaf_280 : decode cX3_leaf 280 = .ok (.iconst 1, 1) := dz_4 (bX3_leaf_17 8 _ rfl)
theorem dX3_leaf_281 : decode cX3_leaf 281 = .ok (.invokevirtual 623, 3) := dz_182 (bX3_leaf_17 9 _ rfl) (bX3_leaf_17 10 _ rfl) (bX3_leaf_17 11 _ rfl)
theorem dX3_leaf_284 : decode cX3_leaf 284 = .ok (.goto 8, 3) := dz_167 (bX3_leaf_17 12 _ rfl) (bX3_leaf_17 13 _ rfl) (bX3_leaf_17 14 _ rfl)
theorem dX3_leaf_287 : decode cX3_leaf 287 = .ok (.aload_n 0, 1) := dz_42 (bX3_leaf_17 15 _ rfl)
theorem dX3_leaf_288 : decode cX3_leaf 288 = .ok (.iconst 3, 1) := dz_6 (bX3_leaf_18 0 _ rfl)
theorem dX3_leaf_289 : decode cX3_leaf 289 = .ok (.invokevirtual 605, 3) := dz_182 (bX3_leaf_18 1 _ rfl) (bX3_leaf_18 2 _ rfl) (bX3_leaf_18 3 _ rfl)
theorem dX3_leaf_292 : decode cX3_leaf 292 = .ok (.return_, 1) := dz_177 (bX3_leaf_18 4 _ rfl)
def m_X3_leaf (x1 : Int32) (σ : ch_S) : Option (ch_S) := (ch_ma σ fX3_is x1).bind fun v1 => if v1 = 0 then ((ch_ma σ fX3_of x1).bind fun v13 => (m_X3_push v13 0 σ).bind fun p14 => some (p14)) else (if v1 = 1 then ((m_X3_push (-1) 1 σ).bind fun p16 => some (p16)) else (if v1 = 2 then ((ch_ma σ fX3_openThis ((σ.1 fX3_open) - 1)).bind fun v18 => (m_X3_push v18 1 σ).bind fun p19 => some (p19)) else (if v1 = 3 then ((m_X3_nextInput σ).bind fun p21 => (m_X3_push p21.1 0 p21.2).bind fun p23 => some (p23)) else (if v1 = 4 then ((ch_ma σ fX3_of x1).bind fun v25 => (ch_ma σ fX3_fieldMany v25).bind fun v26 => (m_X3_hasRoom (2 + v26) σ).bind fun p27 => if p27.1 = 0 then ((m_X3_ends 3 p27.2).bind fun p29 => some (p29)) else ((ch_ma p27.2 fX3_of x1).bind fun v31 => (m_X3_object v31 v26 p27.2).bind fun p32 => (m_X3_push p32.1 1 p32.2).bind fun p34 => some (p34))) else (if v1 = 5 then ((ch_ma σ fX3_of x1).bind fun v36 => (ch_ma σ fX3_fieldMany v36).bind fun v37 => (m_X3_hasRoom (2 + v37) σ).bind fun p38 => if p38.1 = 0 then ((m_X3_ends 3 p38.2).bind fun p40 => some (p40)) else ((ch_ma p38.2 fX3_of x1).bind fun v42 => (m_X3_object v42 v37 p38.2).bind fun p43 => (m_X3_push p43.1 1 p43.2).bind fun p45 => some (p45))) else (if v1 = 6 then ((ch_ma σ fX3_of x1).bind fun v47 => (ch_ma σ fX3_fieldMany v47).bind fun v48 => (m_X3_hasRoom (2 + v48) σ).bind fun p49 => if p49.1 = 0 then ((m_X3_ends 3 p49.2).bind fun p51 => some (p51)) else ((ch_ma p49.2 fX3_of x1).bind fun v53 => (m_X3_object v53 v48 p49.2).bind fun p54 => (m_X3_push p54.1 1 p54.2).bind fun p56 => some (p56))) else (if v1 = 7 then ((ch_ma σ fX3_of x1).bind fun v58 => (ch_ma σ fX3_fieldMany v58).bind fun v59 => (m_X3_hasRoom (2 + v59) σ).bind fun p60 => if p60.1 = 0 then ((m_X3_ends 3 p60.2).bind fun p62 => some (p62)) else ((ch_ma p60.2 fX3_of x1).bind fun v64 => (m_X3_object v64 v59 p60.2).bind fun p65 => (m_X3_push p65.1 1 p65.2).bind fun p67 => some (p67))) else (if v1 = 8 then ((ch_ma σ fX3_of x1).bind fun v69 => (ch_ma σ fX3_fieldMany v69).bind fun v70 => (m_X3_hasRoom (2 + v70) σ).bind fun p71 => if p71.1 = 0 then ((m_X3_ends 3 p71.2).bind fun p73 => some (p73)) else ((ch_ma p71.2 fX3_of x1).bind fun v75 => (m_X3_object v75 v70 p71.2).bind fun p76 => (m_X3_push p76.1 1 p76.2).bind fun p78 => some (p78))) else (if v1 = 9 then ((ch_ma σ fX3_of x1).bind fun v80 => (ch_ma σ fX3_fieldMany v80).bind fun v81 => (m_X3_hasRoom (2 + v81) σ).bind fun p82 => if p82.1 = 0 then ((m_X3_ends 3 p82.2).bind fun p84 => some (p84)) else ((ch_ma p82.2 fX3_of x1).bind fun v86 => (m_X3_object v86 v81 p82.2).bind fun p87 => (m_X3_push p87.1 1 p87.2).bind fun p89 => some (p89))) else (if v1 = 10 then ((ch_ma σ fX3_of x1).bind fun v91 => (ch_ma σ fX3_fieldMany v91).bind fun v92 => (m_X3_hasRoom (2 + v92) σ).bind fun p93 => if p93.1 = 0 then ((m_X3_ends 3 p93.2).bind fun p95 => some (p95)) else ((ch_ma p93.2 fX3_of x1).bind fun v97 => (m_X3_object v97 v92 p93.2).bind fun p98 => (m_X3_push p98.1 1 p98.2).bind fun p100 => some (p100))) else (if v1 = 11 then ((ch_ma σ fX3_of x1).bind fun v102 => (ch_ma σ fX3_fieldMany v102).bind fun v103 => (m_X3_hasRoom (2 + v103) σ).bind fun p104 => if p104.1 = 0 then ((m_X3_ends 3 p104.2).bind fun p106 => some (p106)) else ((ch_ma p104.2 fX3_of x1).bind fun v108 => (m_X3_object v108 v103 p104.2).bind fun p109 => (m_X3_push p109.1 1 p109.2).bind fun p111 => some (p111))) else (if v1 = 12 then ((ch_ma σ fX3_of x1).bind fun v113 => (ch_ma σ fX3_fieldMany v113).bind fun v114 => (m_X3_hasRoom (2 + v114) σ).bind fun p115 => if p115.1 = 0 then ((m_X3_ends 3 p115.2).bind fun p117 => some (p117)) else ((ch_ma p115.2 fX3_of x1).bind fun v119 => (m_X3_object v119 v114 p115.2).bind fun p120 => (m_X3_push p120.1 1 p120.2).bind fun p122 => some (p122))) else (if v1 = 13 then ((ch_ma σ fX3_of x1).bind fun v124 => (ch_ma σ fX3_fieldMany v124).bind fun v125 => (m_X3_hasRoom (2 + v125) σ).bind fun p126 => if p126.1 = 0 then ((m_X3_ends 3 p126.2).bind fun p128 => some (p128)) else ((ch_ma p126.2 fX3_of x1).bind fun v130 => (m_X3_object v130 v125 p126.2).bind fun p131 => (m_X3_push p131.1 1 p131.2).bind fun p133 => some (p133))) else (if v1 = 14 then ((ch_ma σ fX3_of x1).bind fun v135 => (ch_ma σ fX3_fieldMany v135).bind fun v136 => (m_X3_hasRoom (2 + v136) σ).bind fun p137 => if p137.1 = 0 then ((m_X3_ends 3 p137.2).bind fun p139 => some (p139)) else ((ch_ma p137.2 fX3_of x1).bind fun v141 => (m_X3_object v141 v136 p137.2).bind fun p142 => (m_X3_push p142.1 1 p142.2).bind fun p144 => some (p144))) else (if v1 = 15 then ((ch_ma σ fX3_of x1).bind fun v146 => (ch_ma σ fX3_fieldMany v146).bind fun v147 => (m_X3_hasRoom (2 + v147) σ).bind fun p148 => if p148.1 = 0 then ((m_X3_ends 3 p148.2).bind fun p150 => some (p150)) else ((ch_ma p148.2 fX3_of x1).bind fun v152 => (m_X3_object v152 v147 p148.2).bind fun p153 => (m_X3_push p153.1 1 p153.2).bind fun p155 => some (p155))) else (if v1 = 16 then ((ch_ma σ fX3_of x1).bind fun v157 => (ch_ma σ fX3_fieldMany v157).bind fun v158 => (m_X3_hasRoom (2 + v158) σ).bind fun p159 => if p159.1 = 0 then ((m_X3_ends 3 p159.2).bind fun p161 => some (p161)) else ((ch_ma p159.2 fX3_of x1).bind fun v163 => (m_X3_object v163 v158 p159.2).bind fun p164 => (m_X3_push p164.1 1 p164.2).bind fun p166 => some (p166))) else (if v1 = 17 then ((ch_ma σ fX3_of x1).bind fun v168 => (ch_ma σ fX3_fieldMany v168).bind fun v169 => (m_X3_hasRoom (2 + v169) σ).bind fun p170 => if p170.1 = 0 then ((m_X3_ends 3 p170.2).bind fun p172 => some (p172)) else ((ch_ma p170.2 fX3_of x1).bind fun v174 => (m_X3_object v174 v169 p170.2).bind fun p175 => (m_X3_push p175.1 1 p175.2).bind fun p177 => some (p177))) else (if v1 = 18 then ((ch_ma σ fX3_of x1).bind fun v179 => (ch_ma σ fX3_fieldMany v179).bind fun v180 => (m_X3_hasRoom (2 + v180) σ).bind fun p181 => if p181.1 = 0 then ((m_X3_ends 3 p181.2).bind fun p183 => some (p183)) else ((ch_ma p181.2 fX3_of x1).bind fun v185 => (m_X3_object v185 v180 p181.2).bind fun p186 => (m_X3_push p186.1 1 p186.2).bind fun p188 => some (p188))) else (if v1 = 19 then ((ch_ma σ fX3_openFrom ((σ.1 fX3_open) - 1)).bind fun v190 => (ch_ma σ fX3_of x1).bind fun v191 => (ch_ma σ fX3_local (v190 + v191)).bind fun v192 => (ch_ma σ fX3_openFrom ((σ.1 fX3_open) - 1)).bind fun v193 => (ch_ma σ fX3_of x1).bind fun v194 => (ch_ma σ fX3_isLocalObject (v193 + v194)).bind fun v195 => (m_X3_push v192 v195 σ).bind fun p196 => some (p196)) else (if v1 = 20 then ((ch_ma σ fX3_openThis ((σ.1 fX3_open) - 1)).bind fun v198 => (ch_ma σ fX3_wordsFrom v198).bind fun v199 => (ch_ma σ fX3_of x1).bind fun v200 => (ch_ma σ fX3_words (v199 + v200)).bind fun v201 => (ch_ma σ fX3_isObject (v199 + v200)).bind fun v202 => (m_X3_push v201 v202 σ).bind fun p203 => some (p203)) else (if v1 = 21 then ((ch_ma σ fX3_of x1).bind fun v205 => (m_X3_push v205 0 σ).bind fun p206 => some (p206)) else ((ch_ma σ fX3_of x1).bind fun v2 => (ch_ma σ fX3_fieldMany v2).bind fun v3 => (m_X3_hasRoom (2 + v3) σ).bind fun p4 => if p4.1 = 0 then ((m_X3_ends 3 p4.2).bind fun p6 => some (p6)) else ((ch_ma p4.2 fX3_of x1).bind fun v8 => (m_X3_object v8 v3 p4.2).bind fun p9 => (m_X3_push p9.1 1 p9.2).bind fun p11 => some (p11))))))))))))))))))))))))
theorem s_X3_leaf {g : State} {m : Nat} {w : ch_W} {x1 : Int32} {σ : ch_S} {res : ch_S} {Q : Outcome → ch_W → Prop} (h : m_X3_leaf x1 σ = some res) (hk : (fun r => ch_eV Q (ch_put m w r)) res) : ch_CT g false yX3_leaf 5 [.ref m, .int x1] (ch_put m w σ) Q := by
  unfold m_X3_leaf at h
  refine ch_ctL mX3_leaf (ls := [some (va_rf (some m)), some (.int x1), none, none]) q2242 rfl (ch_lyr (r := some m) (ch_lyi ch_ly0)) (Nat.le_of_ble_eq_true rfl) rfl ?_
  refine ch_aload_n 0 (some m) dX3_leaf_0 rfl (mp_gI 93 dX3_leaf_1 fl_X3_554 rfl (ch_iconst _ 1 dX3_leaf_4 rfl (ch_isub _ _ dX3_leaf_5 (ch_istore_n 2 _ (ls1 := [some (va_rf (some m)), some (.int x1), some (.int ((σ.1 fX3_open) - 1)), none]) dX3_leaf_6 (Nat.le_of_ble_eq_true rfl) rfl (ch_aload_n 0 (some m) dX3_leaf_7 rfl (mp_gA 16 dX3_leaf_8 fl_X3_25 rfl (ch_iload_n 1 _ dX3_leaf_11 rfl (?_))))))))
  refine mp_iald dX3_leaf_12 mk_16 h (fun v1 h => ?_)
  by_cases e0 : v1 = 0
  · have h := ch_ifT e0 h
    refine ch_tableIn _ (off := 103) (tgt := 116) dX3_leaf_13 (by rw [e0]; decide) (by rw [e0]; decide) (by rw [e0]; rfl) rfl ?_
    refine ch_aload_n 0 (some m) dX3_leaf_116 rfl (ch_aload_n 0 (some m) dX3_leaf_117 rfl (mp_gA 19 dX3_leaf_118 fl_X3_34 rfl (ch_iload_n 1 _ dX3_leaf_121 rfl (mp_iald dX3_leaf_122 mk_19 h (fun v13 h => ?_)))))
    obtain ⟨p14, hp15, h⟩ := ch_bd h
    refine ch_iconst _ 0 dX3_leaf_123 rfl (ch_iv yX3_push prog_14_method_82_code 3 none (ci := 3) (q := (RX3, TX3, 109)) (b := m) (d' := 2) (av := [.int v13, .int 0]) (rest := []) rfl dX3_leaf_124 q2243 q2245 rfl qs182 q2246 can_X3_push (Nat.le_of_ble_eq_true rfl) (Nat.le_of_ble_eq_true rfl) ch_put_tag (cp_kV (w1 := ch_put m w p14) (fun Q' hq => s_X3_push hp15 hq) ?_))
    obtain rfl := Option.some.inj h
    exact ch_goto 292 dX3_leaf_127 rfl (ch_return dX3_leaf_292 rfl hk)
  replace h := ch_ifF e0 h
  by_cases e1 : v1 = 1
  · have h := ch_ifT e1 h
    refine ch_tableIn _ (off := 117) (tgt := 130) dX3_leaf_13 (by rw [e1]; decide) (by rw [e1]; decide) (by rw [e1]; rfl) rfl ?_
    obtain ⟨p16, hp17, h⟩ := ch_bd h
    refine ch_aload_n 0 (some m) dX3_leaf_130 rfl (ch_iconst _ (-1) dX3_leaf_131 rfl (ch_iconst _ 1 dX3_leaf_132 rfl (ch_iv yX3_push prog_14_method_82_code 3 none (ci := 3) (q := (RX3, TX3, 109)) (b := m) (d' := 2) (av := [.int (-1), .int 1]) (rest := []) rfl dX3_leaf_133 q2243 q2245 rfl qs182 q2246 can_X3_push (Nat.le_of_ble_eq_true rfl) (Nat.le_of_ble_eq_true rfl) ch_put_tag (cp_kV (w1 := ch_put m w p16) (fun Q' hq => s_X3_push hp17 hq) ?_))))
    obtain rfl := Option.some.inj h
    exact ch_goto 292 dX3_leaf_136 rfl (ch_return dX3_leaf_292 rfl hk)
  replace h := ch_ifF e1 h
  by_cases e2 : v1 = 2
  · have h := ch_ifT e2 h
    refine ch_tableIn _ (off := 126) (tgt := 139) dX3_leaf_13 (by rw [e2]; decide) (by rw [e2]; decide) (by rw [e2]; rfl) rfl ?_
    refine ch_aload_n 0 (some m) dX3_leaf_139 rfl (ch_aload_n 0 (some m) dX3_leaf_140 rfl (mp_gA 94 dX3_leaf_141 fl_X3_178 rfl (ch_iload_n 2 _ dX3_leaf_144 rfl (mp_iald dX3_leaf_145 mk_94 h (fun v18 h => ?_)))))
    obtain ⟨p19, hp20, h⟩ := ch_bd h
    refine ch_iconst _ 1 dX3_leaf_146 rfl (ch_iv yX3_push prog_14_method_82_code 3 none (ci := 3) (q := (RX3, TX3, 109)) (b := m) (d' := 2) (av := [.int v18, .int 1]) (rest := []) rfl dX3_leaf_147 q2243 q2245 rfl qs182 q2246 can_X3_push (Nat.le_of_ble_eq_true rfl) (Nat.le_of_ble_eq_true rfl) ch_put_tag (cp_kV (w1 := ch_put m w p19) (fun Q' hq => s_X3_push hp20 hq) ?_))
    obtain rfl := Option.some.inj h
    exact ch_goto 292 dX3_leaf_150 rfl (ch_return dX3_leaf_292 rfl hk)
  replace h := ch_ifF e2 h
  by_cases e3 : v1 = 3
  · have h := ch_ifT e3 h
    refine ch_tableIn _ (off := 140) (tgt := 153) dX3_leaf_13 (by rw [e3]; decide) (by rw [e3]; decide) (by rw [e3]; rfl) rfl ?_
    obtain ⟨p21, hp22, h⟩ := ch_bd h
    refine ch_aload_n 0 (some m) dX3_leaf_153 rfl (ch_aload_n 0 (some m) dX3_leaf_154 rfl (ch_iv yX3_nextInput prog_14_method_94_code 3 (some .int) (ci := 3) (q := (RX3, TX3, 109)) (b := m) (d' := 2) (av := []) (rest := [va_rf (some m)]) rfl dX3_leaf_155 q2247 q2249 rfl qs183 q2250 can_X3_nextInput (Nat.le_of_ble_eq_true rfl) (ch_hw (Nat.le_of_ble_eq_true rfl)) ch_put_tag (cp_kI (v := p21.1) (w1 := ch_put m w p21.2) (fun Q' hq => s_X3_nextInput hp22 hq) ?_)))
    obtain ⟨p23, hp24, h⟩ := ch_bd h
    refine ch_iconst _ 0 dX3_leaf_158 rfl (ch_iv yX3_push prog_14_method_82_code 3 none (ci := 3) (q := (RX3, TX3, 109)) (b := m) (d' := 2) (av := [.int p21.1, .int 0]) (rest := []) rfl dX3_leaf_159 q2243 q2245 rfl qs182 q2246 can_X3_push (Nat.le_of_ble_eq_true rfl) (Nat.le_of_ble_eq_true rfl) ch_put_tag (cp_kV (w1 := ch_put m w p23) (fun Q' hq => s_X3_push hp24 hq) ?_))
    obtain rfl := Option.some.inj h
    exact ch_goto 292 dX3_leaf_162 rfl (ch_return dX3_leaf_292 rfl hk)
  replace h := ch_ifF e3 h
  by_cases e4 : v1 = 4
  · have h := ch_ifT e4 h
    refine ch_tableIn _ (off := 233) (tgt := 246) dX3_leaf_13 (by rw [e4]; decide) (by rw [e4]; decide) (by rw [e4]; rfl) rfl ?_
    refine ch_aload_n 0 (some m) dX3_leaf_246 rfl (mp_gA 42 dX3_leaf_247 fl_X3_91 rfl (ch_aload_n 0 (some m) dX3_leaf_250 rfl (mp_gA 19 dX3_leaf_251 fl_X3_34 rfl (ch_iload_n 1 _ dX3_leaf_254 rfl (mp_iald dX3_leaf_255 mk_19 h (fun v25 h => ?_))))))
    refine mp_iald dX3_leaf_256 mk_42 h (fun v26 h => ?_)
    obtain ⟨p27, hp28, h⟩ := ch_bd h
    refine ch_istore_n 3 _ (ls1 := [some (va_rf (some m)), some (.int x1), some (.int ((σ.1 fX3_open) - 1)), some (.int v26)]) dX3_leaf_257 (Nat.le_of_ble_eq_true rfl) rfl (ch_aload_n 0 (some m) dX3_leaf_258 rfl (ch_iconst _ 2 dX3_leaf_259 rfl (ch_iload_n 3 _ dX3_leaf_260 rfl (ch_iadd _ _ dX3_leaf_261 (ch_iv yX3_hasRoom prog_14_method_80_code 2 (some .boolean) (ci := 3) (q := (RX3, TX3, 109)) (b := m) (d' := 4) (av := [.int (2 + v26)]) (rest := []) rfl dX3_leaf_262 q2251 q2253 rfl qs184 q2254 can_X3_hasRoom (Nat.le_of_ble_eq_true rfl) (Nat.le_of_ble_eq_true rfl) ch_put_tag (cp_kI (v := p27.1) (w1 := ch_put m w p27.2) (fun Q' hq => s_X3_hasRoom hp28 hq) ?_))))))
    refine cp_if_eq _ (tgt := 287) dX3_leaf_265 rfl h (fun h => ?_) (fun h => ?_)
    · obtain ⟨p29, hp30, h⟩ := ch_bd h
      refine ch_aload_n 0 (some m) dX3_leaf_287 rfl (ch_iconst _ 3 dX3_leaf_288 rfl (ch_iv yX3_ends prog_14_method_84_code 2 none (ci := 3) (q := (RX3, TX3, 109)) (b := m) (d' := 2) (av := [.int 3]) (rest := []) rfl dX3_leaf_289 q2271 q2273 rfl qs189 q2274 can_X3_ends (Nat.le_of_ble_eq_true rfl) (Nat.le_of_ble_eq_true rfl) ch_put_tag (cp_kV (w1 := ch_put m w p29) (fun Q' hq => s_X3_ends hp30 hq) ?_)))
      obtain rfl := Option.some.inj h
      exact ch_return dX3_leaf_292 rfl hk
    · refine ch_aload_n 0 (some m) dX3_leaf_268 rfl (ch_aload_n 0 (some m) dX3_leaf_269 rfl (ch_aload_n 0 (some m) dX3_leaf_270 rfl (mp_gA 19 dX3_leaf_271 fl_X3_34 rfl (ch_iload_n 1 _ dX3_leaf_274 rfl (mp_iald dX3_leaf_275 mk_19 h (fun v31 h => ?_))))))
      obtain ⟨p32, hp33, h⟩ := ch_bd h
      refine ch_iload_n 3 _ dX3_leaf_276 rfl (ch_iv yX3_object prog_14_method_81_code 6 (some .int) (ci := 3) (q := (RX3, TX3, 109)) (b := m) (d' := 2) (av := [.int v31, .int v26]) (rest := [va_rf (some m)]) rfl dX3_leaf_277 q2194 q2196 rfl qs171 q2197 can_X3_object (Nat.le_of_ble_eq_true rfl) (ch_hw (Nat.le_of_ble_eq_true rfl)) ch_put_tag (cp_kI (v := p32.1) (w1 := ch_put m w p32.2) (fun Q' hq => s_X3_object hp33 hq) ?_))
      obtain ⟨p34, hp35, h⟩ := ch_bd h
      refine ch_iconst _ 1 dX3_leaf_280 rfl (ch_iv yX3_push prog_14_method_82_code 3 none (ci := 3) (q := (RX3, TX3, 109)) (b := m) (d' := 2) (av := [.int p32.1, .int 1]) (rest := []) rfl dX3_leaf_281 q2243 q2245 rfl qs182 q2246 can_X3_push (Nat.le_of_ble_eq_true rfl) (Nat.le_of_ble_eq_true rfl) ch_put_tag (cp_kV (w1 := ch_put m w p34) (fun Q' hq => s_X3_push hp35 hq) ?_))
      obtain rfl := Option.some.inj h
      exact ch_goto 292 dX3_leaf_284 rfl (ch_return dX3_leaf_292 rfl hk)
  replace h := ch_ifF e4 h
  by_cases e5 : v1 = 5
  · have h := ch_ifT e5 h
    refine ch_tableIn _ (off := 233) (tgt := 246) dX3_leaf_13 (by rw [e5]; decide) (by rw [e5]; decide) (by rw [e5]; rfl) rfl ?_
    refine ch_aload_n 0 (some m) dX3_leaf_246 rfl (mp_gA 42 dX3_leaf_247 fl_X3_91 rfl (ch_aload_n 0 (some m) dX3_leaf_250 rfl (mp_gA 19 dX3_leaf_251 fl_X3_34 rfl (ch_iload_n 1 _ dX3_leaf_254 rfl (mp_iald dX3_leaf_255 mk_19 h (fun v36 h => ?_))))))
    refine mp_iald dX3_leaf_256 mk_42 h (fun v37 h => ?_)
    obtain ⟨p38, hp39, h⟩ := ch_bd h
    refine ch_istore_n 3 _ (ls1 := [some (va_rf (some m)), some (.int x1), some (.int ((σ.1 fX3_open) - 1)), some (.int v37)]) dX3_leaf_257 (Nat.le_of_ble_eq_true rfl) rfl (ch_aload_n 0 (some m) dX3_leaf_258 rfl (ch_iconst _ 2 dX3_leaf_259 rfl (ch_iload_n 3 _ dX3_leaf_260 rfl (ch_iadd _ _ dX3_leaf_261 (ch_iv yX3_hasRoom prog_14_method_80_code 2 (some .boolean) (ci := 3) (q := (RX3, TX3, 109)) (b := m) (d' := 4) (av := [.int (2 + v37)]) (rest := []) rfl dX3_leaf_262 q2251 q2253 rfl qs184 q2254 can_X3_hasRoom (Nat.le_of_ble_eq_true rfl) (Nat.le_of_ble_eq_true rfl) ch_put_tag (cp_kI (v := p38.1) (w1 := ch_put m w p38.2) (fun Q' hq => s_X3_hasRoom hp39 hq) ?_))))))
    refine cp_if_eq _ (tgt := 287) dX3_leaf_265 rfl h (fun h => ?_) (fun h => ?_)
    · obtain ⟨p40, hp41, h⟩ := ch_bd h
      refine ch_aload_n 0 (some m) dX3_leaf_287 rfl (ch_iconst _ 3 dX3_leaf_288 rfl (ch_iv yX3_ends prog_14_method_84_code 2 none (ci := 3) (q := (RX3, TX3, 109)) (b := m) (d' := 2) (av := [.int 3]) (rest := []) rfl dX3_leaf_289 q2271 q2273 rfl qs189 q2274 can_X3_ends (Nat.le_of_ble_eq_true rfl) (Nat.le_of_ble_eq_true rfl) ch_put_tag (cp_kV (w1 := ch_put m w p40) (fun Q' hq => s_X3_ends hp41 hq) ?_)))
      obtain rfl := Option.some.inj h
      exact ch_return dX3_leaf_292 rfl hk
    · refine ch_aload_n 0 (some m) dX3_leaf_268 rfl (ch_aload_n 0 (some m) dX3_leaf_269 rfl (ch_aload_n 0 (some m) dX3_leaf_270 rfl (mp_gA 19 dX3_leaf_271 fl_X3_34 rfl (ch_iload_n 1 _ dX3_leaf_274 rfl (mp_iald dX3_leaf_275 mk_19 h (fun v42 h => ?_))))))
      obtain ⟨p43, hp44, h⟩ := ch_bd h
      refine ch_iload_n 3 _ dX3_leaf_276 rfl (ch_iv yX3_object prog_14_method_81_code 6 (some .int) (ci := 3) (q := (RX3, TX3, 109)) (b := m) (d' := 2) (av := [.int v42, .int v37]) (rest := [va_rf (some m)]) rfl dX3_leaf_277 q2194 q2196 rfl qs171 q2197 can_X3_object (Nat.le_of_ble_eq_true rfl) (ch_hw (Nat.le_of_ble_eq_true rfl)) ch_put_tag (cp_kI (v := p43.1) (w1 := ch_put m w p43.2) (fun Q' hq => s_X3_object hp44 hq) ?_))
      obtain ⟨p45, hp46, h⟩ := ch_bd h
      refine ch_iconst _ 1 dX3_leaf_280 rfl (ch_iv yX3_push prog_14_method_82_code 3 none (ci := 3) (q := (RX3, TX3, 109)) (b := m) (d' := 2) (av := [.int p43.1, .int 1]) (rest := []) rfl dX3_leaf_281 q2243 q2245 rfl qs182 q2246 can_X3_push (Nat.le_of_ble_eq_true rfl) (Nat.le_of_ble_eq_true rfl) ch_put_tag (cp_kV (w1 := ch_put m w p45) (fun Q' hq => s_X3_push hp46 hq) ?_))
      obtain rfl := Option.some.inj h
      exact ch_goto 292 dX3_leaf_284 rfl (ch_return dX3_leaf_292 rfl hk)
  replace h := ch_ifF e5 h
  by_cases e6 : v1 = 6
  · have h := ch_ifT e6 h
    refine ch_tableIn _ (off := 233) (tgt := 246) dX3_leaf_13 (by rw [e6]; decide) (by rw [e6]; decide) (by rw [e6]; rfl) rfl ?_
    refine ch_aload_n 0 (some m) dX3_leaf_246 rfl (mp_gA 42 dX3_leaf_247 fl_X3_91 rfl (ch_aload_n 0 (some m) dX3_leaf_250 rfl (mp_gA 19 dX3_leaf_251 fl_X3_34 rfl (ch_iload_n 1 _ dX3_leaf_254 rfl (mp_iald dX3_leaf_255 mk_19 h (fun v47 h => ?_))))))
    refine mp_iald dX3_leaf_256 mk_42 h (fun v48 h => ?_)
    obtain ⟨p49, hp50, h⟩ := ch_bd h
    refine ch_istore_n 3 _ (ls1 := [some (va_rf (some m)), some (.int x1), some (.int ((σ.1 fX3_open) - 1)), some (.int v48)]) dX3_leaf_257 (Nat.le_of_ble_eq_true rfl) rfl (ch_aload_n 0 (some m) dX3_leaf_258 rfl (ch_iconst _ 2 dX3_leaf_259 rfl (ch_iload_n 3 _ dX3_leaf_260 rfl (ch_iadd _ _ dX3_leaf_261 (ch_iv yX3_hasRoom prog_14_method_80_code 2 (some .boolean) (ci := 3) (q := (RX3, TX3, 109)) (b := m) (d' := 4) (av := [.int (2 + v48)]) (rest := []) rfl dX3_leaf_262 q2251 q2253 rfl qs184 q2254 can_X3_hasRoom (Nat.le_of_ble_eq_true rfl) (Nat.le_of_ble_eq_true rfl) ch_put_tag (cp_kI (v := p49.1) (w1 := ch_put m w p49.2) (fun Q' hq => s_X3_hasRoom hp50 hq) ?_))))))
    refine cp_if_eq _ (tgt := 287) dX3_leaf_265 rfl h (fun h => ?_) (fun h => ?_)
    · obtain ⟨p51, hp52, h⟩ := ch_bd h
      refine ch_aload_n 0 (some m) dX3_leaf_287 rfl (ch_iconst _ 3 dX3_leaf_288 rfl (ch_iv yX3_ends prog_14_method_84_code 2 none (ci := 3) (q := (RX3, TX3, 109)) (b := m) (d' := 2) (av := [.int 3]) (rest := []) rfl dX3_leaf_289 q2271 q2273 rfl qs189 q2274 can_X3_ends (Nat.le_of_ble_eq_true rfl) (Nat.le_of_ble_eq_true rfl) ch_put_tag (cp_kV (w1 := ch_put m w p51) (fun Q' hq => s_X3_ends hp52 hq) ?_)))
      obtain rfl := Option.some.inj h
      exact ch_return dX3_leaf_292 rfl hk
    · refine ch_aload_n 0 (some m) dX3_leaf_268 rfl (ch_aload_n 0 (some m) dX3_leaf_269 rfl (ch_aload_n 0 (some m) dX3_leaf_270 rfl (mp_gA 19 dX3_leaf_271 fl_X3_34 rfl (ch_iload_n 1 _ dX3_leaf_274 rfl (mp_iald dX3_leaf_275 mk_19 h (fun v53 h => ?_))))))
      obtain ⟨p54, hp55, h⟩ := ch_bd h
      refine ch_iload_n 3 _ dX3_leaf_276 rfl (ch_iv yX3_object prog_14_method_81_code 6 (some .int) (ci := 3) (q := (RX3, TX3, 109)) (b := m) (d' := 2) (av := [.int v53, .int v48]) (rest := [va_rf (some m)]) rfl dX3_leaf_277 q2194 q2196 rfl qs171 q2197 can_X3_object (Nat.le_of_ble_eq_true rfl) (ch_hw (Nat.le_of_ble_eq_true rfl)) ch_put_tag (cp_kI (v := p54.1) (w1 := ch_put m w p54.2) (fun Q' hq => s_X3_object hp55 hq) ?_))
      obtain ⟨p56, hp57, h⟩ := ch_bd h
      refine ch_iconst _ 1 dX3_leaf_280 rfl (ch_iv yX3_push prog_14_method_82_code 3 none (ci := 3) (q := (RX3, TX3, 109)) (b := m) (d' := 2) (av := [.int p54.1, .int 1]) (rest := []) rfl dX3_leaf_281 q2243 q2245 rfl qs182 q2246 can_X3_push (Nat.le_of_ble_eq_true rfl) (Nat.le_of_ble_eq_true rfl) ch_put_tag (cp_kV (w1 := ch_put m w p56) (fun Q' hq => s_X3_push hp57 hq) ?_))
      obtain rfl := Option.some.inj h
      exact ch_goto 292 dX3_leaf_284 rfl (ch_return dX3_leaf_292 rfl hk)
  replace h := ch_ifF e6 h
  by_cases e7 : v1 = 7
  · have h := ch_ifT e7 h
    refine ch_tableIn _ (off := 233) (tgt := 246) dX3_leaf_13 (by rw [e7]; decide) (by rw [e7]; decide) (by rw [e7]; rfl) rfl ?_
    refine ch_aload_n 0 (some m) dX3_leaf_246 rfl (mp_gA 42 dX3_leaf_247 fl_X3_91 rfl (ch_aload_n 0 (some m) dX3_leaf_250 rfl (mp_gA 19 dX3_leaf_251 fl_X3_34 rfl (ch_iload_n 1 _ dX3_leaf_254 rfl (mp_iald dX3_leaf_255 mk_19 h (fun v58 h => ?_))))))
    refine mp_iald dX3_leaf_256 mk_42 h (fun v59 h => ?_)
    obtain ⟨p60, hp61, h⟩ := ch_bd h
    refine ch_istore_n 3 _ (ls1 := [some (va_rf (some m)), some (.int x1), some (.int ((σ.1 fX3_open) - 1)), some (.int v59)]) dX3_leaf_257 (Nat.le_of_ble_eq_true rfl) rfl (ch_aload_n 0 (some m) dX3_leaf_258 rfl (ch_iconst _ 2 dX3_leaf_259 rfl (ch_iload_n 3 _ dX3_leaf_260 rfl (ch_iadd _ _ dX3_leaf_261 (ch_iv yX3_hasRoom prog_14_method_80_code 2 (some .boolean) (ci := 3) (q := (RX3, TX3, 109)) (b := m) (d' := 4) (av := [.int (2 + v59)]) (rest := []) rfl dX3_leaf_262 q2251 q2253 rfl qs184 q2254 can_X3_hasRoom (Nat.le_of_ble_eq_true rfl) (Nat.le_of_ble_eq_true rfl) ch_put_tag (cp_kI (v := p60.1) (w1 := ch_put m w p60.2) (fun Q' hq => s_X3_hasRoom hp61 hq) ?_))))))
    refine cp_if_eq _ (tgt := 287) dX3_leaf_265 rfl h (fun h => ?_) (fun h => ?_)
    · obtain ⟨p62, hp63, h⟩ := ch_bd h
      refine ch_aload_n 0 (some m) dX3_leaf_287 rfl (ch_iconst _ 3 dX3_leaf_288 rfl (ch_iv yX3_ends prog_14_method_84_code 2 none (ci := 3) (q := (RX3, TX3, 109)) (b := m) (d' := 2) (av := [.int 3]) (rest := []) rfl dX3_leaf_289 q2271 q2273 rfl qs189 q2274 can_X3_ends (Nat.le_of_ble_eq_true rfl) (Nat.le_of_ble_eq_true rfl) ch_put_tag (cp_kV (w1 := ch_put m w p62) (fun Q' hq => s_X3_ends hp63 hq) ?_)))
      obtain rfl := Option.some.inj h
      exact ch_return dX3_leaf_292 rfl hk
    · refine ch_aload_n 0 (some m) dX3_leaf_268 rfl (ch_aload_n 0 (some m) dX3_leaf_269 rfl (ch_aload_n 0 (some m) dX3_leaf_270 rfl (mp_gA 19 dX3_leaf_271 fl_X3_34 rfl (ch_iload_n 1 _ dX3_leaf_274 rfl (mp_iald dX3_leaf_275 mk_19 h (fun v64 h => ?_))))))
      obtain ⟨p65, hp66, h⟩ := ch_bd h
      refine ch_iload_n 3 _ dX3_leaf_276 rfl (ch_iv yX3_object prog_14_method_81_code 6 (some .int) (ci := 3) (q := (RX3, TX3, 109)) (b := m) (d' := 2) (av := [.int v64, .int v59]) (rest := [va_rf (some m)]) rfl dX3_leaf_277 q2194 q2196 rfl qs171 q2197 can_X3_object (Nat.le_of_ble_eq_true rfl) (ch_hw (Nat.le_of_ble_eq_true rfl)) ch_put_tag (cp_kI (v := p65.1) (w1 := ch_put m w p65.2) (fun Q' hq => s_X3_object hp66 hq) ?_))
      obtain ⟨p67, hp68, h⟩ := ch_bd h
      refine ch_iconst _ 1 dX3_leaf_280 rfl (ch_iv yX3_push prog_14_method_82_code 3 none (ci := 3) (q := (RX3, TX3, 109)) (b := m) (d' := 2) (av := [.int p65.1, .int 1]) (rest := []) rfl dX3_leaf_281 q2243 q2245 rfl qs182 q2246 can_X3_push (Nat.le_of_ble_eq_true rfl) (Nat.le_of_ble_eq_true rfl) ch_put_tag (cp_kV (w1 := ch_put m w p67) (fun Q' hq => s_X3_push hp68 hq) ?_))
      obtain rfl := Option.some.inj h
      exact ch_goto 292 dX3_leaf_284 rfl (ch_return dX3_leaf_292 rfl hk)
  replace h := ch_ifF e7 h
  by_cases e8 : v1 = 8
  · have h := ch_ifT e8 h
    refine ch_tableIn _ (off := 233) (tgt := 246) dX3_leaf_13 (by rw [e8]; decide) (by rw [e8]; decide) (by rw [e8]; rfl) rfl ?_
    refine ch_aload_n 0 (some m) dX3_leaf_246 rfl (mp_gA 42 dX3_leaf_247 fl_X3_91 rfl (ch_aload_n 0 (some m) dX3_leaf_250 rfl (mp_gA 19 dX3_leaf_251 fl_X3_34 rfl (ch_iload_n 1 _ dX3_leaf_254 rfl (mp_iald dX3_leaf_255 mk_19 h (fun v69 h => ?_))))))
    refine mp_iald dX3_leaf_256 mk_42 h (fun v70 h => ?_)
    obtain ⟨p71, hp72, h⟩ := ch_bd h
    refine ch_istore_n 3 _ (ls1 := [some (va_rf (some m)), some (.int x1), some (.int ((σ.1 fX3_open) - 1)), some (.int v70)]) dX3_leaf_257 (Nat.le_of_ble_eq_true rfl) rfl (ch_aload_n 0 (some m) dX3_leaf_258 rfl (ch_iconst _ 2 dX3_leaf_259 rfl (ch_iload_n 3 _ dX3_leaf_260 rfl (ch_iadd _ _ dX3_leaf_261 (ch_iv yX3_hasRoom prog_14_method_80_code 2 (some .boolean) (ci := 3) (q := (RX3, TX3, 109)) (b := m) (d' := 4) (av := [.int (2 + v70)]) (rest := []) rfl dX3_leaf_262 q2251 q2253 rfl qs184 q2254 can_X3_hasRoom (Nat.le_of_ble_eq_true rfl) (Nat.le_of_ble_eq_true rfl) ch_put_tag (cp_kI (v := p71.1) (w1 := ch_put m w p71.2) (fun Q' hq => s_X3_hasRoom hp72 hq) ?_))))))
    refine cp_if_eq _ (tgt := 287) dX3_leaf_265 rfl h (fun h => ?_) (fun h => ?_)
    · obtain ⟨p73, hp74, h⟩ := ch_bd h
      refine ch_aload_n 0 (some m) dX3_leaf_287 rfl (ch_iconst _ 3 dX3_leaf_288 rfl (ch_iv yX3_ends prog_14_method_84_code 2 none (ci := 3) (q := (RX3, TX3, 109)) (b := m) (d' := 2) (av := [.int 3]) (rest := []) rfl dX3_leaf_289 q2271 q2273 rfl qs189 q2274 can_X3_ends (Nat.le_of_ble_eq_true rfl) (Nat.le_of_ble_eq_true rfl) ch_put_tag (cp_kV (w1 := ch_put m w p73) (fun Q' hq => s_X3_ends hp74 hq) ?_)))
      obtain rfl := Option.some.inj h
      exact ch_return dX3_leaf_292 rfl hk
    · refine ch_aload_n 0 (some m) dX3_leaf_268 rfl (ch_aload_n 0 (some m) dX3_leaf_269 rfl (ch_aload_n 0 (some m) dX3_leaf_270 rfl (mp_gA 19 dX3_leaf_271 fl_X3_34 rfl (ch_iload_n 1 _ dX3_leaf_274 rfl (mp_iald dX3_leaf_275 mk_19 h (fun v75 h => ?_))))))
      obtain ⟨p76, hp77, h⟩ := ch_bd h
      refine ch_iload_n 3 _ dX3_leaf_276 rfl (ch_iv yX3_object prog_14_method_81_code 6 (some .int) (ci := 3) (q := (RX3, TX3, 109)) (b := m) (d' := 2) (av := [.int v75, .int v70]) (rest := [va_rf (some m)]) rfl dX3_leaf_277 q2194 q2196 rfl qs171 q2197 can_X3_object (Nat.le_of_ble_eq_true rfl) (ch_hw (Nat.le_of_ble_eq_true rfl)) ch_put_tag (cp_kI (v := p76.1) (w1 := ch_put m w p76.2) (fun Q' hq => s_X3_object hp77 hq) ?_))
      obtain ⟨p78, hp79, h⟩ := ch_bd h
      refine ch_iconst _ 1 dX3_leaf_280 rfl (ch_iv yX3_push prog_14_method_82_code 3 none (ci := 3) (q := (RX3, TX3, 109)) (b := m) (d' := 2) (av := [.int p76.1, .int 1]) (rest := []) rfl dX3_leaf_281 q2243 q2245 rfl qs182 q2246 can_X3_push (Nat.le_of_ble_eq_true rfl) (Nat.le_of_ble_eq_true rfl) ch_put_tag (cp_kV (w1 := ch_put m w p78) (fun Q' hq => s_X3_push hp79 hq) ?_))
      obtain rfl := Option.some.inj h
      exact ch_goto 292 dX3_leaf_284 rfl (ch_return dX3_leaf_292 rfl hk)
  replace h := ch_ifF e8 h
  by_cases e9 : v1 = 9
  · have h := ch_ifT e9 h
    refine ch_tableIn _ (off := 233) (tgt := 246) dX3_leaf_13 (by rw [e9]; decide) (by rw [e9]; decide) (by rw [e9]; rfl) rfl ?_
    refine ch_aload_n 0 (some m) dX3_leaf_246 rfl (mp_gA 42 dX3_leaf_247 fl_X3_91 rfl (ch_aload_n 0 (some m) dX3_leaf_250 rfl (mp_gA 19 dX3_leaf_251 fl_X3_34 rfl (ch_iload_n 1 _ dX3_leaf_254 rfl (mp_iald dX3_leaf_255 mk_19 h (fun v80 h => ?_))))))
    refine mp_iald dX3_leaf_256 mk_42 h (fun v81 h => ?_)
    obtain ⟨p82, hp83, h⟩ := ch_bd h
    refine ch_istore_n 3 _ (ls1 := [some (va_rf (some m)), some (.int x1), some (.int ((σ.1 fX3_open) - 1)), some (.int v81)]) dX3_leaf_257 (Nat.le_of_ble_eq_true rfl) rfl (ch_aload_n 0 (some m) dX3_leaf_258 rfl (ch_iconst _ 2 dX3_leaf_259 rfl (ch_iload_n 3 _ dX3_leaf_260 rfl (ch_iadd _ _ dX3_leaf_261 (ch_iv yX3_hasRoom prog_14_method_80_code 2 (some .boolean) (ci := 3) (q := (RX3, TX3, 109)) (b := m) (d' := 4) (av := [.int (2 + v81)]) (rest := []) rfl dX3_leaf_262 q2251 q2253 rfl qs184 q2254 can_X3_hasRoom (Nat.le_of_ble_eq_true rfl) (Nat.le_of_ble_eq_true rfl) ch_put_tag (cp_kI (v := p82.1) (w1 := ch_put m w p82.2) (fun Q' hq => s_X3_hasRoom hp83 hq) ?_))))))
    refine cp_if_eq _ (tgt := 287) dX3_leaf_265 rfl h (fun h => ?_) (fun h => ?_)
    · obtain ⟨p84, hp85, h⟩ := ch_bd h
      refine ch_aload_n 0 (some m) dX3_leaf_287 rfl (ch_iconst _ 3 dX3_leaf_288 rfl (ch_iv yX3_ends prog_14_method_84_code 2 none (ci := 3) (q := (RX3, TX3, 109)) (b := m) (d' := 2) (av := [.int 3]) (rest := []) rfl dX3_leaf_289 q2271 q2273 rfl qs189 q2274 can_X3_ends (Nat.le_of_ble_eq_true rfl) (Nat.le_of_ble_eq_true rfl) ch_put_tag (cp_kV (w1 := ch_put m w p84) (fun Q' hq => s_X3_ends hp85 hq) ?_)))
      obtain rfl := Option.some.inj h
      exact ch_return dX3_leaf_292 rfl hk
    · refine ch_aload_n 0 (some m) dX3_leaf_268 rfl (ch_aload_n 0 (some m) dX3_leaf_269 rfl (ch_aload_n 0 (some m) dX3_leaf_270 rfl (mp_gA 19 dX3_leaf_271 fl_X3_34 rfl (ch_iload_n 1 _ dX3_leaf_274 rfl (mp_iald dX3_leaf_275 mk_19 h (fun v86 h => ?_))))))
      obtain ⟨p87, hp88, h⟩ := ch_bd h
      refine ch_iload_n 3 _ dX3_leaf_276 rfl (ch_iv yX3_object prog_14_method_81_code 6 (some .int) (ci := 3) (q := (RX3, TX3, 109)) (b := m) (d' := 2) (av := [.int v86, .int v81]) (rest := [va_rf (some m)]) rfl dX3_leaf_277 q2194 q2196 rfl qs171 q2197 can_X3_object (Nat.le_of_ble_eq_true rfl) (ch_hw (Nat.le_of_ble_eq_true rfl)) ch_put_tag (cp_kI (v := p87.1) (w1 := ch_put m w p87.2) (fun Q' hq => s_X3_object hp88 hq) ?_))
      obtain ⟨p89, hp90, h⟩ := ch_bd h
      refine ch_iconst _ 1 dX3_leaf_280 rfl (ch_iv yX3_push prog_14_method_82_code 3 none (ci := 3) (q := (RX3, TX3, 109)) (b := m) (d' := 2) (av := [.int p87.1, .int 1]) (rest := []) rfl dX3_leaf_281 q2243 q2245 rfl qs182 q2246 can_X3_push (Nat.le_of_ble_eq_true rfl) (Nat.le_of_ble_eq_true rfl) ch_put_tag (cp_kV (w1 := ch_put m w p89) (fun Q' hq => s_X3_push hp90 hq) ?_))
      obtain rfl := Option.some.inj h
      exact ch_goto 292 dX3_leaf_284 rfl (ch_return dX3_leaf_292 rfl hk)
  replace h := ch_ifF e9 h
  by_cases e10 : v1 = 10
  · have h := ch_ifT e10 h
    refine ch_tableIn _ (off := 233) (tgt := 246) dX3_leaf_13 (by rw [e10]; decide) (by rw [e10]; decide) (by rw [e10]; rfl) rfl ?_
    refine ch_aload_n 0 (some m) dX3_leaf_246 rfl (mp_gA 42 dX3_leaf_247 fl_X3_91 rfl (ch_aload_n 0 (some m) dX3_leaf_250 rfl (mp_gA 19 dX3_leaf_251 fl_X3_34 rfl (ch_iload_n 1 _ dX3_leaf_254 rfl (mp_iald dX3_leaf_255 mk_19 h (fun v91 h => ?_))))))
    refine mp_iald dX3_leaf_256 mk_42 h (fun v92 h => ?_)
    obtain ⟨p93, hp94, h⟩ := ch_bd h
    refine ch_istore_n 3 _ (ls1 := [some (va_rf (some m)), some (.int x1), some (.int ((σ.1 fX3_open) - 1)), some (.int v92)]) dX3_leaf_257 (Nat.le_of_ble_eq_true rfl) rfl (ch_aload_n 0 (some m) dX3_leaf_258 rfl (ch_iconst _ 2 dX3_leaf_259 rfl (ch_iload_n 3 _ dX3_leaf_260 rfl (ch_iadd _ _ dX3_leaf_261 (ch_iv yX3_hasRoom prog_14_method_80_code 2 (some .boolean) (ci := 3) (q := (RX3, TX3, 109)) (b := m) (d' := 4) (av := [.int (2 + v92)]) (rest := []) rfl dX3_leaf_262 q2251 q2253 rfl qs184 q2254 can_X3_hasRoom (Nat.le_of_ble_eq_true rfl) (Nat.le_of_ble_eq_true rfl) ch_put_tag (cp_kI (v := p93.1) (w1 := ch_put m w p93.2) (fun Q' hq => s_X3_hasRoom hp94 hq) ?_))))))
    refine cp_if_eq _ (tgt := 287) dX3_leaf_265 rfl h (fun h => ?_) (fun h => ?_)
    · obtain ⟨p95, hp96, h⟩ := ch_bd h
      refine ch_aload_n 0 (some m) dX3_leaf_287 rfl (ch_iconst _ 3 dX3_leaf_288 rfl (ch_iv yX3_ends prog_14_method_84_code 2 none (ci := 3) (q := (RX3, TX3, 109)) (b := m) (d' := 2) (av := [.int 3]) (rest := []) rfl dX3_leaf_289 q2271 q2273 rfl qs189 q2274 can_X3_ends (Nat.le_of_ble_eq_true rfl) (Nat.le_of_ble_eq_true rfl) ch_put_tag (cp_kV (w1 := ch_put m w p95) (fun Q' hq => s_X3_ends hp96 hq) ?_)))
      obtain rfl := Option.some.inj h
      exact ch_return dX3_leaf_292 rfl hk
    · refine ch_aload_n 0 (some m) dX3_leaf_268 rfl (ch_aload_n 0 (some m) dX3_leaf_269 rfl (ch_aload_n 0 (some m) dX3_leaf_270 rfl (mp_gA 19 dX3_leaf_271 fl_X3_34 rfl (ch_iload_n 1 _ dX3_leaf_274 rfl (mp_iald dX3_leaf_275 mk_19 h (fun v97 h => ?_))))))
      obtain ⟨p98, hp99, h⟩ := ch_bd h
      refine ch_iload_n 3 _ dX3_leaf_276 rfl (ch_iv yX3_object prog_14_method_81_code 6 (some .int) (ci := 3) (q := (RX3, TX3, 109)) (b := m) (d' := 2) (av := [.int v97, .int v92]) (rest := [va_rf (some m)]) rfl dX3_leaf_277 q2194 q2196 rfl qs171 q2197 can_X3_object (Nat.le_of_ble_eq_true rfl) (ch_hw (Nat.le_of_ble_eq_true rfl)) ch_put_tag (cp_kI (v := p98.1) (w1 := ch_put m w p98.2) (fun Q' hq => s_X3_object hp99 hq) ?_))
      obtain ⟨p100, hp101, h⟩ := ch_bd h
      refine ch_iconst _ 1 dX3_leaf_280 rfl (ch_iv yX3_push prog_14_method_82_code 3 none (ci := 3) (q := (RX3, TX3, 109)) (b := m) (d' := 2) (av := [.int p98.1, .int 1]) (rest := []) rfl dX3_leaf_281 q2243 q2245 rfl qs182 q2246 can_X3_push (Nat.le_of_ble_eq_true rfl) (Nat.le_of_ble_eq_true rfl) ch_put_tag (cp_kV (w1 := ch_put m w p100) (fun Q' hq => s_X3_push hp101 hq) ?_))
      obtain rfl := Option.some.inj h
      exact ch_goto 292 dX3_leaf_284 rfl (ch_return dX3_leaf_292 rfl hk)
  replace h := ch_ifF e10 h
  by_cases e11 : v1 = 11
  · have h := ch_ifT e11 h
    refine ch_tableIn _ (off := 233) (tgt := 246) dX3_leaf_13 (by rw [e11]; decide) (by rw [e11]; decide) (by rw [e11]; rfl) rfl ?_
    refine ch_aload_n 0 (some m) dX3_leaf_246 rfl (mp_gA 42 dX3_leaf_247 fl_X3_91 rfl (ch_aload_n 0 (some m) dX3_leaf_250 rfl (mp_gA 19 dX3_leaf_251 fl_X3_34 rfl (ch_iload_n 1 _ dX3_leaf_254 rfl (mp_iald dX3_leaf_255 mk_19 h (fun v102 h => ?_))))))
    refine mp_iald dX3_leaf_256 mk_42 h (fun v103 h => ?_)
    obtain ⟨p104, hp105, h⟩ := ch_bd h
    refine ch_istore_n 3 _ (ls1 := [some (va_rf (some m)), some (.int x1), some (.int ((σ.1 fX3_open) - 1)), some (.int v103)]) dX3_leaf_257 (Nat.le_of_ble_eq_true rfl) rfl (ch_aload_n 0 (some m) dX3_leaf_258 rfl (ch_iconst _ 2 dX3_leaf_259 rfl (ch_iload_n 3 _ dX3_leaf_260 rfl (ch_iadd _ _ dX3_leaf_261 (ch_iv yX3_hasRoom prog_14_method_80_code 2 (some .boolean) (ci := 3) (q := (RX3, TX3, 109)) (b := m) (d' := 4) (av := [.int (2 + v103)]) (rest := []) rfl dX3_leaf_262 q2251 q2253 rfl qs184 q2254 can_X3_hasRoom (Nat.le_of_ble_eq_true rfl) (Nat.le_of_ble_eq_true rfl) ch_put_tag (cp_kI (v := p104.1) (w1 := ch_put m w p104.2) (fun Q' hq => s_X3_hasRoom hp105 hq) ?_))))))
    refine cp_if_eq _ (tgt := 287) dX3_leaf_265 rfl h (fun h => ?_) (fun h => ?_)
    · obtain ⟨p106, hp107, h⟩ := ch_bd h
      refine ch_aload_n 0 (some m) dX3_leaf_287 rfl (ch_iconst _ 3 dX3_leaf_288 rfl (ch_iv yX3_ends prog_14_method_84_code 2 none (ci := 3) (q := (RX3, TX3, 109)) (b := m) (d' := 2) (av := [.int 3]) (rest := []) rfl dX3_leaf_289 q2271 q2273 rfl qs189 q2274 can_X3_ends (Nat.le_of_ble_eq_true rfl) (Nat.le_of_ble_eq_true rfl) ch_put_tag (cp_kV (w1 := ch_put m w p106) (fun Q' hq => s_X3_ends hp107 hq) ?_)))
      obtain rfl := Option.some.inj h
      exact ch_return dX3_leaf_292 rfl hk
    · refine ch_aload_n 0 (some m) dX3_leaf_268 rfl (ch_aload_n 0 (some m) dX3_leaf_269 rfl (ch_aload_n 0 (some m) dX3_leaf_270 rfl (mp_gA 19 dX3_leaf_271 fl_X3_34 rfl (ch_iload_n 1 _ dX3_leaf_274 rfl (mp_iald dX3_leaf_275 mk_19 h (fun v108 h => ?_))))))
      obtain ⟨p109, hp110, h⟩ := ch_bd h
      refine ch_iload_n 3 _ dX3_leaf_276 rfl (ch_iv yX3_object prog_14_method_81_code 6 (some .int) (ci := 3) (q := (RX3, TX3, 109)) (b := m) (d' := 2) (av := [.int v108, .int v103]) (rest := [va_rf (some m)]) rfl dX3_leaf_277 q2194 q2196 rfl qs171 q2197 can_X3_object (Nat.le_of_ble_eq_true rfl) (ch_hw (Nat.le_of_ble_eq_true rfl)) ch_put_tag (cp_kI (v := p109.1) (w1 := ch_put m w p109.2) (fun Q' hq => s_X3_object hp110 hq) ?_))
      obtain ⟨p111, hp112, h⟩ := ch_bd h
      refine ch_iconst _ 1 dX3_leaf_280 rfl (ch_iv yX3_push prog_14_method_82_code 3 none (ci := 3) (q := (RX3, TX3, 109)) (b := m) (d' := 2) (av := [.int p109.1, .int 1]) (rest := []) rfl dX3_leaf_281 q2243 q2245 rfl qs182 q2246 can_X3_push (Nat.le_of_ble_eq_true rfl) (Nat.le_of_ble_eq_true rfl) ch_put_tag (cp_kV (w1 := ch_put m w p111) (fun Q' hq => s_X3_push hp112 hq) ?_))
      obtain rfl := Option.some.inj h
      exact ch_goto 292 dX3_leaf_284 rfl (ch_return dX3_leaf_292 rfl hk)
  replace h := ch_ifF e11 h
  by_cases e12 : v1 = 12
  · have h := ch_ifT e12 h
    refine ch_tableIn _ (off := 233) (tgt := 246) dX3_leaf_13 (by rw [e12]; decide) (by rw [e12]; decide) (by rw [e12]; rfl) rfl ?_
    refine ch_aload_n 0 (some m) dX3_leaf_246 rfl (mp_gA 42 dX3_leaf_247 fl_X3_91 rfl (ch_aload_n 0 (some m) dX3_leaf_250 rfl (mp_gA 19 dX3_leaf_251 fl_X3_34 rfl (ch_iload_n 1 _ dX3_leaf_254 rfl (mp_iald dX3_leaf_255 mk_19 h (fun v113 h => ?_))))))
    refine mp_iald dX3_leaf_256 mk_42 h (fun v114 h => ?_)
    obtain ⟨p115, hp116, h⟩ := ch_bd h
    refine ch_istore_n 3 _ (ls1 := [some (va_rf (some m)), some (.int x1), some (.int ((σ.1 fX3_open) - 1)), some (.int v114)]) dX3_leaf_257 (Nat.le_of_ble_eq_true rfl) rfl (ch_aload_n 0 (some m) dX3_leaf_258 rfl (ch_iconst _ 2 dX3_leaf_259 rfl (ch_iload_n 3 _ dX3_leaf_260 rfl (ch_iadd _ _ dX3_leaf_261 (ch_iv yX3_hasRoom prog_14_method_80_code 2 (some .boolean) (ci := 3) (q := (RX3, TX3, 109)) (b := m) (d' := 4) (av := [.int (2 + v114)]) (rest := []) rfl dX3_leaf_262 q2251 q2253 rfl qs184 q2254 can_X3_hasRoom (Nat.le_of_ble_eq_true rfl) (Nat.le_of_ble_eq_true rfl) ch_put_tag (cp_kI (v := p115.1) (w1 := ch_put m w p115.2) (fun Q' hq => s_X3_hasRoom hp116 hq) ?_))))))
    refine cp_if_eq _ (tgt := 287) dX3_leaf_265 rfl h (fun h => ?_) (fun h => ?_)
    · obtain ⟨p117, hp118, h⟩ := ch_bd h
      refine ch_aload_n 0 (some m) dX3_leaf_287 rfl (ch_iconst _ 3 dX3_leaf_288 rfl (ch_iv yX3_ends prog_14_method_84_code 2 none (ci := 3) (q := (RX3, TX3, 109)) (b := m) (d' := 2) (av := [.int 3]) (rest := []) rfl dX3_leaf_289 q2271 q2273 rfl qs189 q2274 can_X3_ends (Nat.le_of_ble_eq_true rfl) (Nat.le_of_ble_eq_true rfl) ch_put_tag (cp_kV (w1 := ch_put m w p117) (fun Q' hq => s_X3_ends hp118 hq) ?_)))
      obtain rfl := Option.some.inj h
      exact ch_return dX3_leaf_292 rfl hk
    · refine ch_aload_n 0 (some m) dX3_leaf_268 rfl (ch_aload_n 0 (some m) dX3_leaf_269 rfl (ch_aload_n 0 (some m) dX3_leaf_270 rfl (mp_gA 19 dX3_leaf_271 fl_X3_34 rfl (ch_iload_n 1 _ dX3_leaf_274 rfl (mp_iald dX3_leaf_275 mk_19 h (fun v119 h => ?_))))))
      obtain ⟨p120, hp121, h⟩ := ch_bd h
      refine ch_iload_n 3 _ dX3_leaf_276 rfl (ch_iv yX3_object prog_14_method_81_code 6 (some .int) (ci := 3) (q := (RX3, TX3, 109)) (b := m) (d' := 2) (av := [.int v119, .int v114]) (rest := [va_rf (some m)]) rfl dX3_leaf_277 q2194 q2196 rfl qs171 q2197 can_X3_object (Nat.le_of_ble_eq_true rfl) (ch_hw (Nat.le_of_ble_eq_true rfl)) ch_put_tag (cp_kI (v := p120.1) (w1 := ch_put m w p120.2) (fun Q' hq => s_X3_object hp121 hq) ?_))
      obtain ⟨p122, hp123, h⟩ := ch_bd h
      refine ch_iconst _ 1 dX3_leaf_280 rfl (ch_iv yX3_push prog_14_method_82_code 3 none (ci := 3) (q := (RX3, TX3, 109)) (b := m) (d' := 2) (av := [.int p120.1, .int 1]) (rest := []) rfl dX3_leaf_281 q2243 q2245 rfl qs182 q2246 can_X3_push (Nat.le_of_ble_eq_true rfl) (Nat.le_of_ble_eq_true rfl) ch_put_tag (cp_kV (w1 := ch_put m w p122) (fun Q' hq => s_X3_push hp123 hq) ?_))
      obtain rfl := Option.some.inj h
      exact ch_goto 292 dX3_leaf_284 rfl (ch_return dX3_leaf_292 rfl hk)
  replace h := ch_ifF e12 h
  by_cases e13 : v1 = 13
  · have h := ch_ifT e13 h
    refine ch_tableIn _ (off := 233) (tgt := 246) dX3_leaf_13 (by rw [e13]; decide) (by rw [e13]; decide) (by rw [e13]; rfl) rfl ?_
    refine ch_aload_n 0 (some m) dX3_leaf_246 rfl (mp_gA 42 dX3_leaf_247 fl_X3_91 rfl (ch_aload_n 0 (some m) dX3_leaf_250 rfl (mp_gA 19 dX3_leaf_251 fl_X3_34 rfl (ch_iload_n 1 _ dX3_leaf_254 rfl (mp_iald dX3_leaf_255 mk_19 h (fun v124 h => ?_))))))
    refine mp_iald dX3_leaf_256 mk_42 h (fun v125 h => ?_)
    obtain ⟨p126, hp127, h⟩ := ch_bd h
    refine ch_istore_n 3 _ (ls1 := [some (va_rf (some m)), some (.int x1), some (.int ((σ.1 fX3_open) - 1)), some (.int v125)]) dX3_leaf_257 (Nat.le_of_ble_eq_true rfl) rfl (ch_aload_n 0 (some m) dX3_leaf_258 rfl (ch_iconst _ 2 dX3_leaf_259 rfl (ch_iload_n 3 _ dX3_leaf_260 rfl (ch_iadd _ _ dX3_leaf_261 (ch_iv yX3_hasRoom prog_14_method_80_code 2 (some .boolean) (ci := 3) (q := (RX3, TX3, 109)) (b := m) (d' := 4) (av := [.int (2 + v125)]) (rest := []) rfl dX3_leaf_262 q2251 q2253 rfl qs184 q2254 can_X3_hasRoom (Nat.le_of_ble_eq_true rfl) (Nat.le_of_ble_eq_true rfl) ch_put_tag (cp_kI (v := p126.1) (w1 := ch_put m w p126.2) (fun Q' hq => s_X3_hasRoom hp127 hq) ?_))))))
    refine cp_if_eq _ (tgt := 287) dX3_leaf_265 rfl h (fun h => ?_) (fun h => ?_)
    · obtain ⟨p128, hp129, h⟩ := ch_bd h
      refine ch_aload_n 0 (some m) dX3_leaf_287 rfl (ch_iconst _ 3 dX3_leaf_288 rfl (ch_iv yX3_ends prog_14_method_84_code 2 none (ci := 3) (q := (RX3, TX3, 109)) (b := m) (d' := 2) (av := [.int 3]) (rest := []) rfl dX3_leaf_289 q2271 q2273 rfl qs189 q2274 can_X3_ends (Nat.le_of_ble_eq_true rfl) (Nat.le_of_ble_eq_true rfl) ch_put_tag (cp_kV (w1 := ch_put m w p128) (fun Q' hq => s_X3_ends hp129 hq) ?_)))
      obtain rfl := Option.some.inj h
      exact ch_return dX3_leaf_292 rfl hk
    · refine ch_aload_n 0 (some m) dX3_leaf_268 rfl (ch_aload_n 0 (some m) dX3_leaf_269 rfl (ch_aload_n 0 (some m) dX3_leaf_270 rfl (mp_gA 19 dX3_leaf_271 fl_X3_34 rfl (ch_iload_n 1 _ dX3_leaf_274 rfl (mp_iald dX3_leaf_275 mk_19 h (fun v130 h => ?_))))))
      obtain ⟨p131, hp132, h⟩ := ch_bd h
      refine ch_iload_n 3 _ dX3_leaf_276 rfl (ch_iv yX3_object prog_14_method_81_code 6 (some .int) (ci := 3) (q := (RX3, TX3, 109)) (b := m) (d' := 2) (av := [.int v130, .int v125]) (rest := [va_rf (some m)]) rfl dX3_leaf_277 q2194 q2196 rfl qs171 q2197 can_X3_object (Nat.le_of_ble_eq_true rfl) (ch_hw (Nat.le_of_ble_eq_true rfl)) ch_put_tag (cp_kI (v := p131.1) (w1 := ch_put m w p131.2) (fun Q' hq => s_X3_object hp132 hq) ?_))
      obtain ⟨p133, hp134, h⟩ := ch_bd h
      refine ch_iconst _ 1 dX3_leaf_280 rfl (ch_iv yX3_push prog_14_method_82_code 3 none (ci := 3) (q := (RX3, TX3, 109)) (b := m) (d' := 2) (av := [.int p131.1, .int 1]) (rest := []) rfl dX3_leaf_281 q2243 q2245 rfl qs182 q2246 can_X3_push (Nat.le_of_ble_eq_true rfl) (Nat.le_of_ble_eq_true rfl) ch_put_tag (cp_kV (w1 := ch_put m w p133) (fun Q' hq => s_X3_push hp134 hq) ?_))
      obtain rfl := Option.some.inj h
      exact ch_goto 292 dX3_leaf_284 rfl (ch_return dX3_leaf_292 rfl hk)
  replace h := ch_ifF e13 h
  by_cases e14 : v1 = 14
  · have h := ch_ifT e14 h
    refine ch_tableIn _ (off := 233) (tgt := 246) dX3_leaf_13 (by rw [e14]; decide) (by rw [e14]; decide) (by rw [e14]; rfl) rfl ?_
    refine ch_aload_n 0 (some m) dX3_leaf_246 rfl (mp_gA 42 dX3_leaf_247 fl_X3_91 rfl (ch_aload_n 0 (some m) dX3_leaf_250 rfl (mp_gA 19 dX3_leaf_251 fl_X3_34 rfl (ch_iload_n 1 _ dX3_leaf_254 rfl (mp_iald dX3_leaf_255 mk_19 h (fun v135 h => ?_))))))
    refine mp_iald dX3_leaf_256 mk_42 h (fun v136 h => ?_)
    obtain ⟨p137, hp138, h⟩ := ch_bd h
    refine ch_istore_n 3 _ (ls1 := [some (va_rf (some m)), some (.int x1), some (.int ((σ.1 fX3_open) - 1)), some (.int v136)]) dX3_leaf_257 (Nat.le_of_ble_eq_true rfl) rfl (ch_aload_n 0 (some m) dX3_leaf_258 rfl (ch_iconst _ 2 dX3_leaf_259 rfl (ch_iload_n 3 _ dX3_leaf_260 rfl (ch_iadd _ _ dX3_leaf_261 (ch_iv yX3_hasRoom prog_14_method_80_code 2 (some .boolean) (ci := 3) (q := (RX3, TX3, 109)) (b := m) (d' := 4) (av := [.int (2 + v136)]) (rest := []) rfl dX3_leaf_262 q2251 q2253 rfl qs184 q2254 can_X3_hasRoom (Nat.le_of_ble_eq_true rfl) (Nat.le_of_ble_eq_true rfl) ch_put_tag (cp_kI (v := p137.1) (w1 := ch_put m w p137.2) (fun Q' hq => s_X3_hasRoom hp138 hq) ?_))))))
    refine cp_if_eq _ (tgt := 287) dX3_leaf_265 rfl h (fun h => ?_) (fun h => ?_)
    · obtain ⟨p139, hp140, h⟩ := ch_bd h
      refine ch_aload_n 0 (some m) dX3_leaf_287 rfl (ch_iconst _ 3 dX3_leaf_288 rfl (ch_iv yX3_ends prog_14_method_84_code 2 none (ci := 3) (q := (RX3, TX3, 109)) (b := m) (d' := 2) (av := [.int 3]) (rest := []) rfl dX3_leaf_289 q2271 q2273 rfl qs189 q2274 can_X3_ends (Nat.le_of_ble_eq_true rfl) (Nat.le_of_ble_eq_true rfl) ch_put_tag (cp_kV (w1 := ch_put m w p139) (fun Q' hq => s_X3_ends hp140 hq) ?_)))
      obtain rfl := Option.some.inj h
      exact ch_return dX3_leaf_292 rfl hk
    · refine ch_aload_n 0 (some m) dX3_leaf_268 rfl (ch_aload_n 0 (some m) dX3_leaf_269 rfl (ch_aload_n 0 (some m) dX3_leaf_270 rfl (mp_gA 19 dX3_leaf_271 fl_X3_34 rfl (ch_iload_n 1 _ dX3_leaf_274 rfl (mp_iald dX3_leaf_275 mk_19 h (fun v141 h => ?_))))))
      obtain ⟨p142, hp143, h⟩ := ch_bd h
      refine ch_iload_n 3 _ dX3_leaf_276 rfl (ch_iv yX3_object prog_14_method_81_code 6 (some .int) (ci := 3) (q := (RX3, TX3, 109)) (b := m) (d' := 2) (av := [.int v141, .int v136]) (rest := [va_rf (some m)]) rfl dX3_leaf_277 q2194 q2196 rfl qs171 q2197 can_X3_object (Nat.le_of_ble_eq_true rfl) (ch_hw (Nat.le_of_ble_eq_true rfl)) ch_put_tag (cp_kI (v := p142.1) (w1 := ch_put m w p142.2) (fun Q' hq => s_X3_object hp143 hq) ?_))
      obtain ⟨p144, hp145, h⟩ := ch_bd h
      refine ch_iconst _ 1 dX3_leaf_280 rfl (ch_iv yX3_push prog_14_method_82_code 3 none (ci := 3) (q := (RX3, TX3, 109)) (b := m) (d' := 2) (av := [.int p142.1, .int 1]) (rest := []) rfl dX3_leaf_281 q2243 q2245 rfl qs182 q2246 can_X3_push (Nat.le_of_ble_eq_true rfl) (Nat.le_of_ble_eq_true rfl) ch_put_tag (cp_kV (w1 := ch_put m w p144) (fun Q' hq => s_X3_push hp145 hq) ?_))
      obtain rfl := Option.some.inj h
      exact ch_goto 292 dX3_leaf_284 rfl (ch_return dX3_leaf_292 rfl hk)
  replace h := ch_ifF e14 h
  by_cases e15 : v1 = 15
  · have h := ch_ifT e15 h
    refine ch_tableIn _ (off := 233) (tgt := 246) dX3_leaf_13 (by rw [e15]; decide) (by rw [e15]; decide) (by rw [e15]; rfl) rfl ?_
    refine ch_aload_n 0 (some m) dX3_leaf_246 rfl (mp_gA 42 dX3_leaf_247 fl_X3_91 rfl (ch_aload_n 0 (some m) dX3_leaf_250 rfl (mp_gA 19 dX3_leaf_251 fl_X3_34 rfl (ch_iload_n 1 _ dX3_leaf_254 rfl (mp_iald dX3_leaf_255 mk_19 h (fun v146 h => ?_))))))
    refine mp_iald dX3_leaf_256 mk_42 h (fun v147 h => ?_)
    obtain ⟨p148, hp149, h⟩ := ch_bd h
    refine ch_istore_n 3 _ (ls1 := [some (va_rf (some m)), some (.int x1), some (.int ((σ.1 fX3_open) - 1)), some (.int v147)]) dX3_leaf_257 (Nat.le_of_ble_eq_true rfl) rfl (ch_aload_n 0 (some m) dX3_leaf_258 rfl (ch_iconst _ 2 dX3_leaf_259 rfl (ch_iload_n 3 _ dX3_leaf_260 rfl (ch_iadd _ _ dX3_leaf_261 (ch_iv yX3_hasRoom prog_14_method_80_code 2 (some .boolean) (ci := 3) (q := (RX3, TX3, 109)) (b := m) (d' := 4) (av := [.int (2 + v147)]) (rest := []) rfl dX3_leaf_262 q2251 q2253 rfl qs184 q2254 can_X3_hasRoom (Nat.le_of_ble_eq_true rfl) (Nat.le_of_ble_eq_true rfl) ch_put_tag (cp_kI (v := p148.1) (w1 := ch_put m w p148.2) (fun Q' hq => s_X3_hasRoom hp149 hq) ?_))))))
    refine cp_if_eq _ (tgt := 287) dX3_leaf_265 rfl h (fun h => ?_) (fun h => ?_)
    · obtain ⟨p150, hp151, h⟩ := ch_bd h
      refine ch_aload_n 0 (some m) dX3_leaf_287 rfl (ch_iconst _ 3 dX3_leaf_288 rfl (ch_iv yX3_ends prog_14_method_84_code 2 none (ci := 3) (q := (RX3, TX3, 109)) (b := m) (d' := 2) (av := [.int 3]) (rest := []) rfl dX3_leaf_289 q2271 q2273 rfl qs189 q2274 can_X3_ends (Nat.le_of_ble_eq_true rfl) (Nat.le_of_ble_eq_true rfl) ch_put_tag (cp_kV (w1 := ch_put m w p150) (fun Q' hq => s_X3_ends hp151 hq) ?_)))
      obtain rfl := Option.some.inj h
      exact ch_return dX3_leaf_292 rfl hk
    · refine ch_aload_n 0 (some m) dX3_leaf_268 rfl (ch_aload_n 0 (some m) dX3_leaf_269 rfl (ch_aload_n 0 (some m) dX3_leaf_270 rfl (mp_gA 19 dX3_leaf_271 fl_X3_34 rfl (ch_iload_n 1 _ dX3_leaf_274 rfl (mp_iald dX3_leaf_275 mk_19 h (fun v152 h => ?_))))))
      obtain ⟨p153, hp154, h⟩ := ch_bd h
      refine ch_iload_n 3 _ dX3_leaf_276 rfl (ch_iv yX3_object prog_14_method_81_code 6 (some .int) (ci := 3) (q := (RX3, TX3, 109)) (b := m) (d' := 2) (av := [.int v152, .int v147]) (rest := [va_rf (some m)]) rfl dX3_leaf_277 q2194 q2196 rfl qs171 q2197 can_X3_object (Nat.le_of_ble_eq_true rfl) (ch_hw (Nat.le_of_ble_eq_true rfl)) ch_put_tag (cp_kI (v := p153.1) (w1 := ch_put m w p153.2) (fun Q' hq => s_X3_object hp154 hq) ?_))
      obtain ⟨p155, hp156, h⟩ := ch_bd h
      refine ch_iconst _ 1 dX3_leaf_280 rfl (ch_iv yX3_push prog_14_method_82_code 3 none (ci := 3) (q := (RX3, TX3, 109)) (b := m) (d' := 2) (av := [.int p153.1, .int 1]) (rest := []) rfl dX3_leaf_281 q2243 q2245 rfl qs182 q2246 can_X3_push (Nat.le_of_ble_eq_true rfl) (Nat.le_of_ble_eq_true rfl) ch_put_tag (cp_kV (w1 := ch_put m w p155) (fun Q' hq => s_X3_push hp156 hq) ?_))
      obtain rfl := Option.some.inj h
      exact ch_goto 292 dX3_leaf_284 rfl (ch_return dX3_leaf_292 rfl hk)
  replace h := ch_ifF e15 h
  by_cases e16 : v1 = 16
  · have h := ch_ifT e16 h
    refine ch_tableIn _ (off := 233) (tgt := 246) dX3_leaf_13 (by rw [e16]; decide) (by rw [e16]; decide) (by rw [e16]; rfl) rfl ?_
    refine ch_aload_n 0 (some m) dX3_leaf_246 rfl (mp_gA 42 dX3_leaf_247 fl_X3_91 rfl (ch_aload_n 0 (some m) dX3_leaf_250 rfl (mp_gA 19 dX3_leaf_251 fl_X3_34 rfl (ch_iload_n 1 _ dX3_leaf_254 rfl (mp_iald dX3_leaf_255 mk_19 h (fun v157 h => ?_))))))
    refine mp_iald dX3_leaf_256 mk_42 h (fun v158 h => ?_)
    obtain ⟨p159, hp160, h⟩ := ch_bd h
    refine ch_istore_n 3 _ (ls1 := [some (va_rf (some m)), some (.int x1), some (.int ((σ.1 fX3_open) - 1)), some (.int v158)]) dX3_leaf_257 (Nat.le_of_ble_eq_true rfl) rfl (ch_aload_n 0 (some m) dX3_leaf_258 rfl (ch_iconst _ 2 dX3_leaf_259 rfl (ch_iload_n 3 _ dX3_leaf_260 rfl (ch_iadd _ _ dX3_leaf_261 (ch_iv yX3_hasRoom prog_14_method_80_code 2 (some .boolean) (ci := 3) (q := (RX3, TX3, 109)) (b := m) (d' := 4) (av := [.int (2 + v158)]) (rest := []) rfl dX3_leaf_262 q2251 q2253 rfl qs184 q2254 can_X3_hasRoom (Nat.le_of_ble_eq_true rfl) (Nat.le_of_ble_eq_true rfl) ch_put_tag (cp_kI (v := p159.1) (w1 := ch_put m w p159.2) (fun Q' hq => s_X3_hasRoom hp160 hq) ?_))))))
    refine cp_if_eq _ (tgt := 287) dX3_leaf_265 rfl h (fun h => ?_) (fun h => ?_)
    · obtain ⟨p161, hp162, h⟩ := ch_bd h
      refine ch_aload_n 0 (some m) dX3_leaf_287 rfl (ch_iconst _ 3 dX3_leaf_288 rfl (ch_iv yX3_ends prog_14_method_84_code 2 none (ci := 3) (q := (RX3, TX3, 109)) (b := m) (d' := 2) (av := [.int 3]) (rest := []) rfl dX3_leaf_289 q2271 q2273 rfl qs189 q2274 can_X3_ends (Nat.le_of_ble_eq_true rfl) (Nat.le_of_ble_eq_true rfl) ch_put_tag (cp_kV (w1 := ch_put m w p161) (fun Q' hq => s_X3_ends hp162 hq) ?_)))
      obtain rfl := Option.some.inj h
      exact ch_return dX3_leaf_292 rfl hk
    · refine ch_aload_n 0 (some m) dX3_leaf_268 rfl (ch_aload_n 0 (some m) dX3_leaf_269 rfl (ch_aload_n 0 (some m) dX3_leaf_270 rfl (mp_gA 19 dX3_leaf_271 fl_X3_34 rfl (ch_iload_n 1 _ dX3_leaf_274 rfl (mp_iald dX3_leaf_275 mk_19 h (fun v163 h => ?_))))))
      obtain ⟨p164, hp165, h⟩ := ch_bd h
      refine ch_iload_n 3 _ dX3_leaf_276 rfl (ch_iv yX3_object prog_14_method_81_code 6 (some .int) (ci := 3) (q := (RX3, TX3, 109)) (b := m) (d' := 2) (av := [.int v163, .int v158]) (rest := [va_rf (some m)]) rfl dX3_leaf_277 q2194 q2196 rfl qs171 q2197 can_X3_object (Nat.le_of_ble_eq_true rfl) (ch_hw (Nat.le_of_ble_eq_true rfl)) ch_put_tag (cp_kI (v := p164.1) (w1 := ch_put m w p164.2) (fun Q' hq => s_X3_object hp165 hq) ?_))
      obtain ⟨p166, hp167, h⟩ := ch_bd h
      refine ch_iconst _ 1 dX3_leaf_280 rfl (ch_iv yX3_push prog_14_method_82_code 3 none (ci := 3) (q := (RX3, TX3, 109)) (b := m) (d' := 2) (av := [.int p164.1, .int 1]) (rest := []) rfl dX3_leaf_281 q2243 q2245 rfl qs182 q2246 can_X3_push (Nat.le_of_ble_eq_true rfl) (Nat.le_of_ble_eq_true rfl) ch_put_tag (cp_kV (w1 := ch_put m w p166) (fun Q' hq => s_X3_push hp167 hq) ?_))
      obtain rfl := Option.some.inj h
      exact ch_goto 292 dX3_leaf_284 rfl (ch_return dX3_leaf_292 rfl hk)
  replace h := ch_ifF e16 h
  by_cases e17 : v1 = 17
  · have h := ch_ifT e17 h
    refine ch_tableIn _ (off := 233) (tgt := 246) dX3_leaf_13 (by rw [e17]; decide) (by rw [e17]; decide) (by rw [e17]; rfl) rfl ?_
    refine ch_aload_n 0 (some m) dX3_leaf_246 rfl (mp_gA 42 dX3_leaf_247 fl_X3_91 rfl (ch_aload_n 0 (some m) dX3_leaf_250 rfl (mp_gA 19 dX3_leaf_251 fl_X3_34 rfl (ch_iload_n 1 _ dX3_leaf_254 rfl (mp_iald dX3_leaf_255 mk_19 h (fun v168 h => ?_))))))
    refine mp_iald dX3_leaf_256 mk_42 h (fun v169 h => ?_)
    obtain ⟨p170, hp171, h⟩ := ch_bd h
    refine ch_istore_n 3 _ (ls1 := [some (va_rf (some m)), some (.int x1), some (.int ((σ.1 fX3_open) - 1)), some (.int v169)]) dX3_leaf_257 (Nat.le_of_ble_eq_true rfl) rfl (ch_aload_n 0 (some m) dX3_leaf_258 rfl (ch_iconst _ 2 dX3_leaf_259 rfl (ch_iload_n 3 _ dX3_leaf_260 rfl (ch_iadd _ _ dX3_leaf_261 (ch_iv yX3_hasRoom prog_14_method_80_code 2 (some .boolean) (ci := 3) (q := (RX3, TX3, 109)) (b := m) (d' := 4) (av := [.int (2 + v169)]) (rest := []) rfl dX3_leaf_262 q2251 q2253 rfl qs184 q2254 can_X3_hasRoom (Nat.le_of_ble_eq_true rfl) (Nat.le_of_ble_eq_true rfl) ch_put_tag (cp_kI (v := p170.1) (w1 := ch_put m w p170.2) (fun Q' hq => s_X3_hasRoom hp171 hq) ?_))))))
    refine cp_if_eq _ (tgt := 287) dX3_leaf_265 rfl h (fun h => ?_) (fun h => ?_)
    · obtain ⟨p172, hp173, h⟩ := ch_bd h
      refine ch_aload_n 0 (some m) dX3_leaf_287 rfl (ch_iconst _ 3 dX3_leaf_288 rfl (ch_iv yX3_ends prog_14_method_84_code 2 none (ci := 3) (q := (RX3, TX3, 109)) (b := m) (d' := 2) (av := [.int 3]) (rest := []) rfl dX3_leaf_289 q2271 q2273 rfl qs189 q2274 can_X3_ends (Nat.le_of_ble_eq_true rfl) (Nat.le_of_ble_eq_true rfl) ch_put_tag (cp_kV (w1 := ch_put m w p172) (fun Q' hq => s_X3_ends hp173 hq) ?_)))
      obtain rfl := Option.some.inj h
      exact ch_return dX3_leaf_292 rfl hk
    · refine ch_aload_n 0 (some m) dX3_leaf_268 rfl (ch_aload_n 0 (some m) dX3_leaf_269 rfl (ch_aload_n 0 (some m) dX3_leaf_270 rfl (mp_gA 19 dX3_leaf_271 fl_X3_34 rfl (ch_iload_n 1 _ dX3_leaf_274 rfl (mp_iald dX3_leaf_275 mk_19 h (fun v174 h => ?_))))))
      obtain ⟨p175, hp176, h⟩ := ch_bd h
      refine ch_iload_n 3 _ dX3_leaf_276 rfl (ch_iv yX3_object prog_14_method_81_code 6 (some .int) (ci := 3) (q := (RX3, TX3, 109)) (b := m) (d' := 2) (av := [.int v174, .int v169]) (rest := [va_rf (some m)]) rfl dX3_leaf_277 q2194 q2196 rfl qs171 q2197 can_X3_object (Nat.le_of_ble_eq_true rfl) (ch_hw (Nat.le_of_ble_eq_true rfl)) ch_put_tag (cp_kI (v := p175.1) (w1 := ch_put m w p175.2) (fun Q' hq => s_X3_object hp176 hq) ?_))
      obtain ⟨p177, hp178, h⟩ := ch_bd h
      refine ch_iconst _ 1 dX3_leaf_280 rfl (ch_iv yX3_push prog_14_method_82_code 3 none (ci := 3) (q := (RX3, TX3, 109)) (b := m) (d' := 2) (av := [.int p175.1, .int 1]) (rest := []) rfl dX3_leaf_281 q2243 q2245 rfl qs182 q2246 can_X3_push (Nat.le_of_ble_eq_true rfl) (Nat.le_of_ble_eq_true rfl) ch_put_tag (cp_kV (w1 := ch_put m w p177) (fun Q' hq => s_X3_push hp178 hq) ?_))
      obtain rfl := Option.some.inj h
      exact ch_goto 292 dX3_leaf_284 rfl (ch_return dX3_leaf_292 rfl hk)
  replace h := ch_ifF e17 h
  by_cases e18 : v1 = 18
  · have h := ch_ifT e18 h
    refine ch_tableIn _ (off := 233) (tgt := 246) dX3_leaf_13 (by rw [e18]; decide) (by rw [e18]; decide) (by rw [e18]; rfl) rfl ?_
    refine ch_aload_n 0 (some m) dX3_leaf_246 rfl (mp_gA 42 dX3_leaf_247 fl_X3_91 rfl (ch_aload_n 0 (some m) dX3_leaf_250 rfl (mp_gA 19 dX3_leaf_251 fl_X3_34 rfl (ch_iload_n 1 _ dX3_leaf_254 rfl (mp_iald dX3_leaf_255 mk_19 h (fun v179 h => ?_))))))
    refine mp_iald dX3_leaf_256 mk_42 h (fun v180 h => ?_)
    obtain ⟨p181, hp182, h⟩ := ch_bd h
    refine ch_istore_n 3 _ (ls1 := [some (va_rf (some m)), some (.int x1), some (.int ((σ.1 fX3_open) - 1)), some (.int v180)]) dX3_leaf_257 (Nat.le_of_ble_eq_true rfl) rfl (ch_aload_n 0 (some m) dX3_leaf_258 rfl (ch_iconst _ 2 dX3_leaf_259 rfl (ch_iload_n 3 _ dX3_leaf_260 rfl (ch_iadd _ _ dX3_leaf_261 (ch_iv yX3_hasRoom prog_14_method_80_code 2 (some .boolean) (ci := 3) (q := (RX3, TX3, 109)) (b := m) (d' := 4) (av := [.int (2 + v180)]) (rest := []) rfl dX3_leaf_262 q2251 q2253 rfl qs184 q2254 can_X3_hasRoom (Nat.le_of_ble_eq_true rfl) (Nat.le_of_ble_eq_true rfl) ch_put_tag (cp_kI (v := p181.1) (w1 := ch_put m w p181.2) (fun Q' hq => s_X3_hasRoom hp182 hq) ?_))))))
    refine cp_if_eq _ (tgt := 287) dX3_leaf_265 rfl h (fun h => ?_) (fun h => ?_)
    · obtain ⟨p183, hp184, h⟩ := ch_bd h
      refine ch_aload_n 0 (some m) dX3_leaf_287 rfl (ch_iconst _ 3 dX3_leaf_288 rfl (ch_iv yX3_ends prog_14_method_84_code 2 none (ci := 3) (q := (RX3, TX3, 109)) (b := m) (d' := 2) (av := [.int 3]) (rest := []) rfl dX3_leaf_289 q2271 q2273 rfl qs189 q2274 can_X3_ends (Nat.le_of_ble_eq_true rfl) (Nat.le_of_ble_eq_true rfl) ch_put_tag (cp_kV (w1 := ch_put m w p183) (fun Q' hq => s_X3_ends hp184 hq) ?_)))
      obtain rfl := Option.some.inj h
      exact ch_return dX3_leaf_292 rfl hk
    · refine ch_aload_n 0 (some m) dX3_leaf_268 rfl (ch_aload_n 0 (some m) dX3_leaf_269 rfl (ch_aload_n 0 (some m) dX3_leaf_270 rfl (mp_gA 19 dX3_leaf_271 fl_X3_34 rfl (ch_iload_n 1 _ dX3_leaf_274 rfl (mp_iald dX3_leaf_275 mk_19 h (fun v185 h => ?_))))))
      obtain ⟨p186, hp187, h⟩ := ch_bd h
      refine ch_iload_n 3 _ dX3_leaf_276 rfl (ch_iv yX3_object prog_14_method_81_code 6 (some .int) (ci := 3) (q := (RX3, TX3, 109)) (b := m) (d' := 2) (av := [.int v185, .int v180]) (rest := [va_rf (some m)]) rfl dX3_leaf_277 q2194 q2196 rfl qs171 q2197 can_X3_object (Nat.le_of_ble_eq_true rfl) (ch_hw (Nat.le_of_ble_eq_true rfl)) ch_put_tag (cp_kI (v := p186.1) (w1 := ch_put m w p186.2) (fun Q' hq => s_X3_object hp187 hq) ?_))
      obtain ⟨p188, hp189, h⟩ := ch_bd h
      refine ch_iconst _ 1 dX3_leaf_280 rfl (ch_iv yX3_push prog_14_method_82_code 3 none (ci := 3) (q := (RX3, TX3, 109)) (b := m) (d' := 2) (av := [.int p186.1, .int 1]) (rest := []) rfl dX3_leaf_281 q2243 q2245 rfl qs182 q2246 can_X3_push (Nat.le_of_ble_eq_true rfl) (Nat.le_of_ble_eq_true rfl) ch_put_tag (cp_kV (w1 := ch_put m w p188) (fun Q' hq => s_X3_push hp189 hq) ?_))
      obtain rfl := Option.some.inj h
      exact ch_goto 292 dX3_leaf_284 rfl (ch_return dX3_leaf_292 rfl hk)
  replace h := ch_ifF e18 h
  by_cases e19 : v1 = 19
  · have h := ch_ifT e19 h
    refine ch_tableIn _ (off := 152) (tgt := 165) dX3_leaf_13 (by rw [e19]; decide) (by rw [e19]; decide) (by rw [e19]; rfl) rfl ?_
    refine ch_aload_n 0 (some m) dX3_leaf_165 rfl (ch_aload_n 0 (some m) dX3_leaf_166 rfl (mp_gA 98 dX3_leaf_167 fl_X3_191 rfl (ch_aload_n 0 (some m) dX3_leaf_170 rfl (mp_gA 95 dX3_leaf_171 fl_X3_181 rfl (ch_iload_n 2 _ dX3_leaf_174 rfl (mp_iald dX3_leaf_175 mk_95 h (fun v190 h => ?_)))))))
    refine ch_aload_n 0 (some m) dX3_leaf_176 rfl (mp_gA 19 dX3_leaf_177 fl_X3_34 rfl (ch_iload_n 1 _ dX3_leaf_180 rfl (mp_iald dX3_leaf_181 mk_19 h (fun v191 h => ?_))))
    refine ch_iadd _ _ dX3_leaf_182 (mp_iald dX3_leaf_183 mk_98 h (fun v192 h => ?_))
    refine ch_aload_n 0 (some m) dX3_leaf_184 rfl (mp_gA 99 dX3_leaf_185 fl_X3_194 rfl (ch_aload_n 0 (some m) dX3_leaf_188 rfl (mp_gA 95 dX3_leaf_189 fl_X3_181 rfl (ch_iload_n 2 _ dX3_leaf_192 rfl (mp_iald dX3_leaf_193 mk_95 h (fun v193 h => ?_))))))
    refine ch_aload_n 0 (some m) dX3_leaf_194 rfl (mp_gA 19 dX3_leaf_195 fl_X3_34 rfl (ch_iload_n 1 _ dX3_leaf_198 rfl (mp_iald dX3_leaf_199 mk_19 h (fun v194 h => ?_))))
    refine ch_iadd _ _ dX3_leaf_200 (mp_zald dX3_leaf_201 mk_99 h (fun v195 h => ?_))
    obtain ⟨p196, hp197, h⟩ := ch_bd h
    refine ch_iv yX3_push prog_14_method_82_code 3 none (ci := 3) (q := (RX3, TX3, 109)) (b := m) (d' := 2) (av := [.int v192, .int v195]) (rest := []) rfl dX3_leaf_202 q2243 q2245 rfl qs182 q2246 can_X3_push (Nat.le_of_ble_eq_true rfl) (Nat.le_of_ble_eq_true rfl) ch_put_tag (cp_kV (w1 := ch_put m w p196) (fun Q' hq => s_X3_push hp197 hq) ?_)
    obtain rfl := Option.some.inj h
    exact ch_goto 292 dX3_leaf_205 rfl (ch_return dX3_leaf_292 rfl hk)
  replace h := ch_ifF e19 h
  by_cases e20 : v1 = 20
  · have h := ch_ifT e20 h
    refine ch_tableIn _ (off := 195) (tgt := 208) dX3_leaf_13 (by rw [e20]; decide) (by rw [e20]; decide) (by rw [e20]; rfl) rfl ?_
    refine ch_aload_n 0 (some m) dX3_leaf_208 rfl (mp_gA 84 dX3_leaf_209 fl_X3_157 rfl (ch_aload_n 0 (some m) dX3_leaf_212 rfl (mp_gA 94 dX3_leaf_213 fl_X3_178 rfl (ch_iload_n 2 _ dX3_leaf_216 rfl (mp_iald dX3_leaf_217 mk_94 h (fun v198 h => ?_))))))
    refine mp_iald dX3_leaf_218 mk_84 h (fun v199 h => ?_)
    refine ch_aload_n 0 (some m) dX3_leaf_219 rfl (mp_gA 19 dX3_leaf_220 fl_X3_34 rfl (ch_iload_n 1 _ dX3_leaf_223 rfl (mp_iald dX3_leaf_224 mk_19 h (fun v200 h => ?_))))
    refine ch_iadd _ _ dX3_leaf_225 (ch_istore_n 3 _ (ls1 := [some (va_rf (some m)), some (.int x1), some (.int ((σ.1 fX3_open) - 1)), some (.int (v199 + v200))]) dX3_leaf_226 (Nat.le_of_ble_eq_true rfl) rfl (ch_aload_n 0 (some m) dX3_leaf_227 rfl (ch_aload_n 0 (some m) dX3_leaf_228 rfl (mp_gA 91 dX3_leaf_229 fl_X3_172 rfl (ch_iload_n 3 _ dX3_leaf_232 rfl (mp_iald dX3_leaf_233 mk_91 h (fun v201 h => ?_)))))))
    refine ch_aload_n 0 (some m) dX3_leaf_234 rfl (mp_gA 92 dX3_leaf_235 fl_X3_175 rfl (ch_iload_n 3 _ dX3_leaf_238 rfl (mp_zald dX3_leaf_239 mk_92 h (fun v202 h => ?_))))
    obtain ⟨p203, hp204, h⟩ := ch_bd h
    refine ch_iv yX3_push prog_14_method_82_code 3 none (ci := 3) (q := (RX3, TX3, 109)) (b := m) (d' := 2) (av := [.int v201, .int v202]) (rest := []) rfl dX3_leaf_240 q2243 q2245 rfl qs182 q2246 can_X3_push (Nat.le_of_ble_eq_true rfl) (Nat.le_of_ble_eq_true rfl) ch_put_tag (cp_kV (w1 := ch_put m w p203) (fun Q' hq => s_X3_push hp204 hq) ?_)
    obtain rfl := Option.some.inj h
    exact ch_goto 292 dX3_leaf_243 rfl (ch_return dX3_leaf_292 rfl hk)
  replace h := ch_ifF e20 h
  by_cases e21 : v1 = 21
  · have h := ch_ifT e21 h
    refine ch_tableIn _ (off := 103) (tgt := 116) dX3_leaf_13 (by rw [e21]; decide) (by rw [e21]; decide) (by rw [e21]; rfl) rfl ?_
    refine ch_aload_n 0 (some m) dX3_leaf_116 rfl (ch_aload_n 0 (some m) dX3_leaf_117 rfl (mp_gA 19 dX3_leaf_118 fl_X3_34 rfl (ch_iload_n 1 _ dX3_leaf_121 rfl (mp_iald dX3_leaf_122 mk_19 h (fun v205 h => ?_)))))
    obtain ⟨p206, hp207, h⟩ := ch_bd h
    refine ch_iconst _ 0 dX3_leaf_123 rfl (ch_iv yX3_push prog_14_method_82_code 3 none (ci := 3) (q := (RX3, TX3, 109)) (b := m) (d' := 2) (av := [.int v205, .int 0]) (rest := []) rfl dX3_leaf_124 q2243 q2245 rfl qs182 q2246 can_X3_push (Nat.le_of_ble_eq_true rfl) (Nat.le_of_ble_eq_true rfl) ch_put_tag (cp_kV (w1 := ch_put m w p206) (fun Q' hq => s_X3_push hp207 hq) ?_))
    obtain rfl := Option.some.inj h
    exact ch_goto 292 dX3_leaf_127 rfl (ch_return dX3_leaf_292 rfl hk)
  replace h := ch_ifF e21 h
  refine ch_tableOut _ (tgt := 246) dX3_leaf_13 (by have t0 := ch_ne (n := 0) e0 rfl; have t1 := ch_ne (n := 1) e1 rfl; have t2 := ch_ne (n := 2) e2 rfl; have t3 := ch_ne (n := 3) e3 rfl; have t4 := ch_ne (n := 4) e4 rfl; have t5 := ch_ne (n := 5) e5 rfl; have t6 := ch_ne (n := 6) e6 rfl; have t7 := ch_ne (n := 7) e7 rfl; have t8 := ch_ne (n := 8) e8 rfl; have t9 := ch_ne (n := 9) e9 rfl; have t10 := ch_ne (n := 10) e10 rfl; have t11 := ch_ne (n := 11) e11 rfl; have t12 := ch_ne (n := 12) e12 rfl; have t13 := ch_ne (n := 13) e13 rfl; have t14 := ch_ne (n := 14) e14 rfl; have t15 := ch_ne (n := 15) e15 rfl; have t16 := ch_ne (n := 16) e16 rfl; have t17 := ch_ne (n := 17) e17 rfl; have t18 := ch_ne (n := 18) e18 rfl; have t19 := ch_ne (n := 19) e19 rfl; have t20 := ch_ne (n := 20) e20 rfl; have t21 := ch_ne (n := 21) e21 rfl; omega) rfl ?_
  refine ch_aload_n 0 (some m) dX3_leaf_246 rfl (mp_gA 42 dX3_leaf_247 fl_X3_91 rfl (ch_aload_n 0 (some m) dX3_leaf_250 rfl (mp_gA 19 dX3_leaf_251 fl_X3_34 rfl (ch_iload_n 1 _ dX3_leaf_254 rfl (mp_iald dX3_leaf_255 mk_19 h (fun v2 h => ?_))))))
  refine mp_iald dX3_leaf_256 mk_42 h (fun v3 h => ?_)
  obtain ⟨p4, hp5, h⟩ := ch_bd h
  refine ch_istore_n 3 _ (ls1 := [some (va_rf (some m)), some (.int x1), some (.int ((σ.1 fX3_open) - 1)), some (.int v3)]) dX3_leaf_257 (Nat.le_of_ble_eq_true rfl) rfl (ch_aload_n 0 (some m) dX3_leaf_258 rfl (ch_iconst _ 2 dX3_leaf_259 rfl (ch_iload_n 3 _ dX3_leaf_260 rfl (ch_iadd _ _ dX3_leaf_261 (ch_iv yX3_hasRoom prog_14_method_80_code 2 (some .boolean) (ci := 3) (q := (RX3, TX3, 109)) (b := m) (d' := 4) (av := [.int (2 + v3)]) (rest := []) rfl dX3_leaf_262 q2251 q2253 rfl qs184 q2254 can_X3_hasRoom (Nat.le_of_ble_eq_true rfl) (Nat.le_of_ble_eq_true rfl) ch_put_tag (cp_kI (v := p4.1) (w1 := ch_put m w p4.2) (fun Q' hq => s_X3_hasRoom hp5 hq) ?_))))))
  refine cp_if_eq _ (tgt := 287) dX3_leaf_265 rfl h (fun h => ?_) (fun h => ?_)
  · obtain ⟨p6, hp7, h⟩ := ch_bd h
    refine ch_aload_n 0 (some m) dX3_leaf_287 rfl (ch_iconst _ 3 dX3_leaf_288 rfl (ch_iv yX3_ends prog_14_method_84_code 2 none (ci := 3) (q := (RX3, TX3, 109)) (b := m) (d' := 2) (av := [.int 3]) (rest := []) rfl dX3_leaf_289 q2271 q2273 rfl qs189 q2274 can_X3_ends (Nat.le_of_ble_eq_true rfl) (Nat.le_of_ble_eq_true rfl) ch_put_tag (cp_kV (w1 := ch_put m w p6) (fun Q' hq => s_X3_ends hp7 hq) ?_)))
    obtain rfl := Option.some.inj h
    exact ch_return dX3_leaf_292 rfl hk
  · refine ch_aload_n 0 (some m) dX3_leaf_268 rfl (ch_aload_n 0 (some m) dX3_leaf_269 rfl (ch_aload_n 0 (some m) dX3_leaf_270 rfl (mp_gA 19 dX3_leaf_271 fl_X3_34 rfl (ch_iload_n 1 _ dX3_leaf_274 rfl (mp_iald dX3_leaf_275 mk_19 h (fun v8 h => ?_))))))
    obtain ⟨p9, hp10, h⟩ := ch_bd h
    refine ch_iload_n 3 _ dX3_leaf_276 rfl (ch_iv yX3_object prog_14_method_81_code 6 (some .int) (ci := 3) (q := (RX3, TX3, 109)) (b := m) (d' := 2) (av := [.int v8, .int v3]) (rest := [va_rf (some m)]) rfl dX3_leaf_277 q2194 q2196 rfl qs171 q2197 can_X3_object (Nat.le_of_ble_eq_true rfl) (ch_hw (Nat.le_of_ble_eq_true rfl)) ch_put_tag (cp_kI (v := p9.1) (w1 := ch_put m w p9.2) (fun Q' hq => s_X3_object hp10 hq) ?_))
    obtain ⟨p11, hp12, h⟩ := ch_bd h
    refine ch_iconst _ 1 dX3_leaf_280 rfl (ch_iv yX3_push prog_14_method_82_code 3 none (ci := 3) (q := (RX3, TX3, 109)) (b := m) (d' := 2) (av := [.int p9.1, .int 1]) (rest := []) rfl dX3_leaf_281 q2243 q2245 rfl qs182 q2246 can_X3_push (Nat.le_of_ble_eq_true rfl) (Nat.le_of_ble_eq_true rfl) ch_put_tag (cp_kV (w1 := ch_put m w p11) (fun Q' hq => s_X3_push hp12 hq) ?_))
    obtain rfl := Option.some.inj h
    exact ch_goto 292 dX3_leaf_284 rfl (ch_return dX3_leaf_292 rfl hk)

theorem bX3_throwsObject_0 : ch_ck cX3_throwsObject 0 [42, 89, 180, 2, 78, 4, 96, 181, 2, 78, 42, 180, 0, 154, 27, 46] := ch_ckof (by decide +kernel)
theorem bX3_throwsObject_1 : ch_ck cX3_throwsObject 16 [61, 42, 180, 2, 72, 158, 0, 181, 42, 89, 180, 2, 72, 4, 100, 181] := ch_ckof (by decide +kernel)
theorem bX3_throwsObject_2 : ch_ck cX3_throwsObject 32 [2, 72, 42, 180, 0, 208, 42, 180, 2, 72, 46, 62, 42, 180, 0, 205] := ch_ckof (by decide +kernel)
theorem bX3_throwsObject_3 : ch_ck cX3_throwsObject 48 [42, 180, 2, 72, 46, 16, 8, 160, 0, 13, 42, 89, 180, 2, 42, 4] := ch_ckof (by decide +kernel)
theorem bX3_throwsObject_4 : ch_ck cX3_throwsObject 64 [100, 181, 2, 42, 42, 180, 0, 205, 42, 180, 2, 72, 46, 16, 7, 159] := ch_ckof (by decide +kernel)
theorem bX3_throwsObject_5 : ch_ck cX3_throwsObject 80 [0, 6, 167, 255, 191, 42, 89, 180, 2, 81, 4, 100, 181, 2, 81, 42] := ch_ckof (by decide +kernel)
theorem bX3_throwsObject_6 : ch_ck cX3_throwsObject 96 [180, 2, 42, 4, 100, 54, 4, 42, 28, 42, 180, 0, 61, 29, 46, 16] := ch_ckof (by decide +kernel)
theorem bX3_throwsObject_7 : ch_ck cX3_throwsObject 112 [10, 100, 182, 1, 159, 154, 0, 6, 167, 255, 153, 42, 42, 180, 0, 211] := ch_ckof (by decide +kernel)
theorem bX3_throwsObject_8 : ch_ck cX3_throwsObject 128 [42, 180, 2, 81, 46, 181, 2, 48, 42, 180, 0, 184, 21, 4, 42, 180] := ch_ckof (by decide +kernel)
theorem bX3_throwsObject_9 : ch_ck cX3_throwsObject 144 [0, 214, 42, 180, 2, 81, 46, 79, 42, 8, 42, 180, 0, 184, 21, 4] := ch_ckof (by decide +kernel)
theorem bX3_throwsObject_10 : ch_ck cX3_throwsObject 160 [46, 182, 2, 84, 42, 21, 4, 42, 180, 0, 184, 21, 4, 46, 27, 4] := ch_ckof (by decide +kernel)
theorem bX3_throwsObject_11 : ch_ck cX3_throwsObject 176 [182, 2, 86, 42, 180, 0, 184, 21, 4, 92, 46, 4, 96, 79, 42, 6] := ch_ckof (by decide +kernel)
theorem bX3_throwsObject_12 : ch_ck cX3_throwsObject 192 [42, 180, 0, 73, 29, 46, 182, 2, 84, 177, 42, 28, 181, 2, 90, 42] := ch_ckof (by decide +kernel)
theorem bX3_throwsObject_13 : ch_ck cX3_throwsObject 208 [5, 182, 2, 93, 177] := ch_ckof (by decide +kernel)
theorem dX3_throwsObject_0 : decode cX3_throwsObject 0 = .ok (.aload_n 0, 1) := dz_42 (bX3_throwsObject_0 0 _ rfl)
theorem dX3_throwsObject_1 : decode cX3_throwsObject 1 = .ok (.dup, 1) := dz_89 (bX3_throwsObject_0 1 _ rfl)
theorem dX3_throwsObject_2 : decode cX3_throwsObject 2 = .ok (.getfield 590, 3) := dz_180 (bX3_throwsObject_0 2 _ rfl) (bX3_throwsObject_0 3 _ rfl) (bX3_throwsObject_0 4 _ rfl)
theorem dX3_throwsObject_5 : decode cX3_throwsObject 5 = .ok (.iconst 1, 1) := dz_4 (bX3_throwsObject_0 5 _ rfl)
theorem dX3_throwsObject_6 : decode cX3_throwsObject 6 = .ok (.iadd, 1) := dz_96 (bX3_throwsObject_0 6 _ rfl)
theorem dX3_throwsObject_7 : decode cX3_throwsObject 7 = .ok (.putfield 590, 3) := dz_181 (bX3_throwsObject_0 7 _ rfl) (bX3_throwsObject_0 8 _ rfl) (bX3_throwsObject_0 9 _ rfl)
theorem dX3_throwsObject_10 : decode cX3_throwsObject 10 = .ok (.aload_n 0, 1) := dz_42 (bX3_throwsObject_0 10 _ rfl)
theorem dX3_throwsObject_11 : decode cX3_throwsObject 11 = .ok (.getfield 154, 3) := dz_180 (bX3_throwsObject_0 11 _ rfl) (bX3_throwsObject_0 12 _ rfl) (bX3_throwsObject_0 13 _ rfl)
theorem dX3_throwsObject_14 : decode cX3_throwsObject 14 = .ok (.iload_n 1, 1) := dz_27 (bX3_throwsObject_0 14 _ rfl)
theorem dX3_throwsObject_15 : decode cX3_throwsObject 15 = .ok (.iaload, 1) := dz_46 (bX3_throwsObject_0 15 _ rfl)
theorem dX3_throwsObject_16 : decode cX3_throwsObject 16 = .ok (.istore_n 2, 1) := dz_61 (bX3_throwsObject_1 0 _ rfl)
theorem dX3_throwsObject_17 : decode cX3_throwsObject 17 = .ok (.aload_n 0, 1) := dz_42 (bX3_throwsObject_1 1 _ rfl)
theorem dX3_throwsObject_18 : decode cX3_throwsObject 18 = .ok (.getfield 584, 3) := dz_180 (bX3_throwsObject_1 2 _ rfl) (bX3_throwsObject_1 3 _ rfl) (bX3_throwsObject_1 4 _ rfl)
theorem dX3_throwsObject_21 : decode cX3_throwsObject 21 = .ok (.ifCond .le 181, 3) := dz_158 (bX3_throwsObject_1 5 _ rfl) (bX3_throwsObject_1 6 _ rfl) (bX3_throwsObject_1 7 _ rfl)
theorem dX3_throwsObject_24 : decode cX3_throwsObject 24 = .ok (.aload_n 0, 1) := dz_42 (bX3_throwsObject_1 8 _ rfl)
theorem dX3_throwsObject_25 : decode cX3_throwsObject 25 = .ok (.dup, 1) := dz_89 (bX3_throwsObject_1 9 _ rfl)
theorem dX3_throwsObject_26 : decode cX3_throwsObject 26 = .ok (.getfield 584, 3) := dz_180 (bX3_throwsObject_1 10 _ rfl) (bX3_throwsObject_1 11 _ rfl) (bX3_throwsObject_1 12 _ rfl)
theorem dX3_throwsObject_29 : decode cX3_throwsObject 29 = .ok (.iconst 1, 1) := dz_4 (bX3_throwsObject_1 13 _ rfl)
theorem dX3_throwsObject_30 : decode cX3_throwsObject 30 = .ok (.isub, 1) := dz_100 (bX3_throwsObject_1 14 _ rfl)
theorem dX3_throwsObject_31 : decode cX3_throwsObject 31 = .ok (.putfield 584, 3) := dz_181 (bX3_throwsObject_1 15 _ rfl) (bX3_throwsObject_2 0 _ rfl) (bX3_throwsObject_2 1 _ rfl)
theorem dX3_throwsObject_34 : decode cX3_throwsObject 34 = .ok (.aload_n 0, 1) := dz_42 (bX3_throwsObject_2 2 _ rfl)
theorem dX3_throwsObject_35 : decode cX3_throwsObject 35 = .ok (.getfield 208, 3) := dz_180 (bX3_throwsObject_2 3 _ rfl) (bX3_throwsObject_2 4 _ rfl) (bX3_throwsObject_2 5 _ rfl)
theorem dX3_throwsObject_38 : decode cX3_throwsObject 38 = .ok (.aload_n 0, 1) := dz_42 (bX3_throwsObject_2 6 _ rfl)
theorem dX3_throwsObject_39 : decode cX3_throwsObject 39 = .ok (.getfield 584, 3) := dz_180 (bX3_throwsObject_2 7 _ rfl) (bX3_throwsObject_2 8 _ rfl) (bX3_throwsObject_2 9 _ rfl)
theorem dX3_throwsObject_42 : decode cX3_throwsObject 42 = .ok (.iaload, 1) := dz_46 (bX3_throwsObject_2 10 _ rfl)
theorem dX3_throwsObject_43 : decode cX3_throwsObject 43 = .ok (.istore_n 3, 1) := dz_62 (bX3_throwsObject_2 11 _ rfl)
theorem dX3_throwsObject_44 : decode cX3_throwsObject 44 = .ok (.aload_n 0, 1) := dz_42 (bX3_throwsObject_2 12 _ rfl)
theorem dX3_throwsObject_45 : decode cX3_throwsObject 45 = .ok (.getfield 205, 3) := dz_180 (bX3_throwsObject_2 13 _ rfl) (bX3_throwsObject_2 14 _ rfl) (bX3_throwsObject_2 15 _ rfl)
theorem dX3_throwsObject_48 : decode cX3_throwsObject 48 = .ok (.aload_n 0, 1) := dz_42 (bX3_throwsObject_3 0 _ rfl)
theorem dX3_throwsObject_49 : decode cX3_throwsObject 49 = .ok (.getfield 584, 3) := dz_180 (bX3_throwsObject_3 1 _ rfl) (bX3_throwsObject_3 2 _ rfl) (bX3_throwsObject_3 3 _ rfl)
theorem dX3_throwsObject_52 : decode cX3_throwsObject 52 = .ok (.iaload, 1) := dz_46 (bX3_throwsObject_3 4 _ rfl)
theorem dX3_throwsObject_53 : decode cX3_throwsObject 53 = .ok (.bipush 8, 2) := dz_16 (bX3_throwsObject_3 5 _ rfl) (bX3_throwsObject_3 6 _ rfl)
theorem dX3_throwsObject_55 : decode cX3_throwsObject 55 = .ok (.if_icmp .ne 13, 3) := dz_160 (bX3_throwsObject_3 7 _ rfl) (bX3_throwsObject_3 8 _ rfl) (bX3_throwsObject_3 9 _ rfl)
theorem dX3_throwsObject_58 : decode cX3_throwsObject 58 = .ok (.aload_n 0, 1) := dz_42 (bX3_throwsObject_3 10 _ rfl)
theorem dX3_throwsObject_59 : decode cX3_throwsObject 59 = .ok (.dup, 1) := dz_89 (bX3_throwsObject_3 11 _ rfl)
theorem dX3_throwsObject_60 : decode cX3_throwsObject 60 = .ok (.getfield 554, 3) := dz_180 (bX3_throwsObject_3 12 _ rfl) (bX3_throwsObject_3 13 _ rfl) (bX3_throwsObject_3 14 _ rfl)
theorem dX3_throwsObject_63 : decode cX3_throwsObject 63 = .ok (.iconst 1, 1) := dz_4 (bX3_throwsObject_3 15 _ rfl)
theorem dX3_throwsObject_64 : decode cX3_throwsObject 64 = .ok (.isub, 1) := dz_100 (bX3_throwsObject_4 0 _ rfl)
theorem dX3_throwsObject_65 : decode cX3_throwsObject 65 = .ok (.putfield 554, 3) := dz_181 (bX3_throwsObject_4 1 _ rfl) (bX3_throwsObject_4 2 _ rfl) (bX3_throwsObject_4 3 _ rfl)
theorem dX3_throwsObject_68 : decode cX3_throwsObject 68 = .ok (.aload_n 0, 1) := dz_42 (bX3_throwsObject_4 4 _ rfl)
theorem dX3_throwsObject_69 : decode cX3_throwsObject 69 = .ok (.getfield 205, 3) := dz_180 (bX3_throwsObject_4 5 _ rfl) (bX3_throwsObject_4 6 _ rfl) (bX3_throwsObject_4 7 _ rfl)
theorem dX3_throwsObject_72 : decode cX3_throwsObject 72 = .ok (.aload_n 0, 1) := dz_42 (bX3_throwsObject_4 8 _ rfl)
theorem dX3_throwsObject_73 : decode cX3_throwsObject 73 = .ok (.getfield 584, 3) := dz_180 (bX3_throwsObject_4 9 _ rfl) (bX3_throwsObject_4 10 _ rfl) (bX3_throwsObject_4 11 _ rfl)
theorem dX3_throwsObject_76 : decode cX3_throwsObject 76 = .ok (.iaload, 1) := dz_46 (bX3_throwsObject_4 12 _ rfl)
theorem dX3_throwsObject_77 : decode cX3_throwsObject 77 = .ok (.bipush 7, 2) := dz_16 (bX3_throwsObject_4 13 _ rfl) (bX3_throwsObject_4 14 _ rfl)
theorem dX3_throwsObject_79 : decode cX3_throwsObject 79 = .ok (.if_icmp .eq 6, 3) := dz_159 (bX3_throwsObject_4 15 _ rfl) (bX3_throwsObject_5 0 _ rfl) (bX3_throwsObject_5 1 _ rfl)
theorem dX3_throwsObject_82 : decode cX3_throwsObject 82 = .ok (.goto (-65), 3) := dz_167 (bX3_throwsObject_5 2 _ rfl) (bX3_throwsObject_5 3 _ rfl) (bX3_throwsObject_5 4 _ rfl)
theorem dX3_throwsObject_85 : decode cX3_throwsObject 85 = .ok (.aload_n 0, 1) := dz_42 (bX3_throwsObject_5 5 _ rfl)
theorem dX3_throwsObject_86 : decode cX3_throwsObject 86 = .ok (.dup, 1) := dz_89 (bX3_throwsObject_5 6 _ rfl)
theorem dX3_throwsObject_87 : decode cX3_throwsObject 87 = .ok (.getfield 593, 3) := dz_180 (bX3_throwsObject_5 7 _ rfl) (bX3_throwsObject_5 8 _ rfl) (bX3_throwsObject_5 9 _ rfl)
theorem dX3_throwsObject_90 : decode cX3_throwsObject 90 = .ok (.iconst 1, 1) := dz_4 (bX3_throwsObject_5 10 _ rfl)
theorem dX3_throwsObject_91 : decode cX3_throwsObject 91 = .ok (.isub, 1) := dz_100 (bX3_throwsObject_5 11 _ rfl)
theorem dX3_throwsObject_92 : decode cX3_throwsObject 92 = .ok (.putfield 593, 3) := dz_181 (bX3_throwsObject_5 12 _ rfl) (bX3_throwsObject_5 13 _ rfl) (bX3_throwsObject_5 14 _ rfl)
theorem dX3_throwsObject_95 : decode cX3_throwsObject 95 = .ok (.aload_n 0, 1) := dz_42 (bX3_throwsObject_5 15 _ rfl)
theorem dX3_throwsObject_96 : decode cX3_throwsObject 96 = .ok (.getfield 554, 3) := dz_180 (bX3_throwsObject_6 0 _ rfl) (bX3_throwsObject_6 1 _ rfl) (bX3_throwsObject_6 2 _ rfl)
theorem dX3_throwsObject_99 : decode cX3_throwsObject 99 = .ok (.iconst 1, 1) := dz_4 (bX3_throwsObject_6 3 _ rfl)
theorem dX3_throwsObject_100 : decode cX3_throwsObject 100 = .ok (.isub, 1) := dz_100 (bX3_throwsObject_6 4 _ rfl)
theorem dX3_throwsObject_101 : decode cX3_throwsObject 101 = .ok (.istore 4, 2) := dz_54 (bX3_throwsObject_6 5 _ rfl) (bX3_throwsObject_6 6 _ rfl)
theorem dX3_throwsObject_103 : decode cX3_throwsObject 103 = .ok (.aload_n 0, 1) := dz_42 (bX3_throwsObject_6 7 _ rfl)
theorem dX3_throwsObject_104 : decode cX3_throwsObject 104 = .ok (.iload_n 2, 1) := dz_28 (bX3_throwsObject_6 8 _ rfl)
theorem dX3_throwsObject_105 : decode cX3_throwsObject 105 = .ok (.aload_n 0, 1) := dz_42 (bX3_throwsObject_6 9 _ rfl)
theorem dX3_throwsObject_106 : decode cX3_throwsObject 106 = .ok (.getfield 61, 3) := dz_180 (bX3_throwsObject_6 10 _ rfl) (bX3_throwsObject_6 11 _ rfl) (bX3_throwsObject_6 12 _ rfl)
theorem dX3_throwsObject_109 : decode cX3_throwsObject 109 = .ok (.iload_n 3, 1) := dz_29 (bX3_throwsObject_6 13 _ rfl)
theorem dX3_throwsObject_110 : decode cX3_throwsObject 110 = .ok (.iaload, 1) := dz_46 (bX3_throwsObject_6 14 _ rfl)
theorem dX3_throwsObject_111 : decode cX3_throwsObject 111 = .ok (.bipush 10, 2) := dz_16 (bX3_throwsObject_6 15 _ rfl) (bX3_throwsObject_7 0 _ rfl)
theorem dX3_throwsObject_113 : decode cX3_throwsObject 113 = .ok (.isub, 1) := dz_100 (bX3_throwsObject_7 1 _ rfl)
theorem dX3_throwsObject_114 : decode cX3_throwsObject 114 = .ok (.invokevirtual 415, 3) := dz_182 (bX3_throwsObject_7 2 _ rfl) (bX3_throwsObject_7 3 _ rfl) (bX3_throwsObject_7 4 _ rfl)
theorem dX3_throwsObject_117 : decode cX3_throwsObject 117 = .ok (.ifCond .ne 6, 3) := dz_154 (bX3_throwsObject_7 5 _ rfl) (bX3_throwsObject_7 6 _ rfl) (bX3_throwsObject_7 7 _ rfl)
theorem dX3_throwsObject_120 : decode cX3_throwsObject 120 = .ok (.goto (-103), 3) := dz_167 (bX3_throwsObject_7 8 _ rfl) (bX3_throwsObject_7 9 _ rfl) (bX3_throwsObject_7 10 _ rfl)
theorem dX3_throwsObject_123 : decode cX3_throwsObject 123 = .ok (.aload_n 0, 1) := dz_42 (bX3_throwsObject_7 11 _ rfl)
theorem dX3_throwsObject_124 : decode cX3_throwsObject 124 = .ok (.aload_n 0, 1) := dz_42 (bX3_throwsObject_7 12 _ rfl)
theorem dX3_throwsObject_125 : decode cX3_throwsObject 125 = .ok (.getfield 211, 3) := dz_180 (bX3_throwsObject_7 13 _ rfl) (bX3_throwsObject_7 14 _ rfl) (bX3_throwsObject_7 15 _ rfl)
theorem dX3_throwsObject_128 : decode cX3_throwsObject 128 = .ok (.aload_n 0, 1) := dz_42 (bX3_throwsObject_8 0 _ rfl)
theorem dX3_throwsObject_129 : decode cX3_throwsObject 129 = .ok (.getfield 593, 3) := dz_180 (bX3_throwsObject_8 1 _ rfl) (bX3_throwsObject_8 2 _ rfl) (bX3_throwsObject_8 3 _ rfl)
theorem dX3_throwsObject_132 : decode cX3_throwsObject 132 = .ok (.iaload, 1) := dz_46 (bX3_throwsObject_8 4 _ rfl)
theorem dX3_throwsObject_133 : decode cX3_throwsObject 133 = .ok (.putfield 560, 3) := dz_181 (bX3_throwsObject_8 5 _ rfl) (bX3_throwsObject_8 6 _ rfl) (bX3_throwsObject_8 7 _ rfl)
theorem dX3_throwsObject_136 : decode cX3_throwsObject 136 = .ok (.aload_n 0, 1) := dz_42 (bX3_throwsObject_8 8 _ rfl)
theorem dX3_throwsObject_137 : decode cX3_throwsObject 137 = .ok (.getfield 184, 3) := dz_180 (bX3_throwsObject_8 9 _ rfl) (bX3_throwsObject_8 10 _ rfl) (bX3_throwsObject_8 11 _ rfl)
theorem dX3_throwsObject_140 : decode cX3_throwsObject 140 = .ok (.iload 4, 2) := dz_21 (bX3_throwsObject_8 12 _ rfl) (bX3_throwsObject_8 13 _ rfl)
theorem dX3_throwsObject_142 : decode cX3_throwsObject 142 = .ok (.aload_n 0, 1) := dz_42 (bX3_throwsObject_8 14 _ rfl)
theorem dX3_throwsObject_143 : decode cX3_throwsObject 143 = .ok (.getfield 214, 3) := dz_180 (bX3_throwsObject_8 15 _ rfl) (bX3_throwsObject_9 0 _ rfl) (bX3_throwsObject_9 1 _ rfl)
theorem dX3_throwsObject_146 : decode cX3_throwsObject 146 = .ok (.aload_n 0, 1) := dz_42 (bX3_throwsObject_9 2 _ rfl)
theorem dX3_throwsObject_147 : decode cX3_throwsObject 147 = .ok (.getfield 593, 3) := dz_180 (bX3_throwsObject_9 3 _ rfl) (bX3_throwsObject_9 4 _ rfl) (bX3_throwsObject_9 5 _ rfl)
theorem dX3_throwsObject_150 : decode cX3_throwsObject 150 = .ok (.iaload, 1) := dz_46 (bX3_throwsObject_9 6 _ rfl)
theorem dX3_throwsObject_151 : decode cX3_throwsObject 151 = .ok (.iastore, 1) := dz_79 (bX3_throwsObject_9 7 _ rfl)
theorem dX3_throwsObject_152 : decode cX3_throwsObject 152 = .ok (.aload_n 0, 1) := dz_42 (bX3_throwsObject_9 8 _ rfl)
theorem dX3_throwsObject_153 : decode cX3_throwsObject 153 = .ok (.iconst 5, 1) := dz_8 (bX3_throwsObject_9 9 _ rfl)
theorem dX3_throwsObject_154 : decode cX3_throwsObject 154 = .ok (.aload_n 0, 1) := dz_42 (bX3_throwsObject_9 10 _ rfl)
theorem dX3_throwsObject_155 : decode cX3_throwsObject 155 = .ok (.getfield 184, 3) := dz_180 (bX3_throwsObject_9 11 _ rfl) (bX3_throwsObject_9 12 _ rfl) (bX3_throwsObject_9 13 _ rfl)
theorem dX3_throwsObject_158 : decode cX3_throwsObject 158 = .ok (.iload 4, 2) := dz_21 (bX3_throwsObject_9 14 _ rfl) (bX3_throwsObject_9 15 _ rfl)
theorem dX3_throwsObject_160 : decode cX3_throwsObject 160 = .ok (.iaload, 1) := dz_46 (bX3_throwsObject_10 0 _ rfl)
theorem dX3_throwsObject_161 : decode cX3_throwsObject 161 = .ok (.invokevirtual 596, 3) := dz_182 (bX3_throwsObject_10 1 _ rfl) (bX3_throwsObject_10 2 _ rfl) (bX3_throwsObject_10 3 _ rfl)
theorem dX3_throwsObject_164 : decode cX3_throwsObject 164 = .ok (.aload_n 0, 1) := dz_42 (bX3_throwsObject_10 4 _ rfl)
theorem dX3_throwsObject_165 : decode cX3_throwsObject 165 = .ok (.iload 4, 2) := dz_21 (bX3_throwsObject_10 5 _ rfl) (bX3_throwsObject_10 6 _ rfl)
theorem dX3_throwsObject_167 : decode cX3_throwsObject 167 = .ok (.aload_n 0, 1) := dz_42 (bX3_throwsObject_10 7 _ rfl)
theorem dX3_throwsObject_168 : decode cX3_throwsObject 168 = .ok (.getfield 184, 3) := dz_180 (bX3_throwsObject_10 8 _ rfl) (bX3_throwsObject_10 9 _ rfl) (bX3_throwsObject_10 10 _ rfl)
theorem dX3_throwsObject_171 : decode cX3_throwsObject 171 = .ok (.iload 4, 2) := dz_21 (bX3_throwsObject_10 11 _ rfl) (bX3_throwsObject_10 12 _ rfl)
theorem dX3_throwsObject_173 : decode cX3_throwsObject 173 = .ok (.iaload, 1) := dz_46 (bX3_throwsObject_10 13 _ rfl)
theorem dX3_throwsObject_174 : decode cX3_throwsObject 174 = .ok (.iload_n 1, 1) := dz_27 (bX3_throwsObject_10 14 _ rfl)
theorem dX3_throwsObject_175 : decode cX3_throwsObject 175 = .ok (.iconst 1, 1) := dz_4 (bX3_throwsObject_10 15 _ rfl)
theorem dX3_throwsObject_176 : decode cX3_throwsObject 176 = .ok (.invokevirtual 598, 3) := dz_182 (bX3_throwsObject_11 0 _ rfl) (bX3_throwsObject_11 1 _ rfl) (bX3_throwsObject_11 2 _ rfl)
theorem dX3_throwsObject_179 : decode cX3_throwsObject 179 = .ok (.aload_n 0, 1) := dz_42 (bX3_throwsObject_11 3 _ rfl)
theorem dX3_throwsObject_180 : decode cX3_throwsObject 180 = .ok (.getfield 184, 3) := dz_180 (bX3_throwsObject_11 4 _ rfl) (bX3_throwsObject_11 5 _ rfl) (bX3_throwsObject_11 6 _ rfl)
theorem dX3_throwsObject_183 : decode cX3_throwsObject 183 = .ok (.iload 4, 2) := dz_21 (bX3_throwsObject_11 7 _ rfl) (bX3_throwsObject_11 8 _ rfl)
theorem dX3_throwsObject_185 : decode cX3_throwsObject 185 = .ok (.dup2, 1) := dz_92 (bX3_throwsObject_11 9 _ rfl)
theorem dX3_throwsObject_186 : decode cX3_throwsObject 186 = .ok (.iaload, 1) := dz_46 (bX3_throwsObject_11 10 _ rfl)
theorem dX3_throwsObject_187 : decode cX3_throwsObject 187 = .ok (.iconst 1, 1) := dz_4 (bX3_throwsObject_11 11 _ rfl)
theorem dX3_throwsObject_188 : decode cX3_throwsObject 188 = .ok (.iadd, 1) := dz_96 (bX3_throwsObject_11 12 _ rfl)
theorem dX3_throwsObject_189 : decode cX3_throwsObject 189 = .ok (.iastore, 1) := dz_79 (bX3_throwsObject_11 13 _ rfl)
theorem dX3_throwsObject_190 : decode cX3_throwsObject 190 = .ok (.aload_n 0, 1) := dz_42 (bX3_throwsObject_11 14 _ rfl)
theorem dX3_throwsObject_191 : decode cX3_throwsObject 191 = .ok (.iconst 3, 1) := dz_6 (bX3_throwsObject_11 15 _ rfl)
theorem dX3_throwsObject_192 : decode cX3_throwsObject 192 = .ok (.aload_n 0, 1) := dz_42 (bX3_throwsObject_12 0 _ rfl)
theorem dX3_throwsObject_193 : decode cX3_throwsObject 193 = .ok (.getfield 73, 3) := dz_180 (bX3_throwsObject_12 1 _ rfl) (bX3_throwsObject_12 2 _ rfl) (bX3_throwsObject_12 3 _ rfl)
theorem dX3_throwsObject_196 : decode cX3_throwsObject 196 = .ok (.iload_n 3, 1) := dz_29 (bX3_throwsObject_12 4 _ rfl)
theorem dX3_throwsObject_197 : decode cX3_throwsObject 197 = .ok (.iaload, 1) := dz_46 (bX3_throwsObject_12 5 _ rfl)
theorem dX3_throwsObject_198 : decode cX3_throwsObject 198 = .ok (.invokevirtual 596, 3) := dz_182 (bX3_throwsObject_12 6 _ rfl) (bX3_throwsObject_12 7 _ rfl) (bX3_throwsObject_12 8 _ rfl)
theorem dX3_throwsObject_201 : decode cX3_throwsObject 201 = .ok (.return_, 1) := dz_177 (bX3_throwsObject_12 9 _ rfl)
theorem dX3_throwsObject_202 : decode cX3_throwsObject 202 = .ok (.aload_n 0, 1) := dz_42 (bX3_throwsObject_12 10 _ rfl)
theorem dX3_throwsObject_203 : decode cX3_throwsObject 203 = .ok (.iload_n 2, 1) := dz_28 (bX3_throwsObject_12 11 _ rfl)
theorem dX3_throwsObject_204 : decode cX3_throwsObject 204 = .ok (.putfield 602, 3) := dz_181 (bX3_throwsObject_12 12 _ rfl) (bX3_throwsObject_12 13 _ rfl) (bX3_throwsObject_12 14 _ rfl)
theorem dX3_throwsObject_207 : decode cX3_throwsObject 207 = .ok (.aload_n 0, 1) := dz_42 (bX3_throwsObject_12 15 _ rfl)
theorem dX3_throwsObject_208 : decode cX3_throwsObject 208 = .ok (.iconst 2, 1) := dz_5 (bX3_throwsObject_13 0 _ rfl)
theorem dX3_throwsObject_209 : decode cX3_throwsObject 209 = .ok (.invokevirtual 605, 3) := dz_182 (bX3_throwsObject_13 1 _ rfl) (bX3_throwsObject_13 2 _ rfl) (bX3_throwsObject_13 3 _ rfl)
theorem dX3_throwsObject_212 : decode cX3_throwsObject 212 = .ok (.return_, 1) := dz_177 (bX3_throwsObject_13 4 _ rfl)
def m_X3_throwsObject_68 (x1 : Int32) (x2 : Int32) (x3 : Int32)  (σ : ch_S) : Option (ch_S ⊕ (ch_S)) := (ch_ma σ fX3_todoIs (σ.1 fX3_todo)).bind fun v1 => if v1 = 7 then ((ch_mI σ fX3_tries ((σ.1 fX3_tries) - 1)).bind fun σ2 => (ch_ma σ2 fX3_toldType x3).bind fun v3 => (m_X3_isUnder x2 (v3 - 10) σ2).bind fun v4 => if v4 = 0 then (some (.inl (σ2))) else ((ch_ma σ2 fX3_tryPile (σ2.1 fX3_tries)).bind fun v6 => (ch_mI σ2 fX3_piled v6).bind fun σ7 => (ch_ma σ7 fX3_tryMany (σ7.1 fX3_tries)).bind fun v8 => (ch_mw σ7 fX3_openMany ((σ2.1 fX3_open) - 1) v8).bind fun σ9 => (ch_ma σ9 fX3_openMany ((σ2.1 fX3_open) - 1)).bind fun v10 => (m_X3_todo 5 v10 σ9).bind fun p11 => (ch_ma p11 fX3_openMany ((σ2.1 fX3_open) - 1)).bind fun v13 => (m_X3_setLocal ((σ2.1 fX3_open) - 1) v13 x1 1 p11).bind fun p14 => (ch_ma p14 fX3_openMany ((σ2.1 fX3_open) - 1)).bind fun v16 => (ch_mw p14 fX3_openMany ((σ2.1 fX3_open) - 1) (v16 + 1)).bind fun σ17 => (ch_ma σ17 fX3_other x3).bind fun v18 => (m_X3_todo 3 v18 σ17).bind fun p19 => some (.inr (p19)))) else (some (.inl (σ)))
theorem s_X3_throwsObject_68 {g : State} {m : Nat} {w : ch_W} {x1 : Int32} {x2 : Int32} {x3 : Int32} {σ : ch_S} {res : ch_S ⊕ (ch_S)} {Q : Outcome → ch_W → Prop} (h : m_X3_throwsObject_68 x1 x2 x3 σ = some res) (hk : (ch_sm (fun s => ch_FT g false mX3_throwsObject 3 17 [some (va_rf (some m)), some (.int x1), some (.int x2), none, none] [] (ch_put m w s) Q) (fun r => ch_eV Q (ch_put m w r))) res) : ch_FT g false mX3_throwsObject 3 68 [some (va_rf (some m)), some (.int x1), some (.int x2), some (.int x3), none] [] (ch_put m w σ) Q := by
  unfold m_X3_throwsObject_68 at h
  refine ch_aload_n 0 (some m) dX3_throwsObject_68 rfl (mp_gA 104 dX3_throwsObject_69 fl_X3_205 rfl (ch_aload_n 0 (some m) dX3_throwsObject_72 rfl (mp_gI 103 dX3_throwsObject_73 fl_X3_584 rfl (mp_iald dX3_throwsObject_76 mk_104 h (fun v1 h => ?_)))))
  refine ch_bipush _ 7 dX3_throwsObject_77 rfl (cp_icmp_eq _ _ (tgt := 85) dX3_throwsObject_79 rfl h (fun h => ?_) (fun h => ?_))
  · refine ch_aload_n 0 (some m) dX3_throwsObject_85 rfl (ch_dup dX3_throwsObject_86 (ch_cat _) (mp_gI 106 dX3_throwsObject_87 fl_X3_593 rfl (ch_iconst _ 1 dX3_throwsObject_90 rfl (ch_isub _ _ dX3_throwsObject_91 (mp_pI (k := 106) dX3_throwsObject_92 fl_X3_593 rfl rfl rfl h (fun σ2 h => ?_))))))
    refine ch_aload_n 0 (some m) dX3_throwsObject_95 rfl (mp_gI 93 dX3_throwsObject_96 fl_X3_554 rfl (ch_iconst _ 1 dX3_throwsObject_99 rfl (ch_isub _ _ dX3_throwsObject_100 (ch_istore 4 _ (ls1 := [some (va_rf (some m)), some (.int x1), some (.int x2), some (.int x3), some (.int ((σ2.1 fX3_open) - 1))]) dX3_throwsObject_101 (Nat.le_of_ble_eq_true rfl) rfl (ch_aload_n 0 (some m) dX3_throwsObject_103 rfl (ch_iload_n 2 _ dX3_throwsObject_104 rfl (ch_aload_n 0 (some m) dX3_throwsObject_105 rfl (?_))))))))
    refine mp_gA 31 dX3_throwsObject_106 fl_X3_61 rfl (ch_iload_n 3 _ dX3_throwsObject_109 rfl (mp_iald dX3_throwsObject_110 mk_31 h (fun v3 h => ?_)))
    obtain ⟨v4, hp5, h⟩ := ch_bd h
    refine ch_bipush _ 10 dX3_throwsObject_111 rfl (ch_isub _ _ dX3_throwsObject_113 (ch_iv yX3_isUnder prog_14_method_45_code 4 (some .boolean) (ci := 3) (q := (RX3, TX3, 109)) (b := m) (d' := 2) (av := [.int x2, .int (v3 - 10)]) (rest := []) rfl dX3_throwsObject_114 q2124 q2126 rfl qs160 q2127 can_X3_isUnder (Nat.le_of_ble_eq_true rfl) (Nat.le_of_ble_eq_true rfl) ch_put_tag (cp_kI (v := v4) (w1 := ch_put m w σ2) (fun Q' hq => s_X3_isUnder hp5 hq) ?_)))
    refine cp_if_ne _ (tgt := 123) dX3_throwsObject_117 rfl h (fun h => ?_) (fun h => ?_)
    · refine ch_aload_n 0 (some m) dX3_throwsObject_123 rfl (ch_aload_n 0 (some m) dX3_throwsObject_124 rfl (mp_gA 107 dX3_throwsObject_125 fl_X3_211 rfl (ch_aload_n 0 (some m) dX3_throwsObject_128 rfl (mp_gI 106 dX3_throwsObject_129 fl_X3_593 rfl (mp_iald dX3_throwsObject_132 mk_107 h (fun v6 h => ?_))))))
      refine mp_pI (k := 100) dX3_throwsObject_133 fl_X3_560 rfl rfl rfl h (fun σ7 h => ?_)
      refine ch_aload_n 0 (some m) dX3_throwsObject_136 rfl (mp_gA 96 dX3_throwsObject_137 fl_X3_184 rfl (ch_iload 4 _ dX3_throwsObject_140 rfl (ch_aload_n 0 (some m) dX3_throwsObject_142 rfl (mp_gA 108 dX3_throwsObject_143 fl_X3_214 rfl (ch_aload_n 0 (some m) dX3_throwsObject_146 rfl (mp_gI 106 dX3_throwsObject_147 fl_X3_593 rfl (mp_iald dX3_throwsObject_150 mk_108 h (fun v8 h => ?_))))))))
      refine mp_iast dX3_throwsObject_151 mk_96 rfl h (fun σ9 h => ?_)
      refine ch_aload_n 0 (some m) dX3_throwsObject_152 rfl (ch_iconst _ 5 dX3_throwsObject_153 rfl (ch_aload_n 0 (some m) dX3_throwsObject_154 rfl (mp_gA 96 dX3_throwsObject_155 fl_X3_184 rfl (ch_iload 4 _ dX3_throwsObject_158 rfl (mp_iald dX3_throwsObject_160 mk_96 h (fun v10 h => ?_))))))
      obtain ⟨p11, hp12, h⟩ := ch_bd h
      refine ch_iv yX3_todo prog_14_method_83_code 3 none (ci := 3) (q := (RX3, TX3, 109)) (b := m) (d' := 2) (av := [.int 5, .int v10]) (rest := []) rfl dX3_throwsObject_161 q2206 q2208 rfl qs174 q2209 can_X3_todo (Nat.le_of_ble_eq_true rfl) (Nat.le_of_ble_eq_true rfl) ch_put_tag (cp_kV (w1 := ch_put m w p11) (fun Q' hq => s_X3_todo hp12 hq) ?_)
      refine ch_aload_n 0 (some m) dX3_throwsObject_164 rfl (ch_iload 4 _ dX3_throwsObject_165 rfl (ch_aload_n 0 (some m) dX3_throwsObject_167 rfl (mp_gA 96 dX3_throwsObject_168 fl_X3_184 rfl (ch_iload 4 _ dX3_throwsObject_171 rfl (mp_iald dX3_throwsObject_173 mk_96 h (fun v13 h => ?_))))))
      obtain ⟨p14, hp15, h⟩ := ch_bd h
      refine ch_iload_n 1 _ dX3_throwsObject_174 rfl (ch_iconst _ 1 dX3_throwsObject_175 rfl (ch_iv yX3_setLocal prog_14_method_87_code 5 none (ci := 3) (q := (RX3, TX3, 109)) (b := m) (d' := 2) (av := [.int ((σ2.1 fX3_open) - 1), .int v13, .int x1, .int 1]) (rest := []) rfl dX3_throwsObject_176 q2202 q2204 rfl qs173 q2205 can_X3_setLocal (Nat.le_of_ble_eq_true rfl) (Nat.le_of_ble_eq_true rfl) ch_put_tag (cp_kV (w1 := ch_put m w p14) (fun Q' hq => s_X3_setLocal hp15 hq) ?_)))
      refine ch_aload_n 0 (some m) dX3_throwsObject_179 rfl (mp_gA 96 dX3_throwsObject_180 fl_X3_184 rfl (ch_iload 4 _ dX3_throwsObject_183 rfl (ch_dup2 dX3_throwsObject_185 rfl (ch_cat _) (mp_iald dX3_throwsObject_186 mk_96 h (fun v16 h => ?_)))))
      refine ch_iconst _ 1 dX3_throwsObject_187 rfl (ch_iadd _ _ dX3_throwsObject_188 (mp_iast dX3_throwsObject_189 mk_96 rfl h (fun σ17 h => ?_)))
      refine ch_aload_n 0 (some m) dX3_throwsObject_190 rfl (ch_iconst _ 3 dX3_throwsObject_191 rfl (ch_aload_n 0 (some m) dX3_throwsObject_192 rfl (mp_gA 35 dX3_throwsObject_193 fl_X3_73 rfl (ch_iload_n 3 _ dX3_throwsObject_196 rfl (mp_iald dX3_throwsObject_197 mk_35 h (fun v18 h => ?_))))))
      obtain ⟨p19, hp20, h⟩ := ch_bd h
      refine ch_iv yX3_todo prog_14_method_83_code 3 none (ci := 3) (q := (RX3, TX3, 109)) (b := m) (d' := 2) (av := [.int 3, .int v18]) (rest := []) rfl dX3_throwsObject_198 q2206 q2208 rfl qs174 q2209 can_X3_todo (Nat.le_of_ble_eq_true rfl) (Nat.le_of_ble_eq_true rfl) ch_put_tag (cp_kV (w1 := ch_put m w p19) (fun Q' hq => s_X3_todo hp20 hq) ?_)
      obtain rfl := Option.some.inj h
      exact ch_return dX3_throwsObject_201 rfl hk
    · refine ch_goto 17 dX3_throwsObject_120 rfl (ch_FT.wk (ch_wS (ch_wS (ch_wS (ch_wN (ch_wN ch_w0))))) ?_)
      obtain rfl := Option.some.inj h
      exact hk
  · refine ch_goto 17 dX3_throwsObject_82 rfl (ch_FT.wk (ch_wS (ch_wS (ch_wS (ch_wN (ch_wN ch_w0))))) ?_)
    obtain rfl := Option.some.inj h
    exact hk

def m_X3_throwsObject_17 (x1 : Int32) (x2 : Int32)  (σ : ch_S) : Option (ch_S ⊕ (ch_S)) := if 0 < (σ.1 fX3_todo) then ((ch_mI σ fX3_todo ((σ.1 fX3_todo) - 1)).bind fun σ4 => (ch_ma σ4 fX3_todoOf (σ4.1 fX3_todo)).bind fun v5 => (ch_ma σ4 fX3_todoIs (σ4.1 fX3_todo)).bind fun v6 => if v6 = 8 then ((ch_mI σ4 fX3_open ((σ4.1 fX3_open) - 1)).bind fun σ7 => m_X3_throwsObject_68 x1 x2 v5 σ7) else (m_X3_throwsObject_68 x1 x2 v5 σ4)) else ((ch_mI σ fX3_ended x2).bind fun σ1 => (m_X3_ends 2 σ1).bind fun p2 => some (.inr (p2)))
theorem s_X3_throwsObject_17 {g : State} {m : Nat} {w : ch_W} {x1 : Int32} {x2 : Int32} {σ : ch_S} {res : ch_S ⊕ (ch_S)} {Q : Outcome → ch_W → Prop} (h : m_X3_throwsObject_17 x1 x2 σ = some res) (hk : (ch_sm (fun s => ch_FT g false mX3_throwsObject 3 17 [some (va_rf (some m)), some (.int x1), some (.int x2), none, none] [] (ch_put m w s) Q) (fun r => ch_eV Q (ch_put m w r))) res) : ch_FT g false mX3_throwsObject 3 17 [some (va_rf (some m)), some (.int x1), some (.int x2), none, none] [] (ch_put m w σ) Q := by
  unfold m_X3_throwsObject_17 at h
  refine ch_aload_n 0 (some m) dX3_throwsObject_17 rfl (mp_gI 103 dX3_throwsObject_18 fl_X3_584 rfl (cp_if_le _ (tgt := 202) dX3_throwsObject_21 rfl h (fun h => ?_) (fun h => ?_)))
  · refine ch_aload_n 0 (some m) dX3_throwsObject_202 rfl (ch_iload_n 2 _ dX3_throwsObject_203 rfl (mp_pI (k := 77) dX3_throwsObject_204 fl_X3_602 rfl rfl rfl h (fun σ1 h => ?_)))
    obtain ⟨p2, hp3, h⟩ := ch_bd h
    refine ch_aload_n 0 (some m) dX3_throwsObject_207 rfl (ch_iconst _ 2 dX3_throwsObject_208 rfl (ch_iv yX3_ends prog_14_method_84_code 2 none (ci := 3) (q := (RX3, TX3, 109)) (b := m) (d' := 2) (av := [.int 2]) (rest := []) rfl dX3_throwsObject_209 q2271 q2273 rfl qs189 q2274 can_X3_ends (Nat.le_of_ble_eq_true rfl) (Nat.le_of_ble_eq_true rfl) ch_put_tag (cp_kV (w1 := ch_put m w p2) (fun Q' hq => s_X3_ends hp3 hq) ?_)))
    obtain rfl := Option.some.inj h
    exact ch_return dX3_throwsObject_212 rfl hk
  · refine ch_aload_n 0 (some m) dX3_throwsObject_24 rfl (ch_dup dX3_throwsObject_25 (ch_cat _) (mp_gI 103 dX3_throwsObject_26 fl_X3_584 rfl (ch_iconst _ 1 dX3_throwsObject_29 rfl (ch_isub _ _ dX3_throwsObject_30 (mp_pI (k := 103) dX3_throwsObject_31 fl_X3_584 rfl rfl rfl h (fun σ4 h => ?_))))))
    refine ch_aload_n 0 (some m) dX3_throwsObject_34 rfl (mp_gA 105 dX3_throwsObject_35 fl_X3_208 rfl (ch_aload_n 0 (some m) dX3_throwsObject_38 rfl (mp_gI 103 dX3_throwsObject_39 fl_X3_584 rfl (mp_iald dX3_throwsObject_42 mk_105 h (fun v5 h => ?_)))))
    refine ch_istore_n 3 _ (ls1 := [some (va_rf (some m)), some (.int x1), some (.int x2), some (.int v5), none]) dX3_throwsObject_43 (Nat.le_of_ble_eq_true rfl) rfl (ch_aload_n 0 (some m) dX3_throwsObject_44 rfl (mp_gA 104 dX3_throwsObject_45 fl_X3_205 rfl (ch_aload_n 0 (some m) dX3_throwsObject_48 rfl (mp_gI 103 dX3_throwsObject_49 fl_X3_584 rfl (mp_iald dX3_throwsObject_52 mk_104 h (fun v6 h => ?_))))))
    refine ch_bipush _ 8 dX3_throwsObject_53 rfl (cp_icmp_ne _ _ (tgt := 68) dX3_throwsObject_55 rfl h (fun h => ?_) (fun h => ?_))
    · exact ch_FT.wk (ch_wS (ch_wS (ch_wS (ch_wS (ch_wN ch_w0))))) (s_X3_throwsObject_68  h hk)
    · refine ch_aload_n 0 (some m) dX3_throwsObject_58 rfl (ch_dup dX3_throwsObject_59 (ch_cat _) (mp_gI 93 dX3_throwsObject_60 fl_X3_554 rfl (ch_iconst _ 1 dX3_throwsObject_63 rfl (ch_isub _ _ dX3_throwsObject_64 (mp_pI (k := 93) dX3_throwsObject_65 fl_X3_554 rfl rfl rfl h (fun σ7 h => ?_))))))
      exact ch_FT.wk (ch_wS (ch_wS (ch_wS (ch_wS (ch_wN ch_w0))))) (s_X3_throwsObject_68  h hk)
theorem sl_X3_throwsObject_17 {g : State} {m : Nat} {w : ch_W} {x1 : Int32} {x2 : Int32} {a : ch_S} {res : ch_S} {Q : Outcome → ch_W → Prop} (h : ch_loop (fun (s : ch_S) => m_X3_throwsObject_17 x1 x2 s) a = some res) (hk : (fun r => ch_eV Q (ch_put m w r)) res) : ch_FT g false mX3_throwsObject 3 17 [some (va_rf (some m)), some (.int x1), some (.int x2), none, none] [] (ch_put m w a) Q := by
  refine ch_loop_ind (fun (a : ch_S) (r : ch_S) => (fun r => ch_eV Q (ch_put m w r)) r → ch_FT g false mX3_throwsObject 3 17 [some (va_rf (some m)), some (.int x1), some (.int x2), none, none] [] (ch_put m w a) Q) ?_ ?_ a res h hk
  · intro a a2 b h1 ih hk
    exact s_X3_throwsObject_17  h1 (ih hk)
  · intro a b h1 hk
    exact s_X3_throwsObject_17  h1 hk

def m_X3_throwsObject (x1 : Int32) (σ : ch_S) : Option (ch_S) := (ch_mI σ fX3_thrown ((σ.1 fX3_thrown) + 1)).bind fun σ1 => (ch_ma σ1 fX3_classOfObject x1).bind fun v2 => ch_loop (fun (s : ch_S) => m_X3_throwsObject_17 x1 v2 s) (σ1)
theorem s_X3_throwsObject {g : State} {m : Nat} {w : ch_W} {x1 : Int32} {σ : ch_S} {res : ch_S} {Q : Outcome → ch_W → Prop} (h : m_X3_throwsObject x1 σ = some res) (hk : (fun r => ch_eV Q (ch_put m w r)) res) : ch_CT g false yX3_throwsObject 3 [.ref m, .int x1] (ch_put m w σ) Q := by
  unfold m_X3_throwsObject at h
  refine ch_ctL mX3_throwsObject (ls := [some (va_rf (some m)), some (.int x1), none, none, none]) q2286 rfl (ch_lyr (r := some m) (ch_lyi ch_ly0)) (Nat.le_of_ble_eq_true rfl) rfl ?_
  refine ch_aload_n 0 (some m) dX3_throwsObject_0 rfl (ch_dup dX3_throwsObject_1 (ch_cat _) (mp_gI 76 dX3_throwsObject_2 fl_X3_590 rfl (ch_iconst _ 1 dX3_throwsObject_5 rfl (ch_iadd _ _ dX3_throwsObject_6 (mp_pI (k := 76) dX3_throwsObject_7 fl_X3_590 rfl rfl rfl h (fun σ1 h => ?_))))))
  refine ch_aload_n 0 (some m) dX3_throwsObject_10 rfl (mp_gA 83 dX3_throwsObject_11 fl_X3_154 rfl (ch_iload_n 1 _ dX3_throwsObject_14 rfl (mp_iald dX3_throwsObject_15 mk_83 h (fun v2 h => ?_))))
  exact ch_istore_n 2 _ (ls1 := [some (va_rf (some m)), some (.int x1), some (.int v2), none, none]) dX3_throwsObject_16 (Nat.le_of_ble_eq_true rfl) rfl (ch_FT.wk (ch_wS (ch_wS (ch_wS (ch_wN (ch_wN ch_w0))))) (sl_X3_throwsObject_17  h hk))

theorem bX3_faults_0 : ch_ck cX3_faults 0 [42, 27, 182, 2, 96, 177] := ch_ckof (by decide +kernel)
theorem dX3_faults_0 : decode cX3_faults 0 = .ok (.aload_n 0, 1) := dz_42 (bX3_faults_0 0 _ rfl)
theorem dX3_faults_1 : decode cX3_faults 1 = .ok (.iload_n 1, 1) := dz_27 (bX3_faults_0 1 _ rfl)
theorem dX3_faults_2 : decode cX3_faults 2 = .ok (.invokevirtual 608, 3) := dz_182 (bX3_faults_0 2 _ rfl) (bX3_faults_0 3 _ rfl) (bX3_faults_0 4 _ rfl)
theorem dX3_faults_5 : decode cX3_faults 5 = .ok (.return_, 1) := dz_177 (bX3_faults_0 5 _ rfl)
def m_X3_faults (x1 : Int32) (σ : ch_S) : Option (ch_S) := (m_X3_throwsObject x1 σ).bind fun p1 => some (p1)
theorem s_X3_faults {g : State} {m : Nat} {w : ch_W} {x1 : Int32} {σ : ch_S} {res : ch_S} {Q : Outcome → ch_W → Prop} (h : m_X3_faults x1 σ = some res) (hk : (fun r => ch_eV Q (ch_put m w r)) res) : ch_CT g false yX3_faults 4 [.ref m, .int x1] (ch_put m w σ) Q := by
  unfold m_X3_faults at h
  refine ch_ctL mX3_faults (ls := [some (va_rf (some m)), some (.int x1)]) q2282 rfl (ch_lyr (r := some m) (ch_lyi ch_ly0)) (Nat.le_of_ble_eq_true rfl) rfl ?_
  obtain ⟨p1, hp2, h⟩ := ch_bd h
  refine ch_aload_n 0 (some m) dX3_faults_0 rfl (ch_iload_n 1 _ dX3_faults_1 rfl (ch_iv yX3_throwsObject prog_14_method_85_code 5 none (ci := 3) (q := (RX3, TX3, 109)) (b := m) (d' := 3) (av := [.int x1]) (rest := []) rfl dX3_faults_2 q2283 q2285 rfl qs192 q2286 can_X3_throwsObject (Nat.le_of_ble_eq_true rfl) (Nat.le_of_ble_eq_true rfl) ch_put_tag (cp_kV (w1 := ch_put m w p1) (fun Q' hq => s_X3_throwsObject hp2 hq) ?_)))
  obtain rfl := Option.some.inj h
  exact ch_return dX3_faults_5 rfl hk

theorem bX3_isPlace_0 : ch_ck cX3_isPlace 0 [27, 156, 0, 10, 42, 3, 182, 2, 126, 3, 172, 28, 133, 9, 42, 180] := ch_ckof (by decide +kernel)
theorem bX3_isPlace_1 : ch_ck cX3_isPlace 16 [0, 160, 27, 46, 4, 100, 133, 184, 0, 228, 153, 0, 5, 4, 172, 42] := ch_ckof (by decide +kernel)
theorem bX3_isPlace_2 : ch_ck cX3_isPlace 32 [4, 182, 2, 126, 3, 172] := ch_ckof (by decide +kernel)
theorem dX3_isPlace_0 : decode cX3_isPlace 0 = .ok (.iload_n 1, 1) := dz_27 (bX3_isPlace_0 0 _ rfl)
theorem dX3_isPlace_1 : decode cX3_isPlace 1 = .ok (.ifCond .ge 10, 3) := dz_156 (bX3_isPlace_0 1 _ rfl) (bX3_isPlace_0 2 _ rfl) (bX3_isPlace_0 3 _ rfl)
theorem dX3_isPlace_4 : decode cX3_isPlace 4 = .ok (.aload_n 0, 1) := dz_42 (bX3_isPlace_0 4 _ rfl)
theorem dX3_isPlace_5 : decode cX3_isPlace 5 = .ok (.iconst 0, 1) := dz_3 (bX3_isPlace_0 5 _ rfl)
theorem dX3_isPlace_6 : decode cX3_isPlace 6 = .ok (.invokevirtual 638, 3) := dz_182 (bX3_isPlace_0 6 _ rfl) (bX3_isPlace_0 7 _ rfl) (bX3_isPlace_0 8 _ rfl)
theorem dX3_isPlace_9 : decode cX3_isPlace 9 = .ok (.iconst 0, 1) := dz_3 (bX3_isPlace_0 9 _ rfl)
theorem dX3_isPlace_10 : decode cX3_isPlace 10 = .ok (.ireturn, 1) := dz_172 (bX3_isPlace_0 10 _ rfl)
theorem dX3_isPlace_11 : decode cX3_isPlace 11 = .ok (.iload_n 2, 1) := dz_28 (bX3_isPlace_0 11 _ rfl)
theorem dX3_isPlace_12 : decode cX3_isPlace 12 = .ok (.i2l, 1) := dz_133 (bX3_isPlace_0 12 _ rfl)
theorem dX3_isPlace_13 : decode cX3_isPlace 13 = .ok (.lconst 0, 1) := dz_9 (bX3_isPlace_0 13 _ rfl)
theorem dX3_isPlace_14 : decode cX3_isPlace 14 = .ok (.aload_n 0, 1) := dz_42 (bX3_isPlace_0 14 _ rfl)
theorem dX3_isPlace_15 : decode cX3_isPlace 15 = .ok (.getfield 160, 3) := dz_180 (bX3_isPlace_0 15 _ rfl) (bX3_isPlace_1 0 _ rfl) (bX3_isPlace_1 1 _ rfl)
theorem dX3_isPlace_18 : decode cX3_isPlace 18 = .ok (.iload_n 1, 1) := dz_27 (bX3_isPlace_1 2 _ rfl)
theorem dX3_isPlace_19 : decode cX3_isPlace 19 = .ok (.iaload, 1) := dz_46 (bX3_isPlace_1 3 _ rfl)
theorem dX3_isPlace_20 : decode cX3_isPlace 20 = .ok (.iconst 1, 1) := dz_4 (bX3_isPlace_1 4 _ rfl)
theorem dX3_isPlace_21 : decode cX3_isPlace 21 = .ok (.isub, 1) := dz_100 (bX3_isPlace_1 5 _ rfl)
theorem dX3_isPlace_22 : decode cX3_isPlace 22 = .ok (.i2l, 1) := dz_133 (bX3_isPlace_1 6 _ rfl)
theorem dX3_isPlace_23 : decode cX3_isPlace 23 = .ok (.invokestatic 228, 3) := dz_184 (bX3_isPlace_1 7 _ rfl) (bX3_isPlace_1 8 _ rfl) (bX3_isPlace_1 9 _ rfl)
theorem dX3_isPlace_26 : decode cX3_isPlace 26 = .ok (.ifCond .eq 5, 3) := dz_153 (bX3_isPlace_1 10 _ rfl) (bX3_isPlace_1 11 _ rfl) (bX3_isPlace_1 12 _ rfl)
theorem dX3_isPlace_29 : decode cX3_isPlace 29 = .ok (.iconst 1, 1) := dz_4 (bX3_isPlace_1 13 _ rfl)
theorem dX3_isPlace_30 : decode cX3_isPlace 30 = .ok (.ireturn, 1) := dz_172 (bX3_isPlace_1 14 _ rfl)
theorem dX3_isPlace_31 : decode cX3_isPlace 31 = .ok (.aload_n 0, 1) := dz_42 (bX3_isPlace_1 15 _ rfl)
theorem dX3_isPlace_32 : decode cX3_isPlace 32 = .ok (.iconst 1, 1) := dz_4 (bX3_isPlace_2 0 _ rfl)
theorem dX3_isPlace_33 : decode cX3_isPlace 33 = .ok (.invokevirtual 638, 3) := dz_182 (bX3_isPlace_2 1 _ rfl) (bX3_isPlace_2 2 _ rfl) (bX3_isPlace_2 3 _ rfl)
theorem dX3_isPlace_36 : decode cX3_isPlace 36 = .ok (.iconst 0, 1) := dz_3 (bX3_isPlace_2 4 _ rfl)
theorem dX3_isPlace_37 : decode cX3_isPlace 37 = .ok (.ireturn, 1) := dz_172 (bX3_isPlace_2 5 _ rfl)
def m_X3_isPlace (x1 : Int32) (x2 : Int32) (σ : ch_S) : Option (Int32 × ch_S) := if x1 < 0 then ((m_X3_faults 0 σ).bind fun p6 => some ((0, p6))) else ((ch_ma σ fX3_wordsMany x1).bind fun v1 => (m_X3_isIn (Int32.toInt64 x2) 0 (Int32.toInt64 (v1 - 1)) σ).bind fun v2 => if v2 = 0 then ((m_X3_faults 1 σ).bind fun p4 => some ((0, p4))) else (some ((1, σ))))
theorem s_X3_isPlace {g : State} {m : Nat} {w : ch_W} {x1 : Int32} {x2 : Int32} {σ : ch_S} {res : Int32 × ch_S} {Q : Outcome → ch_W → Prop} (h : m_X3_isPlace x1 x2 σ = some res) (hk : (fun r => ch_eI Q (r.1, ch_put m w r.2)) res) : ch_CT g false yX3_isPlace 5 [.ref m, .int x1, .int x2] (ch_put m w σ) Q := by
  unfold m_X3_isPlace at h
  refine ch_ctL mX3_isPlace (ls := [some (va_rf (some m)), some (.int x1), some (.int x2)]) q2290 rfl (ch_lyr (r := some m) (ch_lyi (ch_lyi ch_ly0))) (Nat.le_of_ble_eq_true rfl) rfl ?_
  refine ch_iload_n 1 _ dX3_isPlace_0 rfl (cp_if_ge _ (tgt := 11) dX3_isPlace_1 rfl h (fun h => ?_) (fun h => ?_))
  · refine ch_iload_n 2 _ dX3_isPlace_11 rfl (ch_i2l _ dX3_isPlace_12 (ch_lconst _ 0 dX3_isPlace_13 rfl (ch_aload_n 0 (some m) dX3_isPlace_14 rfl (mp_gA 85 dX3_isPlace_15 fl_X3_160 rfl (ch_iload_n 1 _ dX3_isPlace_18 rfl (mp_iald dX3_isPlace_19 mk_85 h (fun v1 h => ?_)))))))
    obtain ⟨v2, hp3, h⟩ := ch_bd h
    refine ch_iconst _ 1 dX3_isPlace_20 rfl (ch_isub _ _ dX3_isPlace_21 (ch_i2l _ dX3_isPlace_22 (ch_is yX3_isIn prog_14_method_4_code 6 (some .boolean) (d' := 2) (av := [.long (Int32.toInt64 x2), .long 0, .long (Int32.toInt64 (v1 - 1))]) (rest := []) rfl dX3_isPlace_23 q1897 q1898 q206 q1899 can_X3_isIn (Nat.le_of_ble_eq_true rfl) (Nat.le_of_ble_eq_true rfl) (cp_kI (v := v2) (w1 := ch_put m w σ) (fun Q' hq => s_X3_isIn hp3 hq) ?_))))
    refine cp_if_eq _ (tgt := 31) dX3_isPlace_26 rfl h (fun h => ?_) (fun h => ?_)
    · obtain ⟨p4, hp5, h⟩ := ch_bd h
      refine ch_aload_n 0 (some m) dX3_isPlace_31 rfl (ch_iconst _ 1 dX3_isPlace_32 rfl (ch_iv yX3_faults prog_14_method_86_code 2 none (ci := 3) (q := (RX3, TX3, 109)) (b := m) (d' := 4) (av := [.int 1]) (rest := []) rfl dX3_isPlace_33 q2279 q2281 rfl qs191 q2282 can_X3_faults (Nat.le_of_ble_eq_true rfl) (Nat.le_of_ble_eq_true rfl) ch_put_tag (cp_kV (w1 := ch_put m w p4) (fun Q' hq => s_X3_faults hp5 hq) ?_)))
      obtain rfl := Option.some.inj h
      exact ch_iconst _ 0 dX3_isPlace_36 rfl (ch_ireturn _ dX3_isPlace_37 rfl rfl hk)
    · obtain rfl := Option.some.inj h
      exact ch_iconst _ 1 dX3_isPlace_29 rfl (ch_ireturn _ dX3_isPlace_30 rfl rfl hk)
  · obtain ⟨p6, hp7, h⟩ := ch_bd h
    refine ch_aload_n 0 (some m) dX3_isPlace_4 rfl (ch_iconst _ 0 dX3_isPlace_5 rfl (ch_iv yX3_faults prog_14_method_86_code 2 none (ci := 3) (q := (RX3, TX3, 109)) (b := m) (d' := 4) (av := [.int 0]) (rest := []) rfl dX3_isPlace_6 q2279 q2281 rfl qs191 q2282 can_X3_faults (Nat.le_of_ble_eq_true rfl) (Nat.le_of_ble_eq_true rfl) ch_put_tag (cp_kV (w1 := ch_put m w p6) (fun Q' hq => s_X3_faults hp7 hq) ?_)))
    obtain rfl := Option.some.inj h
    exact ch_iconst _ 0 dX3_isPlace_9 rfl (ch_ireturn _ dX3_isPlace_10 rfl rfl hk)

theorem bX3_calls_0 : ch_ck cX3_calls 0 [42, 180, 0, 141, 27, 46, 61, 42, 180, 2, 48, 28, 100, 62, 42, 180] := ch_ckof (by decide +kernel)
theorem bX3_calls_1 : ch_ck cX3_calls 16 [0, 25, 27, 46, 16, 9, 160, 0, 7, 4, 167, 0, 4, 3, 54, 4] := ch_ckof (by decide +kernel)
theorem bX3_calls_2 : ch_ck cX3_calls 32 [21, 4, 153, 0, 17, 42, 180, 0, 178, 42, 180, 2, 42, 4, 100, 46] := ch_ckof (by decide +kernel)
theorem bX3_calls_3 : ch_ck cX3_calls 48 [167, 0, 11, 42, 180, 0, 198, 29, 4, 100, 46, 54, 5, 21, 5, 156] := ch_ckof (by decide +kernel)
theorem bX3_calls_4 : ch_ck cX3_calls 64 [0, 9, 42, 3, 182, 2, 126, 177, 42, 180, 2, 42, 16, 100, 160, 0] := ch_ckof (by decide +kernel)
theorem bX3_calls_5 : ch_ck cX3_calls 80 [9, 42, 7, 182, 2, 93, 177, 42, 42, 180, 0, 154, 21, 5, 46, 42] := ch_ckof (by decide +kernel)
theorem bX3_calls_6 : ch_ck cX3_calls 96 [180, 0, 34, 27, 46, 4, 182, 1, 166, 54, 6, 42, 21, 5, 21, 6] := ch_ckof (by decide +kernel)
theorem bX3_calls_7 : ch_ck cX3_calls 112 [29, 28, 182, 2, 138, 42, 21, 4, 153, 0, 7, 29, 167, 0, 6, 29] := ch_ckof (by decide +kernel)
theorem bX3_calls_8 : ch_ck cX3_calls 128 [4, 100, 181, 2, 48, 42, 180, 0, 187, 42, 180, 2, 42, 4, 100, 42] := ch_ckof (by decide +kernel)
theorem bX3_calls_9 : ch_ck cX3_calls 144 [180, 2, 48, 79, 177] := ch_ckof (by decide +kernel)
theorem dX3_calls_0 : decode cX3_calls 0 = .ok (.aload_n 0, 1) := dz_42 (bX3_calls_0 0 _ rfl)
theorem dX3_calls_1 : decode cX3_calls 1 = .ok (.getfield 141, 3) := dz_180 (bX3_calls_0 1 _ rfl) (bX3_calls_0 2 _ rfl) (bX3_calls_0 3 _ rfl)
theorem dX3_calls_4 : decode cX3_calls 4 = .ok (.iload_n 1, 1) := dz_27 (bX3_calls_0 4 _ rfl)
theorem dX3_calls_5 : decode cX3_calls 5 = .ok (.iaload, 1) := dz_46 (bX3_calls_0 5 _ rfl)
theorem dX3_calls_6 : decode cX3_calls 6 = .ok (.istore_n 2, 1) := dz_61 (bX3_calls_0 6 _ rfl)
theorem dX3_calls_7 : decode cX3_calls 7 = .ok (.aload_n 0, 1) := dz_42 (bX3_calls_0 7 _ rfl)
theorem dX3_calls_8 : decode cX3_calls 8 = .ok (.getfield 560, 3) := dz_180 (bX3_calls_0 8 _ rfl) (bX3_calls_0 9 _ rfl) (bX3_calls_0 10 _ rfl)
theorem dX3_calls_11 : decode cX3_calls 11 = .ok (.iload_n 2, 1) := dz_28 (bX3_calls_0 11 _ rfl)
theorem dX3_calls_12 : decode cX3_calls 12 = .ok (.isub, 1) := dz_100 (bX3_calls_0 12 _ rfl)
theorem dX3_calls_13 : decode cX3_calls 13 = .ok (.istore_n 3, 1) := dz_62 (bX3_calls_0 13 _ rfl)
theorem dX3_calls_14 : decode cX3_calls 14 = .ok (.aload_n 0, 1) := dz_42 (bX3_calls_0 14 _ rfl)
theorem dX3_calls_15 : decode cX3_calls 15 = .ok (.getfield 25, 3) := dz_180 (bX3_calls_0 15 _ rfl) (bX3_calls_1 0 _ rfl) (bX3_calls_1 1 _ rfl)
theorem dX3_calls_18 : decode cX3_calls 18 = .ok (.iload_n 1, 1) := dz_27 (bX3_calls_1 2 _ rfl)
theorem dX3_calls_19 : decode cX3_calls 19 = .ok (.iaload, 1) := dz_46 (bX3_calls_1 3 _ rfl)
theorem dX3_calls_20 : decode cX3_calls 20 = .ok (.bipush 9, 2) := dz_16 (bX3_calls_1 4 _ rfl) (bX3_calls_1 5 _ rfl)
theorem dX3_calls_22 : decode cX3_calls 22 = .ok (.if_icmp .ne 7, 3) := dz_160 (bX3_calls_1 6 _ rfl) (bX3_calls_1 7 _ rfl) (bX3_calls_1 8 _ rfl)
theorem dX3_calls_25 : decode cX3_calls 25 = .ok (.iconst 1, 1) := dz_4 (bX3_calls_1 9 _ rfl)
theorem dX3_calls_26 : decode cX3_calls 26 = .ok (.goto 4, 3) := dz_167 (bX3_calls_1 10 _ rfl) (bX3_calls_1 11 _ rfl) (bX3_calls_1 12 _ rfl)
theorem dX3_calls_29 : decode cX3_calls 29 = .ok (.iconst 0, 1) := dz_3 (bX3_calls_1 13 _ rfl)
theorem dX3_calls_30 : decode cX3_calls 30 = .ok (.istore 4, 2) := dz_54 (bX3_calls_1 14 _ rfl) (bX3_calls_1 15 _ rfl)
theorem dX3_calls_32 : decode cX3_calls 32 = .ok (.iload 4, 2) := dz_21 (bX3_calls_2 0 _ rfl) (bX3_calls_2 1 _ rfl)
theorem dX3_calls_34 : decode cX3_calls 34 = .ok (.ifCond .eq 17, 3) := dz_153 (bX3_calls_2 2 _ rfl) (bX3_calls_2 3 _ rfl) (bX3_calls_2 4 _ rfl)
theorem dX3_calls_37 : decode cX3_calls 37 = .ok (.aload_n 0, 1) := dz_42 (bX3_calls_2 5 _ rfl)
theorem dX3_calls_38 : decode cX3_calls 38 = .ok (.getfield 178, 3) := dz_180 (bX3_calls_2 6 _ rfl) (bX3_calls_2 7 _ rfl) (bX3_calls_2 8 _ rfl)
theorem dX3_calls_41 : decode cX3_calls 41 = .ok (.aload_n 0, 1) := dz_42 (bX3_calls_2 9 _ rfl)
theorem dX3_calls_42 : decode cX3_calls 42 = .ok (.getfield 554, 3) := dz_180 (bX3_calls_2 10 _ rfl) (bX3_calls_2 11 _ rfl) (bX3_calls_2 12 _ rfl)
theorem dX3_calls_45 : decode cX3_calls 45 = .ok (.iconst 1, 1) := dz_4 (bX3_calls_2 13 _ rfl)
theorem dX3_calls_46 : decode cX3_calls 46 = .ok (.isub, 1) := dz_100 (bX3_calls_2 14 _ rfl)
theorem dX3_calls_47 : decode cX3_calls 47 = .ok (.iaload, 1) := dz_46 (bX3_calls_2 15 _ rfl)
theorem dX3_calls_48 : decode cX3_calls 48 = .ok (.goto 11, 3) := dz_167 (bX3_calls_3 0 _ rfl) (bX3_calls_3 1 _ rfl) (bX3_calls_3 2 _ rfl)
theorem dX3_calls_51 : decode cX3_calls 51 = .ok (.aload_n 0, 1) := dz_42 (bX3_calls_3 3 _ rfl)
theorem dX3_calls_52 : decode cX3_calls 52 = .ok (.getfield 198, 3) := dz_180 (bX3_calls_3 4 _ rfl) (bX3_calls_3 5 _ rfl) (bX3_calls_3 6 _ rfl)
theorem dX3_calls_55 : decode cX3_calls 55 = .ok (.iload_n 3, 1) := dz_29 (bX3_calls_3 7 _ rfl)
theorem dX3_calls_56 : decode cX3_calls 56 = .ok (.iconst 1, 1) := dz_4 (bX3_calls_3 8 _ rfl)
theorem dX3_calls_57 : decode cX3_calls 57 = .ok (.isub, 1) := dz_100 (bX3_calls_3 9 _ rfl)
theorem dX3_calls_58 : decode cX3_calls 58 = .ok (.iaload, 1) := dz_46 (bX3_calls_3 10 _ rfl)
theorem dX3_calls_59 : decode cX3_calls 59 = .ok (.istore 5, 2) := dz_54 (bX3_calls_3 11 _ rfl) (bX3_calls_3 12 _ rfl)
theorem dX3_calls_61 : decode cX3_calls 61 = .ok (.iload 5, 2) := dz_21 (bX3_calls_3 13 _ rfl) (bX3_calls_3 14 _ rfl)
theorem dX3_calls_63 : decode cX3_calls 63 = .ok (.ifCond .ge 9, 3) := dz_156 (bX3_calls_3 15 _ rfl) (bX3_calls_4 0 _ rfl) (bX3_calls_4 1 _ rfl)
theorem dX3_calls_66 : decode cX3_calls 66 = .ok (.aload_n 0, 1) := dz_42 (bX3_calls_4 2 _ rfl)
theorem dX3_calls_67 : decode cX3_calls 67 = .ok (.iconst 0, 1) := dz_3 (bX3_calls_4 3 _ rfl)
theorem dX3_calls_68 : decode cX3_calls 68 = .ok (.invokevirtual 638, 3) := dz_182 (bX3_calls_4 4 _ rfl) (bX3_calls_4 5 _ rfl) (bX3_calls_4 6 _ rfl)
theorem dX3_calls_71 : decode cX3_calls 71 = .ok (.return_, 1) := dz_177 (bX3_calls_4 7 _ rfl)
theorem dX3_calls_72 : decode cX3_calls 72 = .ok (.aload_n 0, 1) := dz_42 (bX3_calls_4 8 _ rfl)
theorem dX3_calls_73 : decode cX3_calls 73 = .ok (.getfield 554, 3) := dz_180 (bX3_calls_4 9 _ rfl) (bX3_calls_4 10 _ rfl) (bX3_calls_4 11 _ rfl)
theorem dX3_calls_76 : decode cX3_calls 76 = .ok (.bipush 100, 2) := dz_16 (bX3_calls_4 12 _ rfl) (bX3_calls_4 13 _ rfl)
theorem dX3_calls_78 : decode cX3_calls 78 = .ok (.if_icmp .ne 9, 3) := dz_160 (bX3_calls_4 14 _ rfl) (bX3_calls_4 15 _ rfl) (bX3_calls_5 0 _ rfl)
theorem dX3_calls_81 : decode cX3_calls 81 = .ok (.aload_n 0, 1) := dz_42 (bX3_calls_5 1 _ rfl)
theorem dX3_calls_82 : decode cX3_calls 82 = .ok (.iconst 4, 1) := dz_7 (bX3_calls_5 2 _ rfl)
theorem dX3_calls_83 : decode cX3_calls 83 = .ok (.invokevirtual 605, 3) := dz_182 (bX3_calls_5 3 _ rfl) (bX3_calls_5 4 _ rfl) (bX3_calls_5 5 _ rfl)
theorem dX3_calls_86 : decode cX3_calls 86 = .ok (.return_, 1) := dz_177 (bX3_calls_5 6 _ rfl)
theorem dX3_calls_87 : decode cX3_calls 87 = .ok (.aload_n 0, 1) := dz_42 (bX3_calls_5 7 _ rfl)
theorem dX3_calls_88 : decode cX3_calls 88 = .ok (.aload_n 0, 1) := dz_42 (bX3_calls_5 8 _ rfl)
theorem dX3_calls_89 : decode cX3_calls 89 = .ok (.getfield 154, 3) := dz_180 (bX3_calls_5 9 _ rfl) (bX3_calls_5 10 _ rfl) (bX3_calls_5 11 _ rfl)
theorem dX3_calls_92 : decode cX3_calls 92 = .ok (.iload 5, 2) := dz_21 (bX3_calls_5 12 _ rfl) (bX3_calls_5 13 _ rfl)
theorem dX3_calls_94 : decode cX3_calls 94 = .ok (.iaload, 1) := dz_46 (bX3_calls_5 14 _ rfl)
theorem dX3_calls_95 : decode cX3_calls 95 = .ok (.aload_n 0, 1) := dz_42 (bX3_calls_5 15 _ rfl)
theorem dX3_calls_96 : decode cX3_calls 96 = .ok (.getfield 34, 3) := dz_180 (bX3_calls_6 0 _ rfl) (bX3_calls_6 1 _ rfl) (bX3_calls_6 2 _ rfl)
theorem dX3_calls_99 : decode cX3_calls 99 = .ok (.iload_n 1, 1) := dz_27 (bX3_calls_6 3 _ rfl)
theorem dX3_calls_100 : decode cX3_calls 100 = .ok (.iaload, 1) := dz_46 (bX3_calls_6 4 _ rfl)
theorem dX3_calls_101 : decode cX3_calls 101 = .ok (.iconst 1, 1) := dz_4 (bX3_calls_6 5 _ rfl)
theorem dX3_calls_102 : decode cX3_calls 102 = .ok (.invokevirtual 422, 3) := dz_182 (bX3_calls_6 6 _ rfl) (bX3_calls_6 7 _ rfl) (bX3_calls_6 8 _ rfl)
theorem dX3_calls_105 : decode cX3_calls 105 = .ok (.istore 6, 2) := dz_54 (bX3_calls_6 9 _ rfl) (bX3_calls_6 10 _ rfl)
theorem dX3_calls_107 : decode cX3_calls 107 = .ok (.aload_n 0, 1) := dz_42 (bX3_calls_6 11 _ rfl)
theorem dX3_calls_108 : decode cX3_calls 108 = .ok (.iload 5, 2) := dz_21 (bX3_calls_6 12 _ rfl) (bX3_calls_6 13 _ rfl)
theorem dX3_calls_110 : decode cX3_calls 110 = .ok (.iload 6, 2) := dz_21 (bX3_calls_6 14 _ rfl) (bX3_calls_6 15 _ rfl)
theorem dX3_calls_112 : decode cX3_calls 112 = .ok (.iload_n 3, 1) := dz_29 (bX3_calls_7 0 _ rfl)
theorem dX3_calls_113 : decode cX3_calls 113 = .ok (.iload_n 2, 1) := dz_28 (bX3_calls_7 1 _ rfl)
theorem dX3_calls_114 : decode cX3_calls 114 = .ok (.invokevirtual 650, 3) := dz_182 (bX3_calls_7 2 _ rfl) (bX3_calls_7 3 _ rfl) (bX3_calls_7 4 _ rfl)
theorem dX3_calls_117 : decode cX3_calls 117 = .ok (.aload_n 0, 1) := dz_42 (bX3_calls_7 5 _ rfl)
theorem dX3_calls_118 : decode cX3_calls 118 = .ok (.iload 4, 2) := dz_21 (bX3_calls_7 6 _ rfl) (bX3_calls_7 7 _ rfl)
theorem dX3_calls_120 : decode cX3_calls 120 = .ok (.ifCond .eq 7, 3) := dz_153 (bX3_calls_7 8 _ rfl) (bX3_calls_7 9 _ rfl) (bX3_calls_7 10 _ rfl)
theorem dX3_calls_123 : decode cX3_calls 123 = .ok (.iload_n 3, 1) := dz_29 (bX3_calls_7 11 _ rfl)
theorem dX3_calls_124 : decode cX3_calls 124 = .ok (.goto 6, 3) := dz_167 (bX3_calls_7 12 _ rfl) (bX3_calls_7 13 _ rfl) (bX3_calls_7 14 _ rfl)
theorem dX3_calls_127 : decode cX3_calls 127 = .ok (.iload_n 3, 1) := dz_29 (bX3_calls_7 15 _ rfl)
theorem dX3_calls_128 : decode cX3_calls 128 = .ok (.iconst 1, 1) := dz_4 (bX3_calls_8 0 _ rfl)
theorem dX3_calls_129 : decode cX3_calls 129 = .ok (.isub, 1) := dz_100 (bX3_calls_8 1 _ rfl)
theorem dX3_calls_130 : decode cX3_calls 130 = .ok (.putfield 560, 3) := dz_181 (bX3_calls_8 2 _ rfl) (bX3_calls_8 3 _ rfl) (bX3_calls_8 4 _ rfl)
theorem dX3_calls_133 : decode cX3_calls 133 = .ok (.aload_n 0, 1) := dz_42 (bX3_calls_8 5 _ rfl)
theorem dX3_calls_134 : decode cX3_calls 134 = .ok (.getfield 187, 3) := dz_180 (bX3_calls_8 6 _ rfl) (bX3_calls_8 7 _ rfl) (bX3_calls_8 8 _ rfl)
theorem dX3_calls_137 : decode cX3_calls 137 = .ok (.aload_n 0, 1) := dz_42 (bX3_calls_8 9 _ rfl)
theorem dX3_calls_138 : decode cX3_calls 138 = .ok (.getfield 554, 3) := dz_180 (bX3_calls_8 10 _ rfl) (bX3_calls_8 11 _ rfl) (bX3_calls_8 12 _ rfl)
theorem dX3_calls_141 : decode cX3_calls 141 = .ok (.iconst 1, 1) := dz_4 (bX3_calls_8 13 _ rfl)
theorem dX3_calls_142 : decode cX3_calls 142 = .ok (.isub, 1) := dz_100 (bX3_calls_8 14 _ rfl)
theorem dX3_calls_143 : decode cX3_calls 143 = .ok (.aload_n 0, 1) := dz_42 (bX3_calls_8 15 _ rfl)
theorem dX3_calls_144 : decode cX3_calls 144 = .ok (.getfield 560, 3) := dz_180 (bX3_calls_9 0 _ rfl) (bX3_calls_9 1 _ rfl) (bX3_calls_9 2 _ rfl)
theorem dX3_calls_147 : decode cX3_calls 147 = .ok (.iastore, 1) := dz_79 (bX3_calls_9 3 _ rfl)
theorem dX3_calls_148 : decode cX3_calls 148 = .ok (.return_, 1) := dz_177 (bX3_calls_9 4 _ rfl)
def m_X3_calls_130  (y0 : Int32) (σ : ch_S) : Option (ch_S) := (ch_mI σ fX3_piled y0).bind fun σ1 => (ch_mw σ1 fX3_openPile ((σ1.1 fX3_open) - 1) (σ1.1 fX3_piled)).bind fun σ2 => some (σ2)
theorem s_X3_calls_130 {g : State} {m : Nat} {w : ch_W} {y0 : Int32} {σ : ch_S} {res : ch_S} {Q : Outcome → ch_W → Prop} (h : m_X3_calls_130 y0 σ = some res) (hk : (fun r => ch_eV Q (ch_put m w r)) res) : ch_FT g false mX3_calls 5 130 [some (va_rf (some m)), none, none, none, none, none, none] [.int y0, va_rf (some m)] (ch_put m w σ) Q := by
  unfold m_X3_calls_130 at h
  refine mp_pI (k := 100) dX3_calls_130 fl_X3_560 rfl rfl rfl h (fun σ1 h => ?_)
  refine ch_aload_n 0 (some m) dX3_calls_133 rfl (mp_gA 97 dX3_calls_134 fl_X3_187 rfl (ch_aload_n 0 (some m) dX3_calls_137 rfl (mp_gI 93 dX3_calls_138 fl_X3_554 rfl (ch_iconst _ 1 dX3_calls_141 rfl (ch_isub _ _ dX3_calls_142 (ch_aload_n 0 (some m) dX3_calls_143 rfl (mp_gI 100 dX3_calls_144 fl_X3_560 rfl (?_))))))))
  refine mp_iast dX3_calls_147 mk_97 rfl h (fun σ2 h => ?_)
  obtain rfl := Option.some.inj h
  exact ch_return dX3_calls_148 rfl hk

def m_X3_calls_59 (x1 : Int32) (x2 : Int32) (x3 : Int32) (x4 : Int32) (y0 : Int32) (σ : ch_S) : Option (ch_S) := if y0 < 0 then ((m_X3_faults 0 σ).bind fun p9 => some (p9)) else (if (σ.1 fX3_open) = 100 then ((m_X3_ends 4 σ).bind fun p7 => some (p7)) else ((ch_ma σ fX3_classOfObject y0).bind fun v1 => (ch_ma σ fX3_of x1).bind fun v2 => (m_X3_memberOf v1 v2 1 σ).bind fun v3 => (m_X3_begin y0 v3 x3 x2 σ).bind fun p5 => if x4 = 0 then (m_X3_calls_130 (x3 - 1) p5) else (m_X3_calls_130 x3 p5)))
theorem s_X3_calls_59 {g : State} {m : Nat} {w : ch_W} {x1 : Int32} {x2 : Int32} {x3 : Int32} {x4 : Int32} {y0 : Int32} {σ : ch_S} {res : ch_S} {Q : Outcome → ch_W → Prop} (h : m_X3_calls_59 x1 x2 x3 x4 y0 σ = some res) (hk : (fun r => ch_eV Q (ch_put m w r)) res) : ch_FT g false mX3_calls 5 59 [some (va_rf (some m)), some (.int x1), some (.int x2), some (.int x3), some (.int x4), none, none] [.int y0] (ch_put m w σ) Q := by
  unfold m_X3_calls_59 at h
  refine ch_istore 5 _ (ls1 := [some (va_rf (some m)), some (.int x1), some (.int x2), some (.int x3), some (.int x4), some (.int y0), none]) dX3_calls_59 (Nat.le_of_ble_eq_true rfl) rfl (ch_iload 5 _ dX3_calls_61 rfl (cp_if_ge _ (tgt := 72) dX3_calls_63 rfl h (fun h => ?_) (fun h => ?_)))
  · refine ch_aload_n 0 (some m) dX3_calls_72 rfl (mp_gI 93 dX3_calls_73 fl_X3_554 rfl (ch_bipush _ 100 dX3_calls_76 rfl (cp_icmp_ne _ _ (tgt := 87) dX3_calls_78 rfl h (fun h => ?_) (fun h => ?_))))
    · refine ch_aload_n 0 (some m) dX3_calls_87 rfl (ch_aload_n 0 (some m) dX3_calls_88 rfl (mp_gA 83 dX3_calls_89 fl_X3_154 rfl (ch_iload 5 _ dX3_calls_92 rfl (mp_iald dX3_calls_94 mk_83 h (fun v1 h => ?_)))))
      refine ch_aload_n 0 (some m) dX3_calls_95 rfl (mp_gA 19 dX3_calls_96 fl_X3_34 rfl (ch_iload_n 1 _ dX3_calls_99 rfl (mp_iald dX3_calls_100 mk_19 h (fun v2 h => ?_))))
      obtain ⟨v3, hp4, h⟩ := ch_bd h
      refine ch_iconst _ 1 dX3_calls_101 rfl (ch_iv yX3_memberOf prog_14_method_47_code 6 (some .int) (ci := 3) (q := (RX3, TX3, 109)) (b := m) (d' := 2) (av := [.int v1, .int v2, .int 1]) (rest := []) rfl dX3_calls_102 q2064 q2066 rfl qs145 q2067 can_X3_memberOf (Nat.le_of_ble_eq_true rfl) (Nat.le_of_ble_eq_true rfl) ch_put_tag (cp_kI (v := v3) (w1 := ch_put m w σ) (fun Q' hq => s_X3_memberOf hp4 hq) ?_))
      obtain ⟨p5, hp6, h⟩ := ch_bd h
      refine ch_istore 6 _ (ls1 := [some (va_rf (some m)), some (.int x1), some (.int x2), some (.int x3), some (.int x4), some (.int y0), some (.int v3)]) dX3_calls_105 (Nat.le_of_ble_eq_true rfl) rfl (ch_aload_n 0 (some m) dX3_calls_107 rfl (ch_iload 5 _ dX3_calls_108 rfl (ch_iload 6 _ dX3_calls_110 rfl (ch_iload_n 3 _ dX3_calls_112 rfl (ch_iload_n 2 _ dX3_calls_113 rfl (ch_iv yX3_begin prog_14_method_99_code 7 none (ci := 3) (q := (RX3, TX3, 109)) (b := m) (d' := 3) (av := [.int y0, .int v3, .int x3, .int x2]) (rest := []) rfl dX3_calls_114 q2198 q2200 rfl qs172 q2201 can_X3_begin (Nat.le_of_ble_eq_true rfl) (Nat.le_of_ble_eq_true rfl) ch_put_tag (cp_kV (w1 := ch_put m w p5) (fun Q' hq => s_X3_begin hp6 hq) ?_)))))))
      refine ch_aload_n 0 (some m) dX3_calls_117 rfl (ch_iload 4 _ dX3_calls_118 rfl (cp_if_eq _ (tgt := 127) dX3_calls_120 rfl h (fun h => ?_) (fun h => ?_)))
      · exact ch_iload_n 3 _ dX3_calls_127 rfl (ch_iconst _ 1 dX3_calls_128 rfl (ch_isub _ _ dX3_calls_129 (ch_FT.wk (ch_wS (ch_wN (ch_wN (ch_wN (ch_wN (ch_wN (ch_wN ch_w0))))))) (s_X3_calls_130  h hk))))
      · exact ch_iload_n 3 _ dX3_calls_123 rfl (ch_goto 130 dX3_calls_124 rfl (ch_FT.wk (ch_wS (ch_wN (ch_wN (ch_wN (ch_wN (ch_wN (ch_wN ch_w0))))))) (s_X3_calls_130  h hk)))
    · obtain ⟨p7, hp8, h⟩ := ch_bd h
      refine ch_aload_n 0 (some m) dX3_calls_81 rfl (ch_iconst _ 4 dX3_calls_82 rfl (ch_iv yX3_ends prog_14_method_84_code 2 none (ci := 3) (q := (RX3, TX3, 109)) (b := m) (d' := 2) (av := [.int 4]) (rest := []) rfl dX3_calls_83 q2271 q2273 rfl qs189 q2274 can_X3_ends (Nat.le_of_ble_eq_true rfl) (Nat.le_of_ble_eq_true rfl) ch_put_tag (cp_kV (w1 := ch_put m w p7) (fun Q' hq => s_X3_ends hp8 hq) ?_)))
      obtain rfl := Option.some.inj h
      exact ch_return dX3_calls_86 rfl hk
  · obtain ⟨p9, hp10, h⟩ := ch_bd h
    refine ch_aload_n 0 (some m) dX3_calls_66 rfl (ch_iconst _ 0 dX3_calls_67 rfl (ch_iv yX3_faults prog_14_method_86_code 2 none (ci := 3) (q := (RX3, TX3, 109)) (b := m) (d' := 4) (av := [.int 0]) (rest := []) rfl dX3_calls_68 q2279 q2281 rfl qs191 q2282 can_X3_faults (Nat.le_of_ble_eq_true rfl) (Nat.le_of_ble_eq_true rfl) ch_put_tag (cp_kV (w1 := ch_put m w p9) (fun Q' hq => s_X3_faults hp10 hq) ?_)))
    obtain rfl := Option.some.inj h
    exact ch_return dX3_calls_71 rfl hk

def m_X3_calls_30 (x1 : Int32) (x2 : Int32) (x3 : Int32) (y0 : Int32) (σ : ch_S) : Option (ch_S) := if y0 = 0 then ((ch_ma σ fX3_pile (x3 - 1)).bind fun v1 => m_X3_calls_59 x1 x2 x3 y0 v1 σ) else ((ch_ma σ fX3_openThis ((σ.1 fX3_open) - 1)).bind fun v2 => m_X3_calls_59 x1 x2 x3 y0 v2 σ)
theorem s_X3_calls_30 {g : State} {m : Nat} {w : ch_W} {x1 : Int32} {x2 : Int32} {x3 : Int32} {y0 : Int32} {σ : ch_S} {res : ch_S} {Q : Outcome → ch_W → Prop} (h : m_X3_calls_30 x1 x2 x3 y0 σ = some res) (hk : (fun r => ch_eV Q (ch_put m w r)) res) : ch_FT g false mX3_calls 5 30 [some (va_rf (some m)), some (.int x1), some (.int x2), some (.int x3), none, none, none] [.int y0] (ch_put m w σ) Q := by
  unfold m_X3_calls_30 at h
  refine ch_istore 4 _ (ls1 := [some (va_rf (some m)), some (.int x1), some (.int x2), some (.int x3), some (.int y0), none, none]) dX3_calls_30 (Nat.le_of_ble_eq_true rfl) rfl (ch_iload 4 _ dX3_calls_32 rfl (cp_if_eq _ (tgt := 51) dX3_calls_34 rfl h (fun h => ?_) (fun h => ?_)))
  · refine ch_aload_n 0 (some m) dX3_calls_51 rfl (mp_gA 101 dX3_calls_52 fl_X3_198 rfl (ch_iload_n 3 _ dX3_calls_55 rfl (ch_iconst _ 1 dX3_calls_56 rfl (ch_isub _ _ dX3_calls_57 (mp_iald dX3_calls_58 mk_101 h (fun v1 h => ?_))))))
    exact ch_FT.wk (ch_wS (ch_wS (ch_wS (ch_wS (ch_wS (ch_wN (ch_wN ch_w0))))))) (s_X3_calls_59  h hk)
  · refine ch_aload_n 0 (some m) dX3_calls_37 rfl (mp_gA 94 dX3_calls_38 fl_X3_178 rfl (ch_aload_n 0 (some m) dX3_calls_41 rfl (mp_gI 93 dX3_calls_42 fl_X3_554 rfl (ch_iconst _ 1 dX3_calls_45 rfl (ch_isub _ _ dX3_calls_46 (mp_iald dX3_calls_47 mk_94 h (fun v2 h => ?_)))))))
    exact ch_goto 59 dX3_calls_48 rfl (ch_FT.wk (ch_wS (ch_wS (ch_wS (ch_wS (ch_wS (ch_wN (ch_wN ch_w0))))))) (s_X3_calls_59  h hk))

def m_X3_calls (x1 : Int32) (σ : ch_S) : Option (ch_S) := (ch_ma σ fX3_manyOf x1).bind fun v1 => (ch_ma σ fX3_is x1).bind fun v2 => if v2 = 9 then (m_X3_calls_30 x1 v1 ((σ.1 fX3_piled) - v1) 1 σ) else (m_X3_calls_30 x1 v1 ((σ.1 fX3_piled) - v1) 0 σ)
theorem s_X3_calls {g : State} {m : Nat} {w : ch_W} {x1 : Int32} {σ : ch_S} {res : ch_S} {Q : Outcome → ch_W → Prop} (h : m_X3_calls x1 σ = some res) (hk : (fun r => ch_eV Q (ch_put m w r)) res) : ch_CT g false yX3_calls 5 [.ref m, .int x1] (ch_put m w σ) Q := by
  unfold m_X3_calls at h
  refine ch_ctL mX3_calls (ls := [some (va_rf (some m)), some (.int x1), none, none, none, none, none]) q2294 rfl (ch_lyr (r := some m) (ch_lyi ch_ly0)) (Nat.le_of_ble_eq_true rfl) rfl ?_
  refine ch_aload_n 0 (some m) dX3_calls_0 rfl (mp_gA 68 dX3_calls_1 fl_X3_141 rfl (ch_iload_n 1 _ dX3_calls_4 rfl (mp_iald dX3_calls_5 mk_68 h (fun v1 h => ?_))))
  refine ch_istore_n 2 _ (ls1 := [some (va_rf (some m)), some (.int x1), some (.int v1), none, none, none, none]) dX3_calls_6 (Nat.le_of_ble_eq_true rfl) rfl (ch_aload_n 0 (some m) dX3_calls_7 rfl (mp_gI 100 dX3_calls_8 fl_X3_560 rfl (ch_iload_n 2 _ dX3_calls_11 rfl (ch_isub _ _ dX3_calls_12 (ch_istore_n 3 _ (ls1 := [some (va_rf (some m)), some (.int x1), some (.int v1), some (.int ((σ.1 fX3_piled) - v1)), none, none, none]) dX3_calls_13 (Nat.le_of_ble_eq_true rfl) rfl (ch_aload_n 0 (some m) dX3_calls_14 rfl (mp_gA 16 dX3_calls_15 fl_X3_25 rfl (?_))))))))
  refine ch_iload_n 1 _ dX3_calls_18 rfl (mp_iald dX3_calls_19 mk_16 h (fun v2 h => ?_))
  refine ch_bipush _ 9 dX3_calls_20 rfl (cp_icmp_ne _ _ (tgt := 29) dX3_calls_22 rfl h (fun h => ?_) (fun h => ?_))
  · exact ch_iconst _ 0 dX3_calls_29 rfl (ch_FT.wk (ch_wS (ch_wS (ch_wS (ch_wS (ch_wN (ch_wN (ch_wN ch_w0))))))) (s_X3_calls_30  h hk))
  · exact ch_iconst _ 1 dX3_calls_25 rfl (ch_goto 30 dX3_calls_26 rfl (ch_FT.wk (ch_wS (ch_wS (ch_wS (ch_wS (ch_wN (ch_wN (ch_wN ch_w0))))))) (s_X3_calls_30  h hk)))

theorem bX3_worked_0 : ch_ck cX3_worked 0 [26, 171, 0, 0, 0, 0, 0, 128, 0, 0, 0, 8, 0, 0, 0, 37] := ch_ckof (by decide +kernel)
theorem bX3_worked_1 : ch_ck cX3_worked 16 [0, 0, 0, 91, 0, 0, 0, 42, 0, 0, 0, 83, 0, 0, 0, 43] := ch_ckof (by decide +kernel)
theorem bX3_worked_2 : ch_ck cX3_worked 32 [0, 0, 0, 75, 0, 0, 0, 45, 0, 0, 0, 79, 0, 0, 0, 47] := ch_ckof (by decide +kernel)
theorem bX3_worked_3 : ch_ck cX3_worked 48 [0, 0, 0, 87, 0, 0, 0, 60, 0, 0, 0, 95, 0, 0, 1, 60] := ch_ckof (by decide +kernel)
theorem bX3_worked_4 : ch_ck cX3_worked 64 [0, 0, 0, 106, 0, 0, 1, 61, 0, 0, 0, 117, 27, 28, 96, 172] := ch_ckof (by decide +kernel)
theorem bX3_worked_5 : ch_ck cX3_worked 80 [27, 28, 100, 172, 27, 28, 104, 172, 27, 28, 108, 172, 27, 28, 112, 172] := ch_ckof (by decide +kernel)
theorem bX3_worked_6 : ch_ck cX3_worked 96 [27, 28, 162, 0, 7, 4, 167, 0, 4, 3, 172, 27, 28, 163, 0, 7] := ch_ckof (by decide +kernel)
theorem bX3_worked_7 : ch_ck cX3_worked 112 [4, 167, 0, 4, 3, 172, 27, 28, 160, 0, 7, 4, 167, 0, 4, 3] := ch_ckof (by decide +kernel)
theorem bX3_worked_8 : ch_ck cX3_worked 128 [172, 27, 28, 159, 0, 7, 4, 167, 0, 4, 3, 172] := ch_ckof (by decide +kernel)
theorem dX3_worked_0 : decode cX3_worked 0 = .ok (.iload_n 0, 1) := dz_26 (bX3_worked_0 0 _ rfl)
theorem dX3_worked_1 : decode cX3_worked 1 = .ok (.lookupswitch 128 #[(37, 91), (42, 83), (43, 75), (45, 79), (47, 87), (60, 95), (316, 106), (317, 117)], 75) := by decide +kernel
theorem dX3_worked_76 : decode cX3_worked 76 = .ok (.iload_n 1, 1) := dz_27 (bX3_worked_4 12 _ rfl)
theorem dX3_worked_77 : decode cX3_worked 77 = .ok (.iload_n 2, 1) := dz_28 (bX3_worked_4 13 _ rfl)
theorem dX3_worked_78 : decode cX3_worked 78 = .ok (.iadd, 1) := dz_96 (bX3_worked_4 14 _ rfl)
theorem dX3_worked_79 : decode cX3_worked 79 = .ok (.ireturn, 1) := dz_172 (bX3_worked_4 15 _ rfl)
theorem dX3_worked_80 : decode cX3_worked 80 = .ok (.iload_n 1, 1) := dz_27 (bX3_worked_5 0 _ rfl)
theorem dX3_worked_81 : decode cX3_worked 81 = .ok (.iload_n 2, 1) := dz_28 (bX3_worked_5 1 _ rfl)
theorem dX3_worked_82 : decode cX3_worked 82 = .ok (.isub, 1) := dz_100 (bX3_worked_5 2 _ rfl)
theorem dX3_worked_83 : decode cX3_worked 83 = .ok (.ireturn, 1) := dz_172 (bX3_worked_5 3 _ rfl)
theorem dX3_worked_84 : decode cX3_worked 84 = .ok (.iload_n 1, 1) := dz_27 (bX3_worked_5 4 _ rfl)
theorem dX3_worked_85 : decode cX3_worked 85 = .ok (.iload_n 2, 1) := dz_28 (bX3_worked_5 5 _ rfl)
theorem dX3_worked_86 : decode cX3_worked 86 = .ok (.imul, 1) := dz_104 (bX3_worked_5 6 _ rfl)
theorem dX3_worked_87 : decode cX3_worked 87 = .ok (.ireturn, 1) := dz_172 (bX3_worked_5 7 _ rfl)
theorem dX3_worked_88 : decode cX3_worked 88 = .ok (.iload_n 1, 1) := dz_27 (bX3_worked_5 8 _ rfl)
theorem dX3_worked_89 : decode cX3_worked 89 = .ok (.iload_n 2, 1) := dz_28 (bX3_worked_5 9 _ rfl)
theorem dX3_worked_90 : decode cX3_worked 90 = .ok (.idiv, 1) := dz_108 (bX3_worked_5 10 _ rfl)
theorem dX3_worked_91 : decode cX3_worked 91 = .ok (.ireturn, 1) := dz_172 (bX3_worked_5 11 _ rfl)
theorem dX3_worked_92 : decode cX3_worked 92 = .ok (.iload_n 1, 1) := dz_27 (bX3_worked_5 12 _ rfl)
theorem dX3_worked_93 : decode cX3_worked 93 = .ok (.iload_n 2, 1) := dz_28 (bX3_worked_5 13 _ rfl)
theorem dX3_worked_94 : decode cX3_worked 94 = .ok (.irem, 1) := dz_112 (bX3_worked_5 14 _ rfl)
theorem dX3_worked_95 : decode cX3_worked 95 = .ok (.ireturn, 1) := dz_172 (bX3_worked_5 15 _ rfl)
theorem dX3_worked_96 : decode cX3_worked 96 = .ok (.iload_n 1, 1) := dz_27 (bX3_worked_6 0 _ rfl)
theorem dX3_worked_97 : decode cX3_worked 97 = .ok (.iload_n 2, 1) := dz_28 (bX3_worked_6 1 _ rfl)
theorem dX3_worked_98 : decode cX3_worked 98 = .ok (.if_icmp .ge 7, 3) := dz_162 (bX3_worked_6 2 _ rfl) (bX3_worked_6 3 _ rfl) (bX3_worked_6 4 _ rfl)
theorem dX3_worked_101 : decode cX3_worked 101 = .ok (.iconst 1, 1) := dz_4 (bX3_worked_6 5 _ rfl)
theorem dX3_worked_102 : decode cX3_worked 102 = .ok (.goto 4, 3) := dz_167 (bX3_worked_6 6 _ rfl) (bX3_worked_6 7 _ rfl) (bX3_worked_6 8 _ rfl)
theorem dX3_worked_105 : decode cX3_worked 105 = .ok (.iconst 0, 1) := dz_3 (bX3_worked_6 9 _ rfl)
theorem dX3_worked_106 : decode cX3_worked 106 = .ok (.ireturn, 1) := dz_172 (bX3_worked_6 10 _ rfl)
theorem dX3_worked_107 : decode cX3_worked 107 = .ok (.iload_n 1, 1) := dz_27 (bX3_worked_6 11 _ rfl)
theorem dX3_worked_108 : decode cX3_worked 108 = .ok (.iload_n 2, 1) := dz_28 (bX3_worked_6 12 _ rfl)
theorem dX3_worked_109 : decode cX3_worked 109 = .ok (.if_icmp .gt 7, 3) := dz_163 (bX3_worked_6 13 _ rfl) (bX3_worked_6 14 _ rfl) (bX3_worked_6 15 _ rfl)
theorem dX3_worked_112 : decode cX3_worked 112 = .ok (.iconst 1, 1) := dz_4 (bX3_worked_7 0 _ rfl)
theorem dX3_worked_113 : decode cX3_worked 113 = .ok (.goto 4, 3) := dz_167 (bX3_worked_7 1 _ rfl) (bX3_worked_7 2 _ rfl) (bX3_worked_7 3 _ rfl)
theorem dX3_worked_116 : decode cX3_worked 116 = .ok (.iconst 0, 1) := dz_3 (bX3_worked_7 4 _ rfl)
theorem dX3_worked_117 : decode cX3_worked 117 = .ok (.ireturn, 1) := dz_172 (bX3_worked_7 5 _ rfl)
theorem dX3_worked_118 : decode cX3_worked 118 = .ok (.iload_n 1, 1) := dz_27 (bX3_worked_7 6 _ rfl)
theorem dX3_worked_119 : decode cX3_worked 119 = .ok (.iload_n 2, 1) := dz_28 (bX3_worked_7 7 _ rfl)
theorem dX3_worked_120 : decode cX3_worked 120 = .ok (.if_icmp .ne 7, 3) := dz_160 (bX3_worked_7 8 _ rfl) (bX3_worked_7 9 _ rfl) (bX3_worked_7 10 _ rfl)
theorem dX3_worked_123 : decode cX3_worked 123 = .ok (.iconst 1, 1) := dz_4 (bX3_worked_7 11 _ rfl)
theorem dX3_worked_124 : decode cX3_worked 124 = .ok (.goto 4, 3) := dz_167 (bX3_worked_7 12 _ rfl) (bX3_worked_7 13 _ rfl) (bX3_worked_7 14 _ rfl)
theorem dX3_worked_127 : decode cX3_worked 127 = .ok (.iconst 0, 1) := dz_3 (bX3_worked_7 15 _ rfl)
theorem dX3_worked_128 : decode cX3_worked 128 = .ok (.ireturn, 1) := dz_172 (bX3_worked_8 0 _ rfl)
theorem dX3_worked_129 : decode cX3_worked 129 = .ok (.iload_n 1, 1) := dz_27 (bX3_worked_8 1 _ rfl)
theorem dX3_worked_130 : decode cX3_worked 130 = .ok (.iload_n 2, 1) := dz_28 (bX3_worked_8 2 _ rfl)
theorem dX3_worked_131 : decode cX3_worked 131 = .ok (.if_icmp .eq 7, 3) := dz_159 (bX3_worked_8 3 _ rfl) (bX3_worked_8 4 _ rfl) (bX3_worked_8 5 _ rfl)
theorem dX3_worked_134 : decode cX3_worked 134 = .ok (.iconst 1, 1) := dz_4 (bX3_worked_8 6 _ rfl)
theorem dX3_worked_135 : decode cX3_worked 135 = .ok (.goto 4, 3) := dz_167 (bX3_worked_8 7 _ rfl) (bX3_worked_8 8 _ rfl) (bX3_worked_8 9 _ rfl)
theorem dX3_worked_138 : decode cX3_worked 138 = .ok (.iconst 0, 1) := dz_3 (bX3_worked_8 10 _ rfl)
theorem dX3_worked_139 : decode cX3_worked 139 = .ok (.ireturn, 1) := dz_172 (bX3_worked_8 11 _ rfl)
def m_X3_worked (x0 : Int32) (x1 : Int32) (x2 : Int32) (σ : ch_S) : Option (Int32) := if x0 = 37 then ((ch_nz x2).bind fun _ => some (x1 - x1 / x2 * x2)) else (if x0 = 42 then (some (x1 * x2)) else (if x0 = 43 then (some (x1 + x2)) else (if x0 = 45 then (some (x1 - x2)) else (if x0 = 47 then ((ch_nz x2).bind fun _ => some (x1 / x2)) else (if x0 = 60 then (if x1 < x2 then (some (1)) else (some (0))) else (if x0 = 316 then (if x2 < x1 then (some (0)) else (some (1))) else (if x0 = 317 then (if x1 = x2 then (some (1)) else (some (0))) else (if x1 = x2 then (some (0)) else (some (1))))))))))
theorem s_X3_worked {g : State} {m : Nat} {w : ch_W} {x0 : Int32} {x1 : Int32} {x2 : Int32} {σ : ch_S} {res : Int32} {Q : Outcome → ch_W → Prop} (h : m_X3_worked x0 x1 x2 σ = some res) (hk : (fun r => ch_eI Q (r, ch_put m w σ)) res) : ch_CT g false yX3_worked 2 [.int x0, .int x1, .int x2] (ch_put m w σ) Q := by
  unfold m_X3_worked at h
  refine ch_ctL mX3_worked (ls := [some (.int x0), some (.int x1), some (.int x2)]) q2297 rfl (ch_lyi (ch_lyi (ch_lyi ch_ly0))) (Nat.le_of_ble_eq_true rfl) rfl ?_
  refine ch_iload_n 0 _ dX3_worked_0 rfl (?_)
  by_cases e0 : x0 = 37
  · have h := ch_ifT e0 h
    refine ch_lookup _ (off := 91) (tgt := 92) dX3_worked_1 (by decide) (by rw [e0]; decide) rfl ?_
    refine ch_iload_n 1 _ dX3_worked_92 rfl (ch_iload_n 2 _ dX3_worked_93 rfl (cp_rem dX3_worked_94 h (fun h => ?_)))
    obtain rfl := Option.some.inj h
    exact ch_ireturn _ dX3_worked_95 rfl rfl hk
  replace h := ch_ifF e0 h
  by_cases e1 : x0 = 42
  · have h := ch_ifT e1 h
    refine ch_lookup _ (off := 83) (tgt := 84) dX3_worked_1 (by decide) (by rw [e1]; decide) rfl ?_
    obtain rfl := Option.some.inj h
    exact ch_iload_n 1 _ dX3_worked_84 rfl (ch_iload_n 2 _ dX3_worked_85 rfl (ch_imul _ _ dX3_worked_86 (ch_ireturn _ dX3_worked_87 rfl rfl hk)))
  replace h := ch_ifF e1 h
  by_cases e2 : x0 = 43
  · have h := ch_ifT e2 h
    refine ch_lookup _ (off := 75) (tgt := 76) dX3_worked_1 (by decide) (by rw [e2]; decide) rfl ?_
    obtain rfl := Option.some.inj h
    exact ch_iload_n 1 _ dX3_worked_76 rfl (ch_iload_n 2 _ dX3_worked_77 rfl (ch_iadd _ _ dX3_worked_78 (ch_ireturn _ dX3_worked_79 rfl rfl hk)))
  replace h := ch_ifF e2 h
  by_cases e3 : x0 = 45
  · have h := ch_ifT e3 h
    refine ch_lookup _ (off := 79) (tgt := 80) dX3_worked_1 (by decide) (by rw [e3]; decide) rfl ?_
    obtain rfl := Option.some.inj h
    exact ch_iload_n 1 _ dX3_worked_80 rfl (ch_iload_n 2 _ dX3_worked_81 rfl (ch_isub _ _ dX3_worked_82 (ch_ireturn _ dX3_worked_83 rfl rfl hk)))
  replace h := ch_ifF e3 h
  by_cases e4 : x0 = 47
  · have h := ch_ifT e4 h
    refine ch_lookup _ (off := 87) (tgt := 88) dX3_worked_1 (by decide) (by rw [e4]; decide) rfl ?_
    refine ch_iload_n 1 _ dX3_worked_88 rfl (ch_iload_n 2 _ dX3_worked_89 rfl (cp_div dX3_worked_90 h (fun h => ?_)))
    obtain rfl := Option.some.inj h
    exact ch_ireturn _ dX3_worked_91 rfl rfl hk
  replace h := ch_ifF e4 h
  by_cases e5 : x0 = 60
  · have h := ch_ifT e5 h
    refine ch_lookup _ (off := 95) (tgt := 96) dX3_worked_1 (by decide) (by rw [e5]; decide) rfl ?_
    refine ch_iload_n 1 _ dX3_worked_96 rfl (ch_iload_n 2 _ dX3_worked_97 rfl (cp_icmp_ge _ _ (tgt := 105) dX3_worked_98 rfl h (fun h => ?_) (fun h => ?_)))
    · obtain rfl := Option.some.inj h
      exact ch_iconst _ 0 dX3_worked_105 rfl (ch_ireturn _ dX3_worked_106 rfl rfl hk)
    · obtain rfl := Option.some.inj h
      exact ch_iconst _ 1 dX3_worked_101 rfl (ch_goto 106 dX3_worked_102 rfl (ch_ireturn _ dX3_worked_106 rfl rfl hk))
  replace h := ch_ifF e5 h
  by_cases e6 : x0 = 316
  · have h := ch_ifT e6 h
    refine ch_lookup _ (off := 106) (tgt := 107) dX3_worked_1 (by decide) (by rw [e6]; decide) rfl ?_
    refine ch_iload_n 1 _ dX3_worked_107 rfl (ch_iload_n 2 _ dX3_worked_108 rfl (cp_icmp_gt _ _ (tgt := 116) dX3_worked_109 rfl h (fun h => ?_) (fun h => ?_)))
    · obtain rfl := Option.some.inj h
      exact ch_iconst _ 0 dX3_worked_116 rfl (ch_ireturn _ dX3_worked_117 rfl rfl hk)
    · obtain rfl := Option.some.inj h
      exact ch_iconst _ 1 dX3_worked_112 rfl (ch_goto 117 dX3_worked_113 rfl (ch_ireturn _ dX3_worked_117 rfl rfl hk))
  replace h := ch_ifF e6 h
  by_cases e7 : x0 = 317
  · have h := ch_ifT e7 h
    refine ch_lookup _ (off := 117) (tgt := 118) dX3_worked_1 (by decide) (by rw [e7]; decide) rfl ?_
    refine ch_iload_n 1 _ dX3_worked_118 rfl (ch_iload_n 2 _ dX3_worked_119 rfl (cp_icmp_ne _ _ (tgt := 127) dX3_worked_120 rfl h (fun h => ?_) (fun h => ?_)))
    · obtain rfl := Option.some.inj h
      exact ch_iconst _ 0 dX3_worked_127 rfl (ch_ireturn _ dX3_worked_128 rfl rfl hk)
    · obtain rfl := Option.some.inj h
      exact ch_iconst _ 1 dX3_worked_123 rfl (ch_goto 128 dX3_worked_124 rfl (ch_ireturn _ dX3_worked_128 rfl rfl hk))
  replace h := ch_ifF e7 h
  refine ch_lookup _ (off := 128) (tgt := 129) dX3_worked_1 (by decide) (by rw [lv_osw e0 (by decide)]; rw [lv_osw e1 (by decide)]; rw [lv_osw e2 (by decide)]; rw [lv_osw e3 (by decide)]; rw [lv_osw e4 (by decide)]; rw [lv_osw e5 (by decide)]; rw [lv_osw e6 (by decide)]; rw [lv_osw e7 (by decide)]; rfl) rfl ?_
  refine ch_iload_n 1 _ dX3_worked_129 rfl (ch_iload_n 2 _ dX3_worked_130 rfl (cp_icmp_eq _ _ (tgt := 138) dX3_worked_131 rfl h (fun h => ?_) (fun h => ?_)))
  · obtain rfl := Option.some.inj h
    exact ch_iconst _ 0 dX3_worked_138 rfl (ch_ireturn _ dX3_worked_139 rfl rfl hk)
  · obtain rfl := Option.some.inj h
    exact ch_iconst _ 1 dX3_worked_134 rfl (ch_goto 139 dX3_worked_135 rfl (ch_ireturn _ dX3_worked_139 rfl rfl hk))

theorem bX3_work_0 : ch_ck cX3_work 0 [42, 180, 2, 48, 4, 100, 61, 42, 180, 0, 25, 27, 46, 170, 0, 0] := ch_ckof (by decide +kernel)
theorem bX3_work_1 : ch_ck cX3_work 16 [0, 0, 1, 165, 0, 0, 0, 6, 0, 0, 0, 18, 0, 0, 0, 67] := ch_ckof (by decide +kernel)
theorem bX3_work_2 : ch_ck cX3_work 32 [0, 0, 0, 155, 0, 0, 0, 215, 0, 0, 0, 215, 0, 0, 0, 223] := ch_ckof (by decide +kernel)
theorem bX3_work_3 : ch_ck cX3_work 48 [0, 0, 0, 223, 0, 0, 1, 67, 0, 0, 1, 132, 0, 0, 1, 148] := ch_ckof (by decide +kernel)
theorem bX3_work_4 : ch_ck cX3_work 64 [0, 0, 1, 165, 0, 0, 1, 165, 0, 0, 1, 165, 0, 0, 0, 67] := ch_ckof (by decide +kernel)
theorem bX3_work_5 : ch_ck cX3_work 80 [42, 180, 0, 198, 28, 46, 62, 29, 156, 0, 9, 42, 3, 182, 2, 126] := ch_ckof (by decide +kernel)
theorem bX3_work_6 : ch_ck cX3_work 96 [177, 42, 180, 0, 157, 29, 46, 42, 180, 0, 34, 27, 46, 96, 54, 4] := ch_ckof (by decide +kernel)
theorem bX3_work_7 : ch_ck cX3_work 112 [42, 89, 180, 2, 48, 4, 100, 181, 2, 48, 42, 180, 0, 25, 27, 46] := ch_ckof (by decide +kernel)
theorem bX3_work_8 : ch_ck cX3_work 128 [16, 18, 160, 0, 17, 42, 42, 180, 0, 160, 29, 46, 3, 182, 2, 111] := ch_ckof (by decide +kernel)
theorem bX3_work_9 : ch_ck cX3_work 144 [167, 1, 110, 42, 42, 180, 0, 172, 21, 4, 46, 42, 180, 0, 175, 21] := ch_ckof (by decide +kernel)
theorem bX3_work_10 : ch_ck cX3_work 160 [4, 51, 182, 2, 111, 167, 1, 89, 42, 180, 0, 198, 28, 4, 100, 46] := ch_ckof (by decide +kernel)
theorem bX3_work_11 : ch_ck cX3_work 176 [62, 42, 180, 0, 198, 28, 46, 54, 4, 42, 29, 21, 4, 182, 2, 129] := ch_ckof (by decide +kernel)
theorem bX3_work_12 : ch_ck cX3_work 192 [154, 0, 4, 177, 42, 89, 180, 2, 48, 5, 100, 181, 2, 48, 42, 42] := ch_ckof (by decide +kernel)
theorem bX3_work_13 : ch_ck cX3_work 208 [180, 0, 172, 42, 180, 0, 157, 29, 46, 21, 4, 96, 46, 3, 182, 2] := ch_ckof (by decide +kernel)
theorem bX3_work_14 : ch_ck cX3_work 224 [111, 167, 1, 29, 42, 27, 182, 2, 132, 167, 1, 21, 42, 180, 0, 198] := ch_ckof (by decide +kernel)
theorem bX3_work_15 : ch_ck cX3_work 240 [28, 46, 62, 29, 155, 0, 35, 42, 180, 0, 154, 29, 46, 155, 0, 26] := ch_ckof (by decide +kernel)
theorem bX3_work_16 : ch_ck cX3_work 256 [42, 42, 180, 0, 154, 29, 46, 42, 180, 0, 34, 27, 46, 182, 1, 159] := ch_ckof (by decide +kernel)
theorem bX3_work_17 : ch_ck cX3_work 272 [153, 0, 7, 4, 167, 0, 4, 3, 54, 4, 42, 180, 0, 25, 27, 46] := ch_ckof (by decide +kernel)
theorem bX3_work_18 : ch_ck cX3_work 288 [16, 10, 160, 0, 18, 29, 155, 0, 13, 21, 4, 154, 0, 8, 42, 6] := ch_ckof (by decide +kernel)
theorem bX3_work_19 : ch_ck cX3_work 304 [182, 2, 126, 177, 42, 89, 180, 2, 48, 4, 100, 181, 2, 48, 42, 21] := ch_ckof (by decide +kernel)
theorem bX3_work_20 : ch_ck cX3_work 320 [4, 153, 0, 7, 4, 167, 0, 4, 3, 3, 182, 2, 111, 167, 0, 177] := ch_ckof (by decide +kernel)
theorem bX3_work_21 : ch_ck cX3_work 336 [42, 180, 0, 198, 28, 46, 62, 29, 156, 0, 9, 42, 7, 182, 2, 126] := ch_ckof (by decide +kernel)
theorem bX3_work_22 : ch_ck cX3_work 352 [177, 29, 42, 180, 2, 57, 163, 0, 13, 42, 5, 29, 96, 182, 2, 117] := ch_ckof (by decide +kernel)
theorem bX3_work_23 : ch_ck cX3_work 368 [154, 0, 9, 42, 6, 182, 2, 93, 177, 42, 89, 180, 2, 48, 4, 100] := ch_ckof (by decide +kernel)
theorem bX3_work_24 : ch_ck cX3_work 384 [181, 2, 48, 42, 42, 2, 29, 182, 2, 120, 4, 182, 2, 111, 167, 0] := ch_ckof (by decide +kernel)
theorem bX3_work_25 : ch_ck cX3_work 400 [112, 42, 180, 0, 198, 28, 42, 180, 0, 198, 28, 46, 116, 79, 167, 0] := ch_ckof (by decide +kernel)
theorem bX3_work_26 : ch_ck cX3_work 416 [96, 42, 180, 0, 198, 28, 4, 42, 180, 0, 198, 28, 46, 100, 79, 167] := ch_ckof (by decide +kernel)
theorem bX3_work_27 : ch_ck cX3_work 432 [0, 79, 42, 180, 0, 198, 28, 46, 62, 42, 180, 0, 198, 28, 4, 100] := ch_ckof (by decide +kernel)
theorem bX3_work_28 : ch_ck cX3_work 448 [46, 54, 4, 29, 154, 0, 31, 42, 180, 0, 34, 27, 46, 16, 47, 159] := ch_ckof (by decide +kernel)
theorem bX3_work_29 : ch_ck cX3_work 464 [0, 14, 42, 180, 0, 34, 27, 46, 16, 37, 160, 0, 9, 42, 5, 182] := ch_ckof (by decide +kernel)
theorem bX3_work_30 : ch_ck cX3_work 480 [2, 126, 177, 42, 89, 180, 2, 48, 5, 100, 181, 2, 48, 42, 42, 180] := ch_ckof (by decide +kernel)
theorem bX3_work_31 : ch_ck cX3_work 496 [0, 34, 27, 46, 21, 4, 29, 184, 2, 135, 3, 182, 2, 111, 177] := ch_ckof (by decide +kernel)
theorem dX3_work_0 : decode cX3_work 0 = .ok (.aload_n 0, 1) := dz_42 (bX3_work_0 0 _ rfl)
theorem dX3_work_1 : decode cX3_work 1 = .ok (.getfield 560, 3) := dz_180 (bX3_work_0 1 _ rfl) (bX3_work_0 2 _ rfl) (bX3_work_0 3 _ rfl)
theorem dX3_work_4 : decode cX3_work 4 = .ok (.iconst 1, 1) := dz_4 (bX3_work_0 4 _ rfl)
theorem dX3_work_5 : decode cX3_work 5 = .ok (.isub, 1) := dz_100 (bX3_work_0 5 _ rfl)
theorem dX3_work_6 : decode cX3_work 6 = .ok (.istore_n 2, 1) := dz_61 (bX3_work_0 6 _ rfl)
theorem dX3_work_7 : decode cX3_work 7 = .ok (.aload_n 0, 1) := dz_42 (bX3_work_0 7 _ rfl)
theorem dX3_work_8 : decode cX3_work 8 = .ok (.getfield 25, 3) := dz_180 (bX3_work_0 8 _ rfl) (bX3_work_0 9 _ rfl) (bX3_work_0 10 _ rfl)
theorem dX3_work_11 : decode cX3_work 11 = .ok (.iload_n 1, 1) := dz_27 (bX3_work_0 11 _ rfl)
theorem dX3_work_12 : decode cX3_work 12 = .ok (.iaload, 1) := dz_46 (bX3_work_0 12 _ rfl)
theorem dX3_work_13 : decode cX3_work 13 = .ok (.tableswitch 421 6 18 #[67, 155, 215, 215, 223, 223, 323, 388, 404, 421, 421, 421, 67], 67) := by decide +kernel
theorem dX3_work_80 : decode cX3_work 80 = .ok (.aload_n 0, 1) := dz_42 (bX3_work_5 0 _ rfl)
theorem dX3_work_81 : decode cX3_work 81 = .ok (.getfield 198, 3) := dz_180 (bX3_work_5 1 _ rfl) (bX3_work_5 2 _ rfl) (bX3_work_5 3 _ rfl)
theorem dX3_work_84 : decode cX3_work 84 = .ok (.iload_n 2, 1) := dz_28 (bX3_work_5 4 _ rfl)
theorem dX3_work_85 : decode cX3_work 85 = .ok (.iaload, 1) := dz_46 (bX3_work_5 5 _ rfl)
theorem dX3_work_86 : decode cX3_work 86 = .ok (.istore_n 3, 1) := dz_62 (bX3_work_5 6 _ rfl)
theorem dX3_work_87 : decode cX3_work 87 = .ok (.iload_n 3, 1) := dz_29 (bX3_work_5 7 _ rfl)
theorem dX3_work_88 : decode cX3_work 88 = .ok (.ifCond .ge 9, 3) := dz_156 (bX3_work_5 8 _ rfl) (bX3_work_5 9 _ rfl) (bX3_work_5 10 _ rfl)
theorem dX3_work_91 : decode cX3_work 91 = .ok (.aload_n 0, 1) := dz_42 (bX3_work_5 11 _ rfl)
theorem dX3_work_92 : decode cX3_work 92 = .ok (.iconst 0, 1) := dz_3 (bX3_work_5 12 _ rfl)
theorem dX3_work_93 : decode cX3_work 93 = .ok (.invokevirtual 638, 3) := dz_182 (bX3_work_5 13 _ rfl) (bX3_work_5 14 _ rfl) (bX3_work_5 15 _ rfl)
theorem dX3_work_96 : decode cX3_work 96 = .ok (.return_, 1) := dz_177 (bX3_work_6 0 _ rfl)
theorem dX3_work_97 : decode cX3_work 97 = .ok (.aload_n 0, 1) := dz_42 (bX3_work_6 1 _ rfl)
theorem dX3_work_98 : decode cX3_work 98 = .ok (.getfield 157, 3) := dz_180 (bX3_work_6 2 _ rfl) (bX3_work_6 3 _ rfl) (bX3_work_6 4 _ rfl)
theorem dX3_work_101 : decode cX3_work 101 = .ok (.iload_n 3, 1) := dz_29 (bX3_work_6 5 _ rfl)
theorem dX3_work_102 : decode cX3_work 102 = .ok (.iaload, 1) := dz_46 (bX3_work_6 6 _ rfl)
theorem dX3_work_103 : decode cX3_work 103 = .ok (.aload_n 0, 1) := dz_42 (bX3_work_6 7 _ rfl)
theorem dX3_work_104 : decode cX3_work 104 = .ok (.getfield 34, 3) := dz_180 (bX3_work_6 8 _ rfl) (bX3_work_6 9 _ rfl) (bX3_work_6 10 _ rfl)
theorem dX3_work_107 : decode cX3_work 107 = .ok (.iload_n 1, 1) := dz_27 (bX3_work_6 11 _ rfl)
theorem dX3_work_108 : decode cX3_work 108 = .ok (.iaload, 1) := dz_46 (bX3_work_6 12 _ rfl)
theorem dX3_work_109 : decode cX3_work 109 = .ok (.iadd, 1) := dz_96 (bX3_work_6 13 _ rfl)
theorem dX3_work_110 : decode cX3_work 110 = .ok (.istore 4, 2) := dz_54 (bX3_work_6 14 _ rfl) (bX3_work_6 15 _ rfl)
theorem dX3_work_112 : decode cX3_work 112 = .ok (.aload_n 0, 1) := dz_42 (bX3_work_7 0 _ rfl)
theorem dX3_work_113 : decode cX3_work 113 = .ok (.dup, 1) := dz_89 (bX3_work_7 1 _ rfl)
theorem dX3_work_114 : decode cX3_work 114 = .ok (.getfield 560, 3) := dz_180 (bX3_work_7 2 _ rfl) (bX3_work_7 3 _ rfl) (bX3_work_7 4 _ rfl)
theorem dX3_work_117 : decode cX3_work 117 = .ok (.iconst 1, 1) := dz_4 (bX3_work_7 5 _ rfl)
theorem dX3_work_118 : decode cX3_work 118 = .ok (.isub, 1) := dz_100 (bX3_work_7 6 _ rfl)
theorem dX3_work_119 : decode cX3_work 119 = .ok (.putfield 560, 3) := dz_181 (bX3_work_7 7 _ rfl) (bX3_work_7 8 _ rfl) (bX3_work_7 9 _ rfl)
theorem dX3_work_122 : decode cX3_work 122 = .ok (.aload_n 0, 1) := dz_42 (bX3_work_7 10 _ rfl)
theorem dX3_work_123 : decode cX3_work 123 = .ok (.getfield 25, 3) := dz_180 (bX3_work_7 11 _ rfl) (bX3_work_7 12 _ rfl) (bX3_work_7 13 _ rfl)
theorem dX3_work_126 : decode cX3_work 126 = .ok (.iload_n 1, 1) := dz_27 (bX3_work_7 14 _ rfl)
theorem dX3_work_127 : decode cX3_work 127 = .ok (.iaload, 1) := dz_46 (bX3_work_7 15 _ rfl)
theorem dX3_work_128 : decode cX3_work 128 = .ok (.bipush 18, 2) := dz_16 (bX3_work_8 0 _ rfl) (bX3_work_8 1 _ rfl)
theorem dX3_work_130 : decode cX3_work 130 = .ok (.if_icmp .ne 17, 3) := dz_160 (bX3_work_8 2 _ rfl) (bX3_work_8 3 _ rfl) (bX3_work_8 4 _ rfl)
theorem dX3_work_133 : decode cX3_work 133 = .ok (.aload_n 0, 1) := dz_42 (bX3_work_8 5 _ rfl)
theorem dX3_work_134 : decode cX3_work 134 = .ok (.aload_n 0, 1) := dz_42 (bX3_work_8 6 _ rfl)
theorem dX3_work_135 : decode cX3_work 135 = .ok (.getfield 160, 3) := dz_180 (bX3_work_8 7 _ rfl) (bX3_work_8 8 _ rfl) (bX3_work_8 9 _ rfl)
theorem dX3_work_138 : decode cX3_work 138 = .ok (.iload_n 3, 1) := dz_29 (bX3_work_8 10 _ rfl)
theorem dX3_work_139 : decode cX3_work 139 = .ok (.iaload, 1) := dz_46 (bX3_work_8 11 _ rfl)
theorem dX3_work_140 : decode cX3_work 140 = .ok (.iconst 0, 1) := dz_3 (bX3_work_8 12 _ rfl)
theorem dX3_work_141 : decode cX3_work 141 = .ok (.invokevirtual 623, 3) := dz_182 (bX3_work_8 13 _ rfl) (bX3_work_8 14 _ rfl) (bX3_work_8 15 _ rfl)
theorem dX3_work_144 : decode cX3_work 144 = .ok (.goto 366, 3) := dz_167 (bX3_work_9 0 _ rfl) (bX3_work_9 1 _ rfl) (bX3_work_9 2 _ rfl)
theorem dX3_work_147 : decode cX3_work 147 = .ok (.aload_n 0, 1) := dz_42 (bX3_work_9 3 _ rfl)
theorem dX3_work_148 : decode cX3_work 148 = .ok (.aload_n 0, 1) := dz_42 (bX3_work_9 4 _ rfl)
theorem dX3_work_149 : decode cX3_work 149 = .ok (.getfield 172, 3) := dz_180 (bX3_work_9 5 _ rfl) (bX3_work_9 6 _ rfl) (bX3_work_9 7 _ rfl)
theorem dX3_work_152 : decode cX3_work 152 = .ok (.iload 4, 2) := dz_21 (bX3_work_9 8 _ rfl) (bX3_work_9 9 _ rfl)
theorem dX3_work_154 : decode cX3_work 154 = .ok (.iaload, 1) := dz_46 (bX3_work_9 10 _ rfl)
theorem dX3_work_155 : decode cX3_work 155 = .ok (.aload_n 0, 1) := dz_42 (bX3_work_9 11 _ rfl)
theorem dX3_work_156 : decode cX3_work 156 = .ok (.getfield 175, 3) := dz_180 (bX3_work_9 12 _ rfl) (bX3_work_9 13 _ rfl) (bX3_work_9 14 _ rfl)
theorem dX3_work_159 : decode cX3_work 159 = .ok (.iload 4, 2) := dz_21 (bX3_work_9 15 _ rfl) (bX3_work_10 0 _ rfl)
theorem dX3_work_161 : decode cX3_work 161 = .ok (.baload, 1) := dz_51 (bX3_work_10 1 _ rfl)
theorem dX3_work_162 : decode cX3_work 162 = .ok (.invokevirtual 623, 3) := dz_182 (bX3_work_10 2 _ rfl) (bX3_work_10 3 _ rfl) (bX3_work_10 4 _ rfl)
theorem dX3_work_165 : decode cX3_work 165 = .ok (.goto 345, 3) := dz_167 (bX3_work_10 5 _ rfl) (bX3_work_10 6 _ rfl) (bX3_work_10 7 _ rfl)
theorem dX3_work_168 : decode cX3_work 168 = .ok (.aload_n 0, 1) := dz_42 (bX3_work_10 8 _ rfl)
theorem dX3_work_169 : decode cX3_work 169 = .ok (.getfield 198, 3) := dz_180 (bX3_work_10 9 _ rfl) (bX3_work_10 10 _ rfl) (bX3_work_10 11 _ rfl)
theorem dX3_work_172 : decode cX3_work 172 = .ok (.iload_n 2, 1) := dz_28 (bX3_work_10 12 _ rfl)
theorem dX3_work_173 : decode cX3_work 173 = .ok (.iconst 1, 1) := dz_4 (bX3_work_10 13 _ rfl)
theorem dX3_work_174 : decode cX3_work 174 = .ok (.isub, 1) := dz_100 (bX3_work_10 14 _ rfl)
theorem dX3_work_175 : decode cX3_work 175 = .ok (.iaload, 1) := dz_46 (bX3_work_10 15 _ rfl)
theorem dX3_work_176 : decode cX3_work 176 = .ok (.istore_n 3, 1) := dz_62 (bX3_work_11 0 _ rfl)
theorem dX3_work_177 : decode cX3_work 177 = .ok (.aload_n 0, 1) := dz_42 (bX3_work_11 1 _ rfl)
theorem dX3_work_178 : decode cX3_work 178 = .ok (.getfield 198, 3) := dz_180 (bX3_work_11 2 _ rfl) (bX3_work_11 3 _ rfl) (bX3_work_11 4 _ rfl)
theorem dX3_work_181 : decode cX3_work 181 = .ok (.iload_n 2, 1) := dz_28 (bX3_work_11 5 _ rfl)
theorem dX3_work_182 : decode cX3_work 182 = .ok (.iaload, 1) := dz_46 (bX3_work_11 6 _ rfl)
theorem dX3_work_183 : decode cX3_work 183 = .ok (.istore 4, 2) := dz_54 (bX3_work_11 7 _ rfl) (bX3_work_11 8 _ rfl)
theorem dX3_work_185 : decode cX3_work 185 = .ok (.aload_n 0, 1) := dz_42 (bX3_work_11 9 _ rfl)
theorem dX3_work_186 : decode cX3_work 186 = .ok (.iload_n 3, 1) := dz_29 (bX3_work_11 10 _ rfl)
theorem dX3_work_187 : decode cX3_work 187 = .ok (.iload 4, 2) := dz_21 (bX3_work_11 11 _ rfl) (bX3_work_11 12 _ rfl)
theorem dX3_work_189 : decode cX3_work 189 = .ok (.invokevirtual 641, 3) := dz_182 (bX3_work_11 13 _ rfl) (bX3_work_11 14 _ rfl) (bX3_work_11 15 _ rfl)
theorem dX3_work_192 : decode cX3_work 192 = .ok (.ifCond .ne 4, 3) := dz_154 (bX3_work_12 0 _ rfl) (bX3_work_12 1 _ rfl) (bX3_work_12 2 _ rfl)
theorem dX3_work_195 : decode cX3_work 195 = .ok (.return_, 1) := dz_177 (bX3_work_12 3 _ rfl)
theorem dX3_work_196 : decode cX3_work 196 = .ok (.aload_n 0, 1) := dz_42 (bX3_work_12 4 _ rfl)
theorem dX3_work_197 : decode cX3_work 197 = .ok (.dup, 1) := dz_89 (bX3_work_12 5 _ rfl)
theorem dX3_work_198 : decode cX3_work 198 = .ok (.getfield 560, 3) := dz_180 (bX3_work_12 6 _ rfl) (bX3_work_12 7 _ rfl) (bX3_work_12 8 _ rfl)
theorem dX3_work_201 : decode cX3_work 201 = .ok (.iconst 2, 1) := dz_5 (bX3_work_12 9 _ rfl)
theorem dX3_work_202 : decode cX3_work 202 = .ok (.isub, 1) := dz_100 (bX3_work_12 10 _ rfl)
theorem dX3_work_203 : decode cX3_work 203 = .ok (.putfield 560, 3) := dz_181 (bX3_work_12 11 _ rfl) (bX3_work_12 12 _ rfl) (bX3_work_12 13 _ rfl)
theorem dX3_work_206 : decode cX3_work 206 = .ok (.aload_n 0, 1) := dz_42 (bX3_work_12 14 _ rfl)
theorem dX3_work_207 : decode cX3_work 207 = .ok (.aload_n 0, 1) := dz_42 (bX3_work_12 15 _ rfl)
theorem dX3_work_208 : decode cX3_work 208 = .ok (.getfield 172, 3) := dz_180 (bX3_work_13 0 _ rfl) (bX3_work_13 1 _ rfl) (bX3_work_13 2 _ rfl)
theorem dX3_work_211 : decode cX3_work 211 = .ok (.aload_n 0, 1) := dz_42 (bX3_work_13 3 _ rfl)
theorem dX3_work_212 : decode cX3_work 212 = .ok (.getfield 157, 3) := dz_180 (bX3_work_13 4 _ rfl) (bX3_work_13 5 _ rfl) (bX3_work_13 6 _ rfl)
theorem dX3_work_215 : decode cX3_work 215 = .ok (.iload_n 3, 1) := dz_29 (bX3_work_13 7 _ rfl)
theorem dX3_work_216 : decode cX3_work 216 = .ok (.iaload, 1) := dz_46 (bX3_work_13 8 _ rfl)
theorem dX3_work_217 : decode cX3_work 217 = .ok (.iload 4, 2) := dz_21 (bX3_work_13 9 _ rfl) (bX3_work_13 10 _ rfl)
theorem dX3_work_219 : decode cX3_work 219 = .ok (.iadd, 1) := dz_96 (bX3_work_13 11 _ rfl)
theorem dX3_work_220 : decode cX3_work 220 = .ok (.iaload, 1) := dz_46 (bX3_work_13 12 _ rfl)
theorem dX3_work_221 : decode cX3_work 221 = .ok (.iconst 0, 1) := dz_3 (bX3_work_13 13 _ rfl)
theorem dX3_work_222 : decode cX3_work 222 = .ok (.invokevirtual 623, 3) := dz_182 (bX3_work_13 14 _ rfl) (bX3_work_13 15 _ rfl) (bX3_work_14 0 _ rfl)
theorem dX3_work_225 : decode cX3_work 225 = .ok (.goto 285, 3) := dz_167 (bX3_work_14 1 _ rfl) (bX3_work_14 2 _ rfl) (bX3_work_14 3 _ rfl)
theorem dX3_work_228 : decode cX3_work 228 = .ok (.aload_n 0, 1) := dz_42 (bX3_work_14 4 _ rfl)
theorem dX3_work_229 : decode cX3_work 229 = .ok (.iload_n 1, 1) := dz_27 (bX3_work_14 5 _ rfl)
theorem dX3_work_230 : decode cX3_work 230 = .ok (.invokevirtual 644, 3) := dz_182 (bX3_work_14 6 _ rfl) (bX3_work_14 7 _ rfl) (bX3_work_14 8 _ rfl)
theorem dX3_work_233 : decode cX3_work 233 = .ok (.goto 277, 3) := dz_167 (bX3_work_14 9 _ rfl) (bX3_work_14 10 _ rfl) (bX3_work_14 11 _ rfl)
theorem dX3_work_236 : decode cX3_work 236 = .ok (.aload_n 0, 1) := dz_42 (bX3_work_14 12 _ rfl)
theorem dX3_work_237 : decode cX3_work 237 = .ok (.getfield 198, 3) := dz_180 (bX3_work_14 13 _ rfl) (bX3_work_14 14 _ rfl) (bX3_work_14 15 _ rfl)
theorem dX3_work_240 : decode cX3_work 240 = .ok (.iload_n 2, 1) := dz_28 (bX3_work_15 0 _ rfl)
theorem dX3_work_241 : decode cX3_work 241 = .ok (.iaload, 1) := dz_46 (bX3_work_15 1 _ rfl)
theorem dX3_work_242 : decode cX3_work 242 = .ok (.istore_n 3, 1) := dz_62 (bX3_work_15 2 _ rfl)
theorem dX3_work_243 : decode cX3_work 243 = .ok (.iload_n 3, 1) := dz_29 (bX3_work_15 3 _ rfl)
theorem dX3_work_244 : decode cX3_work 244 = .ok (.ifCond .lt 35, 3) := dz_155 (bX3_work_15 4 _ rfl) (bX3_work_15 5 _ rfl) (bX3_work_15 6 _ rfl)
theorem dX3_work_247 : decode cX3_work 247 = .ok (.aload_n 0, 1) := dz_42 (bX3_work_15 7 _ rfl)
theorem dX3_work_248 : decode cX3_work 248 = .ok (.getfield 154, 3) := dz_180 (bX3_work_15 8 _ rfl) (bX3_work_15 9 _ rfl) (bX3_work_15 10 _ rfl)
theorem dX3_work_251 : decode cX3_work 251 = .ok (.iload_n 3, 1) := dz_29 (bX3_work_15 11 _ rfl)
theorem dX3_work_252 : decode cX3_work 252 = .ok (.iaload, 1) := dz_46 (bX3_work_15 12 _ rfl)
theorem dX3_work_253 : decode cX3_work 253 = .ok (.ifCond .lt 26, 3) := dz_155 (bX3_work_15 13 _ rfl) (bX3_work_15 14 _ rfl) (bX3_work_15 15 _ rfl)
theorem dX3_work_256 : decode cX3_work 256 = .ok (.aload_n 0, 1) := dz_42 (bX3_work_16 0 _ rfl)
theorem dX3_work_257 : decode cX3_work 257 = .ok (.aload_n 0, 1) := dz_42 (bX3_work_16 1 _ rfl)
theorem dX3_work_258 : decode cX3_work 258 = .ok (.getfield 154, 3) := dz_180 (bX3_work_16 2 _ rfl) (bX3_work_16 3 _ rfl) (bX3_work_16 4 _ rfl)
theorem dX3_work_261 : decode cX3_work 261 = .ok (.iload_n 3, 1) := dz_29 (bX3_work_16 5 _ rfl)
theorem dX3_work_262 : decode cX3_work 262 = .ok (.iaload, 1) := dz_46 (bX3_work_16 6 _ rfl)
theorem dX3_work_263 : decode cX3_work 263 = .ok (.aload_n 0, 1) := dz_42 (bX3_work_16 7 _ rfl)
theorem dX3_work_264 : decode cX3_work 264 = .ok (.getfield 34, 3) := dz_180 (bX3_work_16 8 _ rfl) (bX3_work_16 9 _ rfl) (bX3_work_16 10 _ rfl)
theorem dX3_work_267 : decode cX3_work 267 = .ok (.iload_n 1, 1) := dz_27 (bX3_work_16 11 _ rfl)
theorem dX3_work_268 : decode cX3_work 268 = .ok (.iaload, 1) := dz_46 (bX3_work_16 12 _ rfl)
theorem dX3_work_269 : decode cX3_work 269 = .ok (.invokevirtual 415, 3) := dz_182 (bX3_work_16 13 _ rfl) (bX3_work_16 14 _ rfl) (bX3_work_16 15 _ rfl)
theorem dX3_work_272 : decode cX3_work 272 = .ok (.ifCond .eq 7, 3) := dz_153 (bX3_work_17 0 _ rfl) (bX3_work_17 1 _ rfl) (bX3_work_17 2 _ rfl)
theorem dX3_work_275 : decode cX3_work 275 = .ok (.iconst 1, 1) := dz_4 (bX3_work_17 3 _ rfl)
theorem dX3_work_276 : decode cX3_work 276 = .ok (.goto 4, 3) := dz_167 (bX3_work_17 4 _ rfl) (bX3_work_17 5 _ rfl) (bX3_work_17 6 _ rfl)
theorem dX3_work_279 : decode cX3_work 279 = .ok (.iconst 0, 1) := dz_3 (bX3_work_17 7 _ rfl)
theorem dX3_work_280 : decode cX3_work 280 = .ok (.istore 4, 2) := dz_54 (bX3_work_17 8 _ rfl) (bX3_work_17 9 _ rfl)
theorem dX3_work_282 : decode cX3_work 282 = .ok (.aload_n 0, 1) := dz_42 (bX3_work_17 10 _ rfl)
theorem dX3_work_283 : decode cX3_work 283 = .ok (.getfield 25, 3) := dz_180 (bX3_work_17 11 _ rfl) (bX3_work_17 12 _ rfl) (bX3_work_17 13 _ rfl)
theorem dX3_work_286 : decode cX3_work 286 = .ok (.iload_n 1, 1) := dz_27 (bX3_work_17 14 _ rfl)
theorem dX3_work_287 : decode cX3_work 287 = .ok (.iaload, 1) := dz_46 (bX3_work_17 15 _ rfl)
theorem dX3_work_288 : decode cX3_work 288 = .ok (.bipush 10, 2) := dz_16 (bX3_work_18 0 _ rfl) (bX3_work_18 1 _ rfl)
theorem dX3_work_290 : decode cX3_work 290 = .ok (.if_icmp .ne 18, 3) := dz_160 (bX3_work_18 2 _ rfl) (bX3_work_18 3 _ rfl) (bX3_work_18 4 _ rfl)
theorem dX3_work_293 : decode cX3_work 293 = .ok (.iload_n 3, 1) := dz_29 (bX3_work_18 5 _ rfl)
theorem dX3_work_294 : decode cX3_work 294 = .ok (.ifCond .lt 13, 3) := dz_155 (bX3_work_18 6 _ rfl) (bX3_work_18 7 _ rfl) (bX3_work_18 8 _ rfl)
theorem dX3_work_297 : decode cX3_work 297 = .ok (.iload 4, 2) := dz_21 (bX3_work_18 9 _ rfl) (bX3_work_18 10 _ rfl)
theorem dX3_work_299 : decode cX3_work 299 = .ok (.ifCond .ne 8, 3) := dz_154 (bX3_work_18 11 _ rfl) (bX3_work_18 12 _ rfl) (bX3_work_18 13 _ rfl)
theorem dX3_work_302 : decode cX3_work 302 = .ok (.aload_n 0, 1) := dz_42 (bX3_work_18 14 _ rfl)
theorem dX3_work_303 : decode cX3_work 303 = .ok (.iconst 3, 1) := dz_6 (bX3_work_18 15 _ rfl)
theorem dX3_work_304 : decode cX3_work 304 = .ok (.invokevirtual 638, 3) := dz_182 (bX3_work_19 0 _ rfl) (bX3_work_19 1 _ rfl) (bX3_work_19 2 _ rfl)
theorem dX3_work_307 : decode cX3_work 307 = .ok (.return_, 1) := dz_177 (bX3_work_19 3 _ rfl)
theorem dX3_work_308 : decode cX3_work 308 = .ok (.aload_n 0, 1) := dz_42 (bX3_work_19 4 _ rfl)
theorem dX3_work_309 : decode cX3_work 309 = .ok (.dup, 1) := dz_89 (bX3_work_19 5 _ rfl)
theorem dX3_work_310 : decode cX3_work 310 = .ok (.getfield 560, 3) := dz_180 (bX3_work_19 6 _ rfl) (bX3_work_19 7 _ rfl) (bX3_work_19 8 _ rfl)
theorem dX3_work_313 : decode cX3_work 313 = .ok (.iconst 1, 1) := dz_4 (bX3_work_19 9 _ rfl)
theorem dX3_work_314 : decode cX3_work 314 = .ok (.isub, 1) := dz_100 (bX3_work_19 10 _ rfl)
theorem dX3_work_315 : decode cX3_work 315 = .ok (.putfield 560, 3) := dz_181 (bX3_work_19 11 _ rfl) (bX3_work_19 12 _ rfl) (bX3_work_19 13 _ rfl)
theorem dX3_work_318 : decode cX3_work 318 = .ok (.aload_n 0, 1) := dz_42 (bX3_work_19 14 _ rfl)
theorem dX3_work_319 : decode cX3_work 319 = .ok (.iload 4, 2) := dz_21 (bX3_work_19 15 _ rfl) (bX3_work_20 0 _ rfl)
theorem dX3_work_321 : decode cX3_work 321 = .ok (.ifCond .eq 7, 3) := dz_153 (bX3_work_20 1 _ rfl) (bX3_work_20 2 _ rfl) (bX3_work_20 3 _ rfl)
theorem dX3_work_324 : decode cX3_work 324 = .ok (.iconst 1, 1) := dz_4 (bX3_work_20 4 _ rfl)
theorem dX3_work_325 : decode cX3_work 325 = .ok (.goto 4, 3) := dz_167 (bX3_work_20 5 _ rfl) (bX3_work_20 6 _ rfl) (bX3_work_20 7 _ rfl)
theorem dX3_work_328 : decode cX3_work 328 = .ok (.iconst 0, 1) := dz_3 (bX3_work_20 8 _ rfl)
theorem dX3_work_329 : decode cX3_work 329 = .ok (.iconst 0, 1) := dz_3 (bX3_work_20 9 _ rfl)
theorem dX3_work_330 : decode cX3_work 330 = .ok (.invokevirtual 623, 3) := dz_182 (bX3_work_20 10 _ rfl) (bX3_work_20 11 _ rfl) (bX3_work_20 12 _ rfl)
theorem dX3_work_333 : decode cX3_work 333 = .ok (.goto 177, 3) := dz_167 (bX3_work_20 13 _ rfl) (bX3_work_20 14 _ rfl) (bX3_work_20 15 _ rfl)
theorem dX3_work_336 : decode cX3_work 336 = .ok (.aload_n 0, 1) := dz_42 (bX3_work_21 0 _ rfl)
theorem dX3_work_337 : decode cX3_work 337 = .ok (.getfield 198, 3) := dz_180 (bX3_work_21 1 _ rfl) (bX3_work_21 2 _ rfl) (bX3_work_21 3 _ rfl)
theorem dX3_work_340 : decode cX3_work 340 = .ok (.iload_n 2, 1) := dz_28 (bX3_work_21 4 _ rfl)
theorem dX3_work_341 : decode cX3_work 341 = .ok (.iaload, 1) := dz_46 (bX3_work_21 5 _ rfl)
theorem dX3_work_342 : decode cX3_work 342 = .ok (.istore_n 3, 1) := dz_62 (bX3_work_21 6 _ rfl)
theorem dX3_work_343 : decode cX3_work 343 = .ok (.iload_n 3, 1) := dz_29 (bX3_work_21 7 _ rfl)
theorem dX3_work_344 : decode cX3_work 344 = .ok (.ifCond .ge 9, 3) := dz_156 (bX3_work_21 8 _ rfl) (bX3_work_21 9 _ rfl) (bX3_work_21 10 _ rfl)
theorem dX3_work_347 : decode cX3_work 347 = .ok (.aload_n 0, 1) := dz_42 (bX3_work_21 11 _ rfl)
theorem dX3_work_348 : decode cX3_work 348 = .ok (.iconst 4, 1) := dz_7 (bX3_work_21 12 _ rfl)
theorem dX3_work_349 : decode cX3_work 349 = .ok (.invokevirtual 638, 3) := dz_182 (bX3_work_21 13 _ rfl) (bX3_work_21 14 _ rfl) (bX3_work_21 15 _ rfl)
theorem dX3_work_352 : decode cX3_work 352 = .ok (.return_, 1) := dz_177 (bX3_work_22 0 _ rfl)
theorem dX3_work_353 : decode cX3_work 353 = .ok (.iload_n 3, 1) := dz_29 (bX3_work_22 1 _ rfl)
theorem dX3_work_354 : decode cX3_work 354 = .ok (.aload_n 0, 1) := dz_42 (bX3_work_22 2 _ rfl)
theorem dX3_work_355 : decode cX3_work 355 = .ok (.getfield 569, 3) := dz_180 (bX3_work_22 3 _ rfl) (bX3_work_22 4 _ rfl) (bX3_work_22 5 _ rfl)
theorem dX3_work_358 : decode cX3_work 358 = .ok (.if_icmp .gt 13, 3) := dz_163 (bX3_work_22 6 _ rfl) (bX3_work_22 7 _ rfl) (bX3_work_22 8 _ rfl)
theorem dX3_work_361 : decode cX3_work 361 = .ok (.aload_n 0, 1) := dz_42 (bX3_work_22 9 _ rfl)
theorem dX3_work_362 : decode cX3_work 362 = .ok (.iconst 2, 1) := dz_5 (bX3_work_22 10 _ rfl)
theorem dX3_work_363 : decode cX3_work 363 = .ok (.iload_n 3, 1) := dz_29 (bX3_work_22 11 _ rfl)
theorem dX3_work_364 : decode cX3_work 364 = .ok (.iadd, 1) := dz_96 (bX3_work_22 12 _ rfl)
theorem dX3_work_365 : decode cX3_work 365 = .ok (.invokevirtual 629, 3) := dz_182 (bX3_work_22 13 _ rfl) (bX3_work_22 14 _ rfl) (bX3_work_22 15 _ rfl)
theorem dX3_work_368 : decode cX3_work 368 = .ok (.ifCond .ne 9, 3) := dz_154 (bX3_work_23 0 _ rfl) (bX3_work_23 1 _ rfl) (bX3_work_23 2 _ rfl)
theorem dX3_work_371 : decode cX3_work 371 = .ok (.aload_n 0, 1) := dz_42 (bX3_work_23 3 _ rfl)
theorem dX3_work_372 : decode cX3_work 372 = .ok (.iconst 3, 1) := dz_6 (bX3_work_23 4 _ rfl)
theorem dX3_work_373 : decode cX3_work 373 = .ok (.invokevirtual 605, 3) := dz_182 (bX3_work_23 5 _ rfl) (bX3_work_23 6 _ rfl) (bX3_work_23 7 _ rfl)
theorem dX3_work_376 : decode cX3_work 376 = .ok (.return_, 1) := dz_177 (bX3_work_23 8 _ rfl)
theorem dX3_work_377 : decode cX3_work 377 = .ok (.aload_n 0, 1) := dz_42 (bX3_work_23 9 _ rfl)
theorem dX3_work_378 : decode cX3_work 378 = .ok (.dup, 1) := dz_89 (bX3_work_23 10 _ rfl)
theorem dX3_work_379 : decode cX3_work 379 = .ok (.getfield 560, 3) := dz_180 (bX3_work_23 11 _ rfl) (bX3_work_23 12 _ rfl) (bX3_work_23 13 _ rfl)
theorem dX3_work_382 : decode cX3_work 382 = .ok (.iconst 1, 1) := dz_4 (bX3_work_23 14 _ rfl)
theorem dX3_work_383 : decode cX3_work 383 = .ok (.isub, 1) := dz_100 (bX3_work_23 15 _ rfl)
theorem dX3_work_384 : decode cX3_work 384 = .ok (.putfield 560, 3) := dz_181 (bX3_work_24 0 _ rfl) (bX3_work_24 1 _ rfl) (bX3_work_24 2 _ rfl)
theorem dX3_work_387 : decode cX3_work 387 = .ok (.aload_n 0, 1) := dz_42 (bX3_work_24 3 _ rfl)
theorem dX3_work_388 : decode cX3_work 388 = .ok (.aload_n 0, 1) := dz_42 (bX3_work_24 4 _ rfl)
theorem dX3_work_389 : decode cX3_work 389 = .ok (.iconst (-1), 1) := dz_2 (bX3_work_24 5 _ rfl)
theorem dX3_work_390 : decode cX3_work 390 = .ok (.iload_n 3, 1) := dz_29 (bX3_work_24 6 _ rfl)
theorem dX3_work_391 : decode cX3_work 391 = .ok (.invokevirtual 632, 3) := dz_182 (bX3_work_24 7 _ rfl) (bX3_work_24 8 _ rfl) (bX3_work_24 9 _ rfl)
theorem dX3_work_394 : decode cX3_work 394 = .ok (.iconst 1, 1) := dz_4 (bX3_work_24 10 _ rfl)
theorem dX3_work_395 : decode cX3_work 395 = .ok (.invokevirtual 623, 3) := dz_182 (bX3_work_24 11 _ rfl) (bX3_work_24 12 _ rfl) (bX3_work_24 13 _ rfl)
theorem dX3_work_398 : decode cX3_work 398 = .ok (.goto 112, 3) := dz_167 (bX3_work_24 14 _ rfl) (bX3_work_24 15 _ rfl) (bX3_work_25 0 _ rfl)
theorem dX3_work_401 : decode cX3_work 401 = .ok (.aload_n 0, 1) := dz_42 (bX3_work_25 1 _ rfl)
theorem dX3_work_402 : decode cX3_work 402 = .ok (.getfield 198, 3) := dz_180 (bX3_work_25 2 _ rfl) (bX3_work_25 3 _ rfl) (bX3_work_25 4 _ rfl)
theorem dX3_work_405 : decode cX3_work 405 = .ok (.iload_n 2, 1) := dz_28 (bX3_work_25 5 _ rfl)
theorem dX3_work_406 : decode cX3_work 406 = .ok (.aload_n 0, 1) := dz_42 (bX3_work_25 6 _ rfl)
theorem dX3_work_407 : decode cX3_work 407 = .ok (.getfield 198, 3) := dz_180 (bX3_work_25 7 _ rfl) (bX3_work_25 8 _ rfl) (bX3_work_25 9 _ rfl)
theorem dX3_work_410 : decode cX3_work 410 = .ok (.iload_n 2, 1) := dz_28 (bX3_work_25 10 _ rfl)
theorem dX3_work_411 : decode cX3_work 411 = .ok (.iaload, 1) := dz_46 (bX3_work_25 11 _ rfl)
theorem dX3_work_412 : decode cX3_work 412 = .ok (.ineg, 1) := dz_116 (bX3_work_25 12 _ rfl)
theorem dX3_work_413 : decode cX3_work 413 = .ok (.iastore, 1) := dz_79 (bX3_work_25 13 _ rfl)
theorem dX3_work_414 : decode cX3_work 414 = .ok (.goto 96, 3) := dz_167 (bX3_work_25 14 _ rfl) (bX3_work_25 15 _ rfl) (bX3_work_26 0 _ rfl)
theorem dX3_work_417 : decode cX3_work 417 = .ok (.aload_n 0, 1) := dz_42 (bX3_work_26 1 _ rfl)
theorem dX3_work_418 : decode cX3_work 418 = .ok (.getfield 198, 3) := dz_180 (bX3_work_26 2 _ rfl) (bX3_work_26 3 _ rfl) (bX3_work_26 4 _ rfl)
theorem dX3_work_421 : decode cX3_work 421 = .ok (.iload_n 2, 1) := dz_28 (bX3_work_26 5 _ rfl)
theorem dX3_work_422 : decode cX3_work 422 = .ok (.iconst 1, 1) := dz_4 (bX3_work_26 6 _ rfl)
theorem dX3_work_423 : decode cX3_work 423 = .ok (.aload_n 0, 1) := dz_42 (bX3_work_26 7 _ rfl)
theorem dX3_work_424 : decode cX3_work 424 = .ok (.getfield 198, 3) := dz_180 (bX3_work_26 8 _ rfl) (bX3_work_26 9 _ rfl) (bX3_work_26 10 _ rfl)
theorem dX3_work_427 : decode cX3_work 427 = .ok (.iload_n 2, 1) := dz_28 (bX3_work_26 11 _ rfl)
theorem dX3_work_428 : decode cX3_work 428 = .ok (.iaload, 1) := dz_46 (bX3_work_26 12 _ rfl)
theorem dX3_work_429 : decode cX3_work 429 = .ok (.isub, 1) := dz_100 (bX3_work_26 13 _ rfl)
theorem dX3_work_430 : decode cX3_work 430 = .ok (.iastore, 1) := dz_79 (bX3_work_26 14 _ rfl)
theorem dX3_work_431 : decode cX3_work 431 = .ok (.goto 79, 3) := dz_167 (bX3_work_26 15 _ rfl) (bX3_work_27 0 _ rfl) (bX3_work_27 1 _ rfl)
theorem dX3_work_434 : decode cX3_work 434 = .ok (.aload_n 0, 1) := dz_42 (bX3_work_27 2 _ rfl)
theorem dX3_work_435 : decode cX3_work 435 = .ok (.getfield 198, 3) := dz_180 (bX3_work_27 3 _ rfl) (bX3_work_27 4 _ rfl) (bX3_work_27 5 _ rfl)
theorem dX3_work_438 : decode cX3_work 438 = .ok (.iload_n 2, 1) := dz_28 (bX3_work_27 6 _ rfl)
theorem dX3_work_439 : decode cX3_work 439 = .ok (.iaload, 1) := dz_46 (bX3_work_27 7 _ rfl)
theorem dX3_work_440 : decode cX3_work 440 = .ok (.istore_n 3, 1) := dz_62 (bX3_work_27 8 _ rfl)
theorem dX3_work_441 : decode cX3_work 441 = .ok (.aload_n 0, 1) := dz_42 (bX3_work_27 9 _ rfl)
theorem dX3_work_442 : decode cX3_work 442 = .ok (.getfield 198, 3) := dz_180 (bX3_work_27 10 _ rfl) (bX3_work_27 11 _ rfl) (bX3_work_27 12 _ rfl)
theorem dX3_work_445 : decode cX3_work 445 = .ok (.iload_n 2, 1) := dz_28 (bX3_work_27 13 _ rfl)
theorem dX3_work_446 : decode cX3_work 446 = .ok (.iconst 1, 1) := dz_4 (bX3_work_27 14 _ rfl)
theorem dX3_work_447 : decode cX3_work 447 = .ok (.isub, 1) := dz_100 (bX3_work_27 15 _ rfl)
theorem dX3_work_448 : decode cX3_work 448 = .ok (.iaload, 1) := dz_46 (bX3_work_28 0 _ rfl)
theorem dX3_work_449 : decode cX3_work 449 = .ok (.istore 4, 2) := dz_54 (bX3_work_28 1 _ rfl) (bX3_work_28 2 _ rfl)
theorem dX3_work_451 : decode cX3_work 451 = .ok (.iload_n 3, 1) := dz_29 (bX3_work_28 3 _ rfl)
theorem dX3_work_452 : decode cX3_work 452 = .ok (.ifCond .ne 31, 3) := dz_154 (bX3_work_28 4 _ rfl) (bX3_work_28 5 _ rfl) (bX3_work_28 6 _ rfl)
theorem dX3_work_455 : decode cX3_work 455 = .ok (.aload_n 0, 1) := dz_42 (bX3_work_28 7 _ rfl)
theorem dX3_work_456 : decode cX3_work 456 = .ok (.getfield 34, 3) := dz_180 (bX3_work_28 8 _ rfl) (bX3_work_28 9 _ rfl) (bX3_work_28 10 _ rfl)
theorem dX3_work_459 : decode cX3_work 459 = .ok (.iload_n 1, 1) := dz_27 (bX3_work_28 11 _ rfl)
theorem dX3_work_460 : decode cX3_work 460 = .ok (.iaload, 1) := dz_46 (bX3_work_28 12 _ rfl)
theorem dX3_work_461 : decode cX3_work 461 = .ok (.bipush 47, 2) := dz_16 (bX3_work_28 13 _ rfl) (bX3_work_28 14 _ rfl)
theorem dX3_work_463 : decode cX3_work 463 = .ok (.if_icmp .eq 14, 3) := dz_159 (bX3_work_28 15 _ rfl) (bX3_work_29 0 _ rfl) (bX3_work_29 1 _ rfl)
theorem dX3_work_466 : decode cX3_work 466 = .ok (.aload_n 0, 1) := dz_42 (bX3_work_29 2 _ rfl)
theorem dX3_work_467 : decode cX3_work 467 = .ok (.getfield 34, 3) := dz_180 (bX3_work_29 3 _ rfl) (bX3_work_29 4 _ rfl) (bX3_work_29 5 _ rfl)
theorem dX3_work_470 : decode cX3_work 470 = .ok (.iload_n 1, 1) := dz_27 (bX3_work_29 6 _ rfl)
theorem dX3_work_471 : decode cX3_work 471 = .ok (.iaload, 1) := dz_46 (bX3_work_29 7 _ rfl)
theorem dX3_work_472 : decode cX3_work 472 = .ok (.bipush 37, 2) := dz_16 (bX3_work_29 8 _ rfl) (bX3_work_29 9 _ rfl)
theorem dX3_work_474 : decode cX3_work 474 = .ok (.if_icmp .ne 9, 3) := dz_160 (bX3_work_29 10 _ rfl) (bX3_work_29 11 _ rfl) (bX3_work_29 12 _ rfl)
theorem dX3_work_477 : decode cX3_work 477 = .ok (.aload_n 0, 1) := dz_42 (bX3_work_29 13 _ rfl)
theorem dX3_work_478 : decode cX3_work 478 = .ok (.iconst 2, 1) := dz_5 (bX3_work_29 14 _ rfl)
theorem dX3_work_479 : decode cX3_work 479 = .ok (.invokevirtual 638, 3) := dz_182 (bX3_work_29 15 _ rfl) (bX3_work_30 0 _ rfl) (bX3_work_30 1 _ rfl)
theorem dX3_work_482 : decode cX3_work 482 = .ok (.return_, 1) := dz_177 (bX3_work_30 2 _ rfl)
theorem dX3_work_483 : decode cX3_work 483 = .ok (.aload_n 0, 1) := dz_42 (bX3_work_30 3 _ rfl)
theorem dX3_work_484 : decode cX3_work 484 = .ok (.dup, 1) := dz_89 (bX3_work_30 4 _ rfl)
theorem dX3_work_485 : decode cX3_work 485 = .ok (.getfield 560, 3) := dz_180 (bX3_work_30 5 _ rfl) (bX3_work_30 6 _ rfl) (bX3_work_30 7 _ rfl)
theorem dX3_work_488 : decode cX3_work 488 = .ok (.iconst 2, 1) := dz_5 (bX3_work_30 8 _ rfl)
theorem dX3_work_489 : decode cX3_work 489 = .ok (.isub, 1) := dz_100 (bX3_work_30 9 _ rfl)
theorem dX3_work_490 : decode cX3_work 490 = .ok (.putfield 560, 3) := dz_181 (bX3_work_30 10 _ rfl) (bX3_work_30 11 _ rfl) (bX3_work_30 12 _ rfl)
theorem dX3_work_493 : decode cX3_work 493 = .ok (.aload_n 0, 1) := dz_42 (bX3_work_30 13 _ rfl)
theorem dX3_work_494 : decode cX3_work 494 = .ok (.aload_n 0, 1) := dz_42 (bX3_work_30 14 _ rfl)
theorem dX3_work_495 : decode cX3_work 495 = .ok (.getfield 34, 3) := dz_180 (bX3_work_30 15 _ rfl) (bX3_work_31 0 _ rfl) (bX3_work_31 1 _ rfl)
theorem dX3_work_498 : decode cX3_work 498 = .ok (.iload_n 1, 1) := dz_27 (bX3_work_31 2 _ rfl)
theorem dX3_work_499 : decode cX3_work 499 = .ok (.iaload, 1) := dz_46 (bX3_work_31 3 _ rfl)
theorem dX3_work_500 : decode cX3_work 500 = .ok (.iload 4, 2) := dz_21 (bX3_work_31 4 _ rfl) (bX3_work_31 5 _ rfl)
theorem dX3_work_502 : decode cX3_work 502 = .ok (.iload_n 3, 1) := dz_29 (bX3_work_31 6 _ rfl)
theorem dX3_work_503 : decode cX3_work 503 = .ok (.invokestatic 647, 3) := dz_184 (bX3_work_31 7 _ rfl) (bX3_work_31 8 _ rfl) (bX3_work_31 9 _ rfl)
theorem dX3_work_506 : decode cX3_work 506 = .ok (.iconst 0, 1) := dz_3 (bX3_work_31 10 _ rfl)
theorem dX3_work_507 : decode cX3_work 507 = .ok (.invokevirtual 623, 3) := dz_182 (bX3_work_31 11 _ rfl) (bX3_work_31 12 _ rfl) (bX3_work_31 13 _ rfl)
theorem dX3_work_510 : decode cX3_work 510 = .ok (.return_, 1) := dz_177 (bX3_work_31 14 _ rfl)
def m_X3_work_483 (x1 : Int32) (x3 : Int32) (x4 : Int32)  (σ : ch_S) : Option (ch_S) := (ch_mI σ fX3_piled ((σ.1 fX3_piled) - 2)).bind fun σ1 => (ch_ma σ1 fX3_of x1).bind fun v2 => (m_X3_worked v2 x4 x3 σ1).bind fun v3 => (m_X3_push v3 0 σ1).bind fun p5 => some (p5)
theorem s_X3_work_483 {g : State} {m : Nat} {w : ch_W} {x1 : Int32} {x3 : Int32} {x4 : Int32} {σ : ch_S} {res : ch_S} {Q : Outcome → ch_W → Prop} (h : m_X3_work_483 x1 x3 x4 σ = some res) (hk : (fun r => ch_eV Q (ch_put m w r)) res) : ch_FT g false mX3_work 6 483 [some (va_rf (some m)), some (.int x1), none, some (.int x3), some (.int x4)] [] (ch_put m w σ) Q := by
  unfold m_X3_work_483 at h
  refine ch_aload_n 0 (some m) dX3_work_483 rfl (ch_dup dX3_work_484 (ch_cat _) (mp_gI 100 dX3_work_485 fl_X3_560 rfl (ch_iconst _ 2 dX3_work_488 rfl (ch_isub _ _ dX3_work_489 (mp_pI (k := 100) dX3_work_490 fl_X3_560 rfl rfl rfl h (fun σ1 h => ?_))))))
  refine ch_aload_n 0 (some m) dX3_work_493 rfl (ch_aload_n 0 (some m) dX3_work_494 rfl (mp_gA 19 dX3_work_495 fl_X3_34 rfl (ch_iload_n 1 _ dX3_work_498 rfl (mp_iald dX3_work_499 mk_19 h (fun v2 h => ?_)))))
  obtain ⟨v3, hp4, h⟩ := ch_bd h
  refine ch_iload 4 _ dX3_work_500 rfl (ch_iload_n 3 _ dX3_work_502 rfl (ch_is yX3_worked prog_14_method_97_code 3 (some .int) (d' := 2) (av := [.int v2, .int x4, .int x3]) (rest := [va_rf (some m)]) rfl dX3_work_503 q2295 q2296 q206 q2297 can_X3_worked (Nat.le_of_ble_eq_true rfl) (ch_hw (Nat.le_of_ble_eq_true rfl)) (cp_kI (v := v3) (w1 := ch_put m w σ1) (fun Q' hq => s_X3_worked hp4 hq) ?_)))
  obtain ⟨p5, hp6, h⟩ := ch_bd h
  refine ch_iconst _ 0 dX3_work_506 rfl (ch_iv yX3_push prog_14_method_82_code 3 none (ci := 3) (q := (RX3, TX3, 109)) (b := m) (d' := 2) (av := [.int v3, .int 0]) (rest := []) rfl dX3_work_507 q2243 q2245 rfl qs182 q2246 can_X3_push (Nat.le_of_ble_eq_true rfl) (Nat.le_of_ble_eq_true rfl) ch_put_tag (cp_kV (w1 := ch_put m w p5) (fun Q' hq => s_X3_push hp6 hq) ?_))
  obtain rfl := Option.some.inj h
  exact ch_return dX3_work_510 rfl hk

def m_X3_work_477   (σ : ch_S) : Option (ch_S) := (m_X3_faults 2 σ).bind fun p1 => some (p1)
theorem s_X3_work_477 {g : State} {m : Nat} {w : ch_W} {σ : ch_S} {res : ch_S} {Q : Outcome → ch_W → Prop} (h : m_X3_work_477  σ = some res) (hk : (fun r => ch_eV Q (ch_put m w r)) res) : ch_FT g false mX3_work 6 477 [some (va_rf (some m)), none, none, none, none] [] (ch_put m w σ) Q := by
  unfold m_X3_work_477 at h
  obtain ⟨p1, hp2, h⟩ := ch_bd h
  refine ch_aload_n 0 (some m) dX3_work_477 rfl (ch_iconst _ 2 dX3_work_478 rfl (ch_iv yX3_faults prog_14_method_86_code 2 none (ci := 3) (q := (RX3, TX3, 109)) (b := m) (d' := 4) (av := [.int 2]) (rest := []) rfl dX3_work_479 q2279 q2281 rfl qs191 q2282 can_X3_faults (Nat.le_of_ble_eq_true rfl) (Nat.le_of_ble_eq_true rfl) ch_put_tag (cp_kV (w1 := ch_put m w p1) (fun Q' hq => s_X3_faults hp2 hq) ?_)))
  obtain rfl := Option.some.inj h
  exact ch_return dX3_work_482 rfl hk

def m_X3_work_329  (y0 : Int32) (σ : ch_S) : Option (ch_S) := (m_X3_push y0 0 σ).bind fun p1 => some (p1)
theorem s_X3_work_329 {g : State} {m : Nat} {w : ch_W} {y0 : Int32} {σ : ch_S} {res : ch_S} {Q : Outcome → ch_W → Prop} (h : m_X3_work_329 y0 σ = some res) (hk : (fun r => ch_eV Q (ch_put m w r)) res) : ch_FT g false mX3_work 6 329 [none, none, none, none, none] [.int y0, va_rf (some m)] (ch_put m w σ) Q := by
  unfold m_X3_work_329 at h
  obtain ⟨p1, hp2, h⟩ := ch_bd h
  refine ch_iconst _ 0 dX3_work_329 rfl (ch_iv yX3_push prog_14_method_82_code 3 none (ci := 3) (q := (RX3, TX3, 109)) (b := m) (d' := 2) (av := [.int y0, .int 0]) (rest := []) rfl dX3_work_330 q2243 q2245 rfl qs182 q2246 can_X3_push (Nat.le_of_ble_eq_true rfl) (Nat.le_of_ble_eq_true rfl) ch_put_tag (cp_kV (w1 := ch_put m w p1) (fun Q' hq => s_X3_push hp2 hq) ?_))
  obtain rfl := Option.some.inj h
  exact ch_goto 510 dX3_work_333 rfl (ch_return dX3_work_510 rfl hk)

def m_X3_work_280 (x1 : Int32) (x3 : Int32) (y0 : Int32) (σ : ch_S) : Option (ch_S) := (ch_ma σ fX3_is x1).bind fun v1 => if v1 = 10 then (if x3 < 0 then (some (σ)) else (if y0 = 0 then ((m_X3_faults 3 σ).bind fun p3 => some (p3)) else (some (σ)))) else ((ch_mI σ fX3_piled ((σ.1 fX3_piled) - 1)).bind fun σ2 => if y0 = 0 then (m_X3_work_329 0 σ2) else (m_X3_work_329 1 σ2))
theorem s_X3_work_280 {g : State} {m : Nat} {w : ch_W} {x1 : Int32} {x3 : Int32} {y0 : Int32} {σ : ch_S} {res : ch_S} {Q : Outcome → ch_W → Prop} (h : m_X3_work_280 x1 x3 y0 σ = some res) (hk : (fun r => ch_eV Q (ch_put m w r)) res) : ch_FT g false mX3_work 6 280 [some (va_rf (some m)), some (.int x1), none, some (.int x3), none] [.int y0] (ch_put m w σ) Q := by
  unfold m_X3_work_280 at h
  refine ch_istore 4 _ (ls1 := [some (va_rf (some m)), some (.int x1), none, some (.int x3), some (.int y0)]) dX3_work_280 (Nat.le_of_ble_eq_true rfl) rfl (ch_aload_n 0 (some m) dX3_work_282 rfl (mp_gA 16 dX3_work_283 fl_X3_25 rfl (ch_iload_n 1 _ dX3_work_286 rfl (mp_iald dX3_work_287 mk_16 h (fun v1 h => ?_)))))
  refine ch_bipush _ 10 dX3_work_288 rfl (cp_icmp_ne _ _ (tgt := 308) dX3_work_290 rfl h (fun h => ?_) (fun h => ?_))
  · refine ch_aload_n 0 (some m) dX3_work_308 rfl (ch_dup dX3_work_309 (ch_cat _) (mp_gI 100 dX3_work_310 fl_X3_560 rfl (ch_iconst _ 1 dX3_work_313 rfl (ch_isub _ _ dX3_work_314 (mp_pI (k := 100) dX3_work_315 fl_X3_560 rfl rfl rfl h (fun σ2 h => ?_))))))
    refine ch_aload_n 0 (some m) dX3_work_318 rfl (ch_iload 4 _ dX3_work_319 rfl (cp_if_eq _ (tgt := 328) dX3_work_321 rfl h (fun h => ?_) (fun h => ?_)))
    · exact ch_iconst _ 0 dX3_work_328 rfl (ch_FT.wk (ch_wN (ch_wN (ch_wN (ch_wN (ch_wN ch_w0))))) (s_X3_work_329  h hk))
    · exact ch_iconst _ 1 dX3_work_324 rfl (ch_goto 329 dX3_work_325 rfl (ch_FT.wk (ch_wN (ch_wN (ch_wN (ch_wN (ch_wN ch_w0))))) (s_X3_work_329  h hk)))
  · refine ch_iload_n 3 _ dX3_work_293 rfl (cp_if_lt _ (tgt := 307) dX3_work_294 rfl h (fun h => ?_) (fun h => ?_))
    · obtain rfl := Option.some.inj h
      exact ch_return dX3_work_307 rfl hk
    · refine ch_iload 4 _ dX3_work_297 rfl (cp_if_ne _ (tgt := 307) dX3_work_299 rfl h (fun h => ?_) (fun h => ?_))
      · obtain rfl := Option.some.inj h
        exact ch_return dX3_work_307 rfl hk
      · obtain ⟨p3, hp4, h⟩ := ch_bd h
        refine ch_aload_n 0 (some m) dX3_work_302 rfl (ch_iconst _ 3 dX3_work_303 rfl (ch_iv yX3_faults prog_14_method_86_code 2 none (ci := 3) (q := (RX3, TX3, 109)) (b := m) (d' := 4) (av := [.int 3]) (rest := []) rfl dX3_work_304 q2279 q2281 rfl qs191 q2282 can_X3_faults (Nat.le_of_ble_eq_true rfl) (Nat.le_of_ble_eq_true rfl) ch_put_tag (cp_kV (w1 := ch_put m w p3) (fun Q' hq => s_X3_faults hp4 hq) ?_)))
        obtain rfl := Option.some.inj h
        exact ch_return dX3_work_307 rfl hk

def m_X3_work_279 (x1 : Int32) (x3 : Int32)  (σ : ch_S) : Option (ch_S) := m_X3_work_280 x1 x3 0 σ
theorem s_X3_work_279 {g : State} {m : Nat} {w : ch_W} {x1 : Int32} {x3 : Int32} {σ : ch_S} {res : ch_S} {Q : Outcome → ch_W → Prop} (h : m_X3_work_279 x1 x3 σ = some res) (hk : (fun r => ch_eV Q (ch_put m w r)) res) : ch_FT g false mX3_work 6 279 [some (va_rf (some m)), some (.int x1), none, some (.int x3), none] [] (ch_put m w σ) Q := by
  unfold m_X3_work_279 at h
  exact ch_iconst _ 0 dX3_work_279 rfl (ch_FT.wk (ch_wS (ch_wS (ch_wN (ch_wS (ch_wN ch_w0))))) (s_X3_work_280  h hk))

def m_X3_work_371   (σ : ch_S) : Option (ch_S) := (m_X3_ends 3 σ).bind fun p1 => some (p1)
theorem s_X3_work_371 {g : State} {m : Nat} {w : ch_W} {σ : ch_S} {res : ch_S} {Q : Outcome → ch_W → Prop} (h : m_X3_work_371  σ = some res) (hk : (fun r => ch_eV Q (ch_put m w r)) res) : ch_FT g false mX3_work 6 371 [some (va_rf (some m)), none, none, none, none] [] (ch_put m w σ) Q := by
  unfold m_X3_work_371 at h
  obtain ⟨p1, hp2, h⟩ := ch_bd h
  refine ch_aload_n 0 (some m) dX3_work_371 rfl (ch_iconst _ 3 dX3_work_372 rfl (ch_iv yX3_ends prog_14_method_84_code 2 none (ci := 3) (q := (RX3, TX3, 109)) (b := m) (d' := 2) (av := [.int 3]) (rest := []) rfl dX3_work_373 q2271 q2273 rfl qs189 q2274 can_X3_ends (Nat.le_of_ble_eq_true rfl) (Nat.le_of_ble_eq_true rfl) ch_put_tag (cp_kV (w1 := ch_put m w p1) (fun Q' hq => s_X3_ends hp2 hq) ?_)))
  obtain rfl := Option.some.inj h
  exact ch_return dX3_work_376 rfl hk

def m_X3_work (x1 : Int32) (σ : ch_S) : Option (ch_S) := (ch_ma σ fX3_is x1).bind fun v1 => if v1 = 6 then ((ch_ma σ fX3_pile ((σ.1 fX3_piled) - 1)).bind fun v6 => if v6 < 0 then ((m_X3_faults 0 σ).bind fun p18 => some (p18)) else ((ch_ma σ fX3_wordsFrom v6).bind fun v7 => (ch_ma σ fX3_of x1).bind fun v8 => (ch_mI σ fX3_piled ((σ.1 fX3_piled) - 1)).bind fun σ9 => (ch_ma σ9 fX3_is x1).bind fun v10 => if v10 = 18 then ((ch_ma σ9 fX3_wordsMany v6).bind fun v15 => (m_X3_push v15 0 σ9).bind fun p16 => some (p16)) else ((ch_ma σ9 fX3_words (v7 + v8)).bind fun v11 => (ch_ma σ9 fX3_isObject (v7 + v8)).bind fun v12 => (m_X3_push v11 v12 σ9).bind fun p13 => some (p13)))) else (if v1 = 7 then ((ch_ma σ fX3_pile (((σ.1 fX3_piled) - 1) - 1)).bind fun v20 => (ch_ma σ fX3_pile ((σ.1 fX3_piled) - 1)).bind fun v21 => (m_X3_isPlace v20 v21 σ).bind fun p22 => if p22.1 = 0 then (some (p22.2)) else ((ch_mI p22.2 fX3_piled ((p22.2.1 fX3_piled) - 2)).bind fun σ24 => (ch_ma σ24 fX3_wordsFrom v20).bind fun v25 => (ch_ma σ24 fX3_words (v25 + v21)).bind fun v26 => (m_X3_push v26 0 σ24).bind fun p27 => some (p27))) else (if v1 = 8 then ((m_X3_calls x1 σ).bind fun p29 => some (p29)) else (if v1 = 9 then ((m_X3_calls x1 σ).bind fun p31 => some (p31)) else (if v1 = 10 then ((ch_ma σ fX3_pile ((σ.1 fX3_piled) - 1)).bind fun v33 => if v33 < 0 then (m_X3_work_279 x1 v33 σ) else ((ch_ma σ fX3_classOfObject v33).bind fun v34 => if v34 < 0 then (m_X3_work_279 x1 v33 σ) else ((ch_ma σ fX3_classOfObject v33).bind fun v35 => (ch_ma σ fX3_of x1).bind fun v36 => (m_X3_isUnder v35 v36 σ).bind fun v37 => if v37 = 0 then (m_X3_work_279 x1 v33 σ) else (m_X3_work_280 x1 v33 1 σ)))) else (if v1 = 11 then ((ch_ma σ fX3_pile ((σ.1 fX3_piled) - 1)).bind fun v39 => if v39 < 0 then (m_X3_work_279 x1 v39 σ) else ((ch_ma σ fX3_classOfObject v39).bind fun v40 => if v40 < 0 then (m_X3_work_279 x1 v39 σ) else ((ch_ma σ fX3_classOfObject v39).bind fun v41 => (ch_ma σ fX3_of x1).bind fun v42 => (m_X3_isUnder v41 v42 σ).bind fun v43 => if v43 = 0 then (m_X3_work_279 x1 v39 σ) else (m_X3_work_280 x1 v39 1 σ)))) else (if v1 = 12 then ((ch_ma σ fX3_pile ((σ.1 fX3_piled) - 1)).bind fun v45 => if v45 < 0 then ((m_X3_faults 4 σ).bind fun p53 => some (p53)) else (if (σ.1 fX3_heap) < v45 then (m_X3_work_371 σ) else ((m_X3_hasRoom (2 + v45) σ).bind fun p46 => if p46.1 = 0 then (m_X3_work_371 p46.2) else ((ch_mI p46.2 fX3_piled ((p46.2.1 fX3_piled) - 1)).bind fun σ48 => (m_X3_object (-1) v45 σ48).bind fun p49 => (m_X3_push p49.1 1 p49.2).bind fun p51 => some (p51))))) else (if v1 = 13 then ((ch_ma σ fX3_pile ((σ.1 fX3_piled) - 1)).bind fun v55 => (ch_mw σ fX3_pile ((σ.1 fX3_piled) - 1) (-v55)).bind fun σ56 => some (σ56)) else (if v1 = 14 then ((ch_ma σ fX3_pile ((σ.1 fX3_piled) - 1)).bind fun v57 => (ch_mw σ fX3_pile ((σ.1 fX3_piled) - 1) (1 - v57)).bind fun σ58 => some (σ58)) else (if v1 = 15 then ((ch_ma σ fX3_pile ((σ.1 fX3_piled) - 1)).bind fun v59 => (ch_ma σ fX3_pile (((σ.1 fX3_piled) - 1) - 1)).bind fun v60 => if v59 = 0 then ((ch_ma σ fX3_of x1).bind fun v61 => if v61 = 47 then (m_X3_work_477 σ) else ((ch_ma σ fX3_of x1).bind fun v62 => if v62 = 37 then (m_X3_work_477 σ) else (m_X3_work_483 x1 v59 v60 σ))) else (m_X3_work_483 x1 v59 v60 σ)) else (if v1 = 16 then ((ch_ma σ fX3_pile ((σ.1 fX3_piled) - 1)).bind fun v63 => (ch_ma σ fX3_pile (((σ.1 fX3_piled) - 1) - 1)).bind fun v64 => if v63 = 0 then ((ch_ma σ fX3_of x1).bind fun v65 => if v65 = 47 then (m_X3_work_477 σ) else ((ch_ma σ fX3_of x1).bind fun v66 => if v66 = 37 then (m_X3_work_477 σ) else (m_X3_work_483 x1 v63 v64 σ))) else (m_X3_work_483 x1 v63 v64 σ)) else (if v1 = 17 then ((ch_ma σ fX3_pile ((σ.1 fX3_piled) - 1)).bind fun v67 => (ch_ma σ fX3_pile (((σ.1 fX3_piled) - 1) - 1)).bind fun v68 => if v67 = 0 then ((ch_ma σ fX3_of x1).bind fun v69 => if v69 = 47 then (m_X3_work_477 σ) else ((ch_ma σ fX3_of x1).bind fun v70 => if v70 = 37 then (m_X3_work_477 σ) else (m_X3_work_483 x1 v67 v68 σ))) else (m_X3_work_483 x1 v67 v68 σ)) else (if v1 = 18 then ((ch_ma σ fX3_pile ((σ.1 fX3_piled) - 1)).bind fun v71 => if v71 < 0 then ((m_X3_faults 0 σ).bind fun p83 => some (p83)) else ((ch_ma σ fX3_wordsFrom v71).bind fun v72 => (ch_ma σ fX3_of x1).bind fun v73 => (ch_mI σ fX3_piled ((σ.1 fX3_piled) - 1)).bind fun σ74 => (ch_ma σ74 fX3_is x1).bind fun v75 => if v75 = 18 then ((ch_ma σ74 fX3_wordsMany v71).bind fun v80 => (m_X3_push v80 0 σ74).bind fun p81 => some (p81)) else ((ch_ma σ74 fX3_words (v72 + v73)).bind fun v76 => (ch_ma σ74 fX3_isObject (v72 + v73)).bind fun v77 => (m_X3_push v76 v77 σ74).bind fun p78 => some (p78)))) else ((ch_ma σ fX3_pile ((σ.1 fX3_piled) - 1)).bind fun v2 => (ch_ma σ fX3_pile (((σ.1 fX3_piled) - 1) - 1)).bind fun v3 => if v2 = 0 then ((ch_ma σ fX3_of x1).bind fun v4 => if v4 = 47 then (m_X3_work_477 σ) else ((ch_ma σ fX3_of x1).bind fun v5 => if v5 = 37 then (m_X3_work_477 σ) else (m_X3_work_483 x1 v2 v3 σ))) else (m_X3_work_483 x1 v2 v3 σ))))))))))))))
theorem s_X3_work {g : State} {m : Nat} {w : ch_W} {x1 : Int32} {σ : ch_S} {res : ch_S} {Q : Outcome → ch_W → Prop} (h : m_X3_work x1 σ = some res) (hk : (fun r => ch_eV Q (ch_put m w r)) res) : ch_CT g false yX3_work 6 [.ref m, .int x1] (ch_put m w σ) Q := by
  unfold m_X3_work at h
  refine ch_ctL mX3_work (ls := [some (va_rf (some m)), some (.int x1), none, none, none]) q2278 rfl (ch_lyr (r := some m) (ch_lyi ch_ly0)) (Nat.le_of_ble_eq_true rfl) rfl ?_
  refine ch_aload_n 0 (some m) dX3_work_0 rfl (mp_gI 100 dX3_work_1 fl_X3_560 rfl (ch_iconst _ 1 dX3_work_4 rfl (ch_isub _ _ dX3_work_5 (ch_istore_n 2 _ (ls1 := [some (va_rf (some m)), some (.int x1), some (.int ((σ.1 fX3_piled) - 1)), none, none]) dX3_work_6 (Nat.le_of_ble_eq_true rfl) rfl (ch_aload_n 0 (some m) dX3_work_7 rfl (mp_gA 16 dX3_work_8 fl_X3_25 rfl (ch_iload_n 1 _ dX3_work_11 rfl (?_))))))))
  refine mp_iald dX3_work_12 mk_16 h (fun v1 h => ?_)
  by_cases e0 : v1 = 6
  · have h := ch_ifT e0 h
    refine ch_tableIn _ (off := 67) (tgt := 80) dX3_work_13 (by rw [e0]; decide) (by rw [e0]; decide) (by rw [e0]; rfl) rfl ?_
    refine ch_aload_n 0 (some m) dX3_work_80 rfl (mp_gA 101 dX3_work_81 fl_X3_198 rfl (ch_iload_n 2 _ dX3_work_84 rfl (mp_iald dX3_work_85 mk_101 h (fun v6 h => ?_))))
    refine ch_istore_n 3 _ (ls1 := [some (va_rf (some m)), some (.int x1), some (.int ((σ.1 fX3_piled) - 1)), some (.int v6), none]) dX3_work_86 (Nat.le_of_ble_eq_true rfl) rfl (ch_iload_n 3 _ dX3_work_87 rfl (cp_if_ge _ (tgt := 97) dX3_work_88 rfl h (fun h => ?_) (fun h => ?_)))
    · refine ch_aload_n 0 (some m) dX3_work_97 rfl (mp_gA 84 dX3_work_98 fl_X3_157 rfl (ch_iload_n 3 _ dX3_work_101 rfl (mp_iald dX3_work_102 mk_84 h (fun v7 h => ?_))))
      refine ch_aload_n 0 (some m) dX3_work_103 rfl (mp_gA 19 dX3_work_104 fl_X3_34 rfl (ch_iload_n 1 _ dX3_work_107 rfl (mp_iald dX3_work_108 mk_19 h (fun v8 h => ?_))))
      refine ch_iadd _ _ dX3_work_109 (ch_istore 4 _ (ls1 := [some (va_rf (some m)), some (.int x1), some (.int ((σ.1 fX3_piled) - 1)), some (.int v6), some (.int (v7 + v8))]) dX3_work_110 (Nat.le_of_ble_eq_true rfl) rfl (ch_aload_n 0 (some m) dX3_work_112 rfl (ch_dup dX3_work_113 (ch_cat _) (mp_gI 100 dX3_work_114 fl_X3_560 rfl (ch_iconst _ 1 dX3_work_117 rfl (ch_isub _ _ dX3_work_118 (mp_pI (k := 100) dX3_work_119 fl_X3_560 rfl rfl rfl h (fun σ9 h => ?_))))))))
      refine ch_aload_n 0 (some m) dX3_work_122 rfl (mp_gA 16 dX3_work_123 fl_X3_25 rfl (ch_iload_n 1 _ dX3_work_126 rfl (mp_iald dX3_work_127 mk_16 h (fun v10 h => ?_))))
      refine ch_bipush _ 18 dX3_work_128 rfl (cp_icmp_ne _ _ (tgt := 147) dX3_work_130 rfl h (fun h => ?_) (fun h => ?_))
      · refine ch_aload_n 0 (some m) dX3_work_147 rfl (ch_aload_n 0 (some m) dX3_work_148 rfl (mp_gA 91 dX3_work_149 fl_X3_172 rfl (ch_iload 4 _ dX3_work_152 rfl (mp_iald dX3_work_154 mk_91 h (fun v11 h => ?_)))))
        refine ch_aload_n 0 (some m) dX3_work_155 rfl (mp_gA 92 dX3_work_156 fl_X3_175 rfl (ch_iload 4 _ dX3_work_159 rfl (mp_zald dX3_work_161 mk_92 h (fun v12 h => ?_))))
        obtain ⟨p13, hp14, h⟩ := ch_bd h
        refine ch_iv yX3_push prog_14_method_82_code 3 none (ci := 3) (q := (RX3, TX3, 109)) (b := m) (d' := 2) (av := [.int v11, .int v12]) (rest := []) rfl dX3_work_162 q2243 q2245 rfl qs182 q2246 can_X3_push (Nat.le_of_ble_eq_true rfl) (Nat.le_of_ble_eq_true rfl) ch_put_tag (cp_kV (w1 := ch_put m w p13) (fun Q' hq => s_X3_push hp14 hq) ?_)
        obtain rfl := Option.some.inj h
        exact ch_goto 510 dX3_work_165 rfl (ch_return dX3_work_510 rfl hk)
      · refine ch_aload_n 0 (some m) dX3_work_133 rfl (ch_aload_n 0 (some m) dX3_work_134 rfl (mp_gA 85 dX3_work_135 fl_X3_160 rfl (ch_iload_n 3 _ dX3_work_138 rfl (mp_iald dX3_work_139 mk_85 h (fun v15 h => ?_)))))
        obtain ⟨p16, hp17, h⟩ := ch_bd h
        refine ch_iconst _ 0 dX3_work_140 rfl (ch_iv yX3_push prog_14_method_82_code 3 none (ci := 3) (q := (RX3, TX3, 109)) (b := m) (d' := 2) (av := [.int v15, .int 0]) (rest := []) rfl dX3_work_141 q2243 q2245 rfl qs182 q2246 can_X3_push (Nat.le_of_ble_eq_true rfl) (Nat.le_of_ble_eq_true rfl) ch_put_tag (cp_kV (w1 := ch_put m w p16) (fun Q' hq => s_X3_push hp17 hq) ?_))
        obtain rfl := Option.some.inj h
        exact ch_goto 510 dX3_work_144 rfl (ch_return dX3_work_510 rfl hk)
    · obtain ⟨p18, hp19, h⟩ := ch_bd h
      refine ch_aload_n 0 (some m) dX3_work_91 rfl (ch_iconst _ 0 dX3_work_92 rfl (ch_iv yX3_faults prog_14_method_86_code 2 none (ci := 3) (q := (RX3, TX3, 109)) (b := m) (d' := 4) (av := [.int 0]) (rest := []) rfl dX3_work_93 q2279 q2281 rfl qs191 q2282 can_X3_faults (Nat.le_of_ble_eq_true rfl) (Nat.le_of_ble_eq_true rfl) ch_put_tag (cp_kV (w1 := ch_put m w p18) (fun Q' hq => s_X3_faults hp19 hq) ?_)))
      obtain rfl := Option.some.inj h
      exact ch_return dX3_work_96 rfl hk
  replace h := ch_ifF e0 h
  by_cases e1 : v1 = 7
  · have h := ch_ifT e1 h
    refine ch_tableIn _ (off := 155) (tgt := 168) dX3_work_13 (by rw [e1]; decide) (by rw [e1]; decide) (by rw [e1]; rfl) rfl ?_
    refine ch_aload_n 0 (some m) dX3_work_168 rfl (mp_gA 101 dX3_work_169 fl_X3_198 rfl (ch_iload_n 2 _ dX3_work_172 rfl (ch_iconst _ 1 dX3_work_173 rfl (ch_isub _ _ dX3_work_174 (mp_iald dX3_work_175 mk_101 h (fun v20 h => ?_))))))
    refine ch_istore_n 3 _ (ls1 := [some (va_rf (some m)), some (.int x1), some (.int ((σ.1 fX3_piled) - 1)), some (.int v20), none]) dX3_work_176 (Nat.le_of_ble_eq_true rfl) rfl (ch_aload_n 0 (some m) dX3_work_177 rfl (mp_gA 101 dX3_work_178 fl_X3_198 rfl (ch_iload_n 2 _ dX3_work_181 rfl (mp_iald dX3_work_182 mk_101 h (fun v21 h => ?_)))))
    obtain ⟨p22, hp23, h⟩ := ch_bd h
    refine ch_istore 4 _ (ls1 := [some (va_rf (some m)), some (.int x1), some (.int ((σ.1 fX3_piled) - 1)), some (.int v20), some (.int v21)]) dX3_work_183 (Nat.le_of_ble_eq_true rfl) rfl (ch_aload_n 0 (some m) dX3_work_185 rfl (ch_iload_n 3 _ dX3_work_186 rfl (ch_iload 4 _ dX3_work_187 rfl (ch_iv yX3_isPlace prog_14_method_96_code 3 (some .boolean) (ci := 3) (q := (RX3, TX3, 109)) (b := m) (d' := 5) (av := [.int v20, .int v21]) (rest := []) rfl dX3_work_189 q2287 q2289 rfl qs193 q2290 can_X3_isPlace (Nat.le_of_ble_eq_true rfl) (Nat.le_of_ble_eq_true rfl) ch_put_tag (cp_kI (v := p22.1) (w1 := ch_put m w p22.2) (fun Q' hq => s_X3_isPlace hp23 hq) ?_)))))
    refine cp_if_ne _ (tgt := 196) dX3_work_192 rfl h (fun h => ?_) (fun h => ?_)
    · refine ch_aload_n 0 (some m) dX3_work_196 rfl (ch_dup dX3_work_197 (ch_cat _) (mp_gI 100 dX3_work_198 fl_X3_560 rfl (ch_iconst _ 2 dX3_work_201 rfl (ch_isub _ _ dX3_work_202 (mp_pI (k := 100) dX3_work_203 fl_X3_560 rfl rfl rfl h (fun σ24 h => ?_))))))
      refine ch_aload_n 0 (some m) dX3_work_206 rfl (ch_aload_n 0 (some m) dX3_work_207 rfl (mp_gA 91 dX3_work_208 fl_X3_172 rfl (ch_aload_n 0 (some m) dX3_work_211 rfl (mp_gA 84 dX3_work_212 fl_X3_157 rfl (ch_iload_n 3 _ dX3_work_215 rfl (mp_iald dX3_work_216 mk_84 h (fun v25 h => ?_)))))))
      refine ch_iload 4 _ dX3_work_217 rfl (ch_iadd _ _ dX3_work_219 (mp_iald dX3_work_220 mk_91 h (fun v26 h => ?_)))
      obtain ⟨p27, hp28, h⟩ := ch_bd h
      refine ch_iconst _ 0 dX3_work_221 rfl (ch_iv yX3_push prog_14_method_82_code 3 none (ci := 3) (q := (RX3, TX3, 109)) (b := m) (d' := 2) (av := [.int v26, .int 0]) (rest := []) rfl dX3_work_222 q2243 q2245 rfl qs182 q2246 can_X3_push (Nat.le_of_ble_eq_true rfl) (Nat.le_of_ble_eq_true rfl) ch_put_tag (cp_kV (w1 := ch_put m w p27) (fun Q' hq => s_X3_push hp28 hq) ?_))
      obtain rfl := Option.some.inj h
      exact ch_goto 510 dX3_work_225 rfl (ch_return dX3_work_510 rfl hk)
    · obtain rfl := Option.some.inj h
      exact ch_return dX3_work_195 rfl hk
  replace h := ch_ifF e1 h
  by_cases e2 : v1 = 8
  · have h := ch_ifT e2 h
    refine ch_tableIn _ (off := 215) (tgt := 228) dX3_work_13 (by rw [e2]; decide) (by rw [e2]; decide) (by rw [e2]; rfl) rfl ?_
    obtain ⟨p29, hp30, h⟩ := ch_bd h
    refine ch_aload_n 0 (some m) dX3_work_228 rfl (ch_iload_n 1 _ dX3_work_229 rfl (ch_iv yX3_calls prog_14_method_98_code 7 none (ci := 3) (q := (RX3, TX3, 109)) (b := m) (d' := 5) (av := [.int x1]) (rest := []) rfl dX3_work_230 q2291 q2293 rfl qs194 q2294 can_X3_calls (Nat.le_of_ble_eq_true rfl) (Nat.le_of_ble_eq_true rfl) ch_put_tag (cp_kV (w1 := ch_put m w p29) (fun Q' hq => s_X3_calls hp30 hq) ?_)))
    obtain rfl := Option.some.inj h
    exact ch_goto 510 dX3_work_233 rfl (ch_return dX3_work_510 rfl hk)
  replace h := ch_ifF e2 h
  by_cases e3 : v1 = 9
  · have h := ch_ifT e3 h
    refine ch_tableIn _ (off := 215) (tgt := 228) dX3_work_13 (by rw [e3]; decide) (by rw [e3]; decide) (by rw [e3]; rfl) rfl ?_
    obtain ⟨p31, hp32, h⟩ := ch_bd h
    refine ch_aload_n 0 (some m) dX3_work_228 rfl (ch_iload_n 1 _ dX3_work_229 rfl (ch_iv yX3_calls prog_14_method_98_code 7 none (ci := 3) (q := (RX3, TX3, 109)) (b := m) (d' := 5) (av := [.int x1]) (rest := []) rfl dX3_work_230 q2291 q2293 rfl qs194 q2294 can_X3_calls (Nat.le_of_ble_eq_true rfl) (Nat.le_of_ble_eq_true rfl) ch_put_tag (cp_kV (w1 := ch_put m w p31) (fun Q' hq => s_X3_calls hp32 hq) ?_)))
    obtain rfl := Option.some.inj h
    exact ch_goto 510 dX3_work_233 rfl (ch_return dX3_work_510 rfl hk)
  replace h := ch_ifF e3 h
  by_cases e4 : v1 = 10
  · have h := ch_ifT e4 h
    refine ch_tableIn _ (off := 223) (tgt := 236) dX3_work_13 (by rw [e4]; decide) (by rw [e4]; decide) (by rw [e4]; rfl) rfl ?_
    refine ch_aload_n 0 (some m) dX3_work_236 rfl (mp_gA 101 dX3_work_237 fl_X3_198 rfl (ch_iload_n 2 _ dX3_work_240 rfl (mp_iald dX3_work_241 mk_101 h (fun v33 h => ?_))))
    refine ch_istore_n 3 _ (ls1 := [some (va_rf (some m)), some (.int x1), some (.int ((σ.1 fX3_piled) - 1)), some (.int v33), none]) dX3_work_242 (Nat.le_of_ble_eq_true rfl) rfl (ch_iload_n 3 _ dX3_work_243 rfl (cp_if_lt _ (tgt := 279) dX3_work_244 rfl h (fun h => ?_) (fun h => ?_)))
    · exact ch_FT.wk (ch_wS (ch_wS (ch_wN (ch_wS (ch_wN ch_w0))))) (s_X3_work_279  h hk)
    · refine ch_aload_n 0 (some m) dX3_work_247 rfl (mp_gA 83 dX3_work_248 fl_X3_154 rfl (ch_iload_n 3 _ dX3_work_251 rfl (mp_iald dX3_work_252 mk_83 h (fun v34 h => ?_))))
      refine cp_if_lt _ (tgt := 279) dX3_work_253 rfl h (fun h => ?_) (fun h => ?_)
      · exact ch_FT.wk (ch_wS (ch_wS (ch_wN (ch_wS (ch_wN ch_w0))))) (s_X3_work_279  h hk)
      · refine ch_aload_n 0 (some m) dX3_work_256 rfl (ch_aload_n 0 (some m) dX3_work_257 rfl (mp_gA 83 dX3_work_258 fl_X3_154 rfl (ch_iload_n 3 _ dX3_work_261 rfl (mp_iald dX3_work_262 mk_83 h (fun v35 h => ?_)))))
        refine ch_aload_n 0 (some m) dX3_work_263 rfl (mp_gA 19 dX3_work_264 fl_X3_34 rfl (ch_iload_n 1 _ dX3_work_267 rfl (mp_iald dX3_work_268 mk_19 h (fun v36 h => ?_))))
        obtain ⟨v37, hp38, h⟩ := ch_bd h
        refine ch_iv yX3_isUnder prog_14_method_45_code 4 (some .boolean) (ci := 3) (q := (RX3, TX3, 109)) (b := m) (d' := 2) (av := [.int v35, .int v36]) (rest := []) rfl dX3_work_269 q2124 q2126 rfl qs160 q2127 can_X3_isUnder (Nat.le_of_ble_eq_true rfl) (Nat.le_of_ble_eq_true rfl) ch_put_tag (cp_kI (v := v37) (w1 := ch_put m w σ) (fun Q' hq => s_X3_isUnder hp38 hq) ?_)
        refine cp_if_eq _ (tgt := 279) dX3_work_272 rfl h (fun h => ?_) (fun h => ?_)
        · exact ch_FT.wk (ch_wS (ch_wS (ch_wN (ch_wS (ch_wN ch_w0))))) (s_X3_work_279  h hk)
        · exact ch_iconst _ 1 dX3_work_275 rfl (ch_goto 280 dX3_work_276 rfl (ch_FT.wk (ch_wS (ch_wS (ch_wN (ch_wS (ch_wN ch_w0))))) (s_X3_work_280  h hk)))
  replace h := ch_ifF e4 h
  by_cases e5 : v1 = 11
  · have h := ch_ifT e5 h
    refine ch_tableIn _ (off := 223) (tgt := 236) dX3_work_13 (by rw [e5]; decide) (by rw [e5]; decide) (by rw [e5]; rfl) rfl ?_
    refine ch_aload_n 0 (some m) dX3_work_236 rfl (mp_gA 101 dX3_work_237 fl_X3_198 rfl (ch_iload_n 2 _ dX3_work_240 rfl (mp_iald dX3_work_241 mk_101 h (fun v39 h => ?_))))
    refine ch_istore_n 3 _ (ls1 := [some (va_rf (some m)), some (.int x1), some (.int ((σ.1 fX3_piled) - 1)), some (.int v39), none]) dX3_work_242 (Nat.le_of_ble_eq_true rfl) rfl (ch_iload_n 3 _ dX3_work_243 rfl (cp_if_lt _ (tgt := 279) dX3_work_244 rfl h (fun h => ?_) (fun h => ?_)))
    · exact ch_FT.wk (ch_wS (ch_wS (ch_wN (ch_wS (ch_wN ch_w0))))) (s_X3_work_279  h hk)
    · refine ch_aload_n 0 (some m) dX3_work_247 rfl (mp_gA 83 dX3_work_248 fl_X3_154 rfl (ch_iload_n 3 _ dX3_work_251 rfl (mp_iald dX3_work_252 mk_83 h (fun v40 h => ?_))))
      refine cp_if_lt _ (tgt := 279) dX3_work_253 rfl h (fun h => ?_) (fun h => ?_)
      · exact ch_FT.wk (ch_wS (ch_wS (ch_wN (ch_wS (ch_wN ch_w0))))) (s_X3_work_279  h hk)
      · refine ch_aload_n 0 (some m) dX3_work_256 rfl (ch_aload_n 0 (some m) dX3_work_257 rfl (mp_gA 83 dX3_work_258 fl_X3_154 rfl (ch_iload_n 3 _ dX3_work_261 rfl (mp_iald dX3_work_262 mk_83 h (fun v41 h => ?_)))))
        refine ch_aload_n 0 (some m) dX3_work_263 rfl (mp_gA 19 dX3_work_264 fl_X3_34 rfl (ch_iload_n 1 _ dX3_work_267 rfl (mp_iald dX3_work_268 mk_19 h (fun v42 h => ?_))))
        obtain ⟨v43, hp44, h⟩ := ch_bd h
        refine ch_iv yX3_isUnder prog_14_method_45_code 4 (some .boolean) (ci := 3) (q := (RX3, TX3, 109)) (b := m) (d' := 2) (av := [.int v41, .int v42]) (rest := []) rfl dX3_work_269 q2124 q2126 rfl qs160 q2127 can_X3_isUnder (Nat.le_of_ble_eq_true rfl) (Nat.le_of_ble_eq_true rfl) ch_put_tag (cp_kI (v := v43) (w1 := ch_put m w σ) (fun Q' hq => s_X3_isUnder hp44 hq) ?_)
        refine cp_if_eq _ (tgt := 279) dX3_work_272 rfl h (fun h => ?_) (fun h => ?_)
        · exact ch_FT.wk (ch_wS (ch_wS (ch_wN (ch_wS (ch_wN ch_w0))))) (s_X3_work_279  h hk)
        · exact ch_iconst _ 1 dX3_work_275 rfl (ch_goto 280 dX3_work_276 rfl (ch_FT.wk (ch_wS (ch_wS (ch_wN (ch_wS (ch_wN ch_w0))))) (s_X3_work_280  h hk)))
  replace h := ch_ifF e5 h
  by_cases e6 : v1 = 12
  · have h := ch_ifT e6 h
    refine ch_tableIn _ (off := 323) (tgt := 336) dX3_work_13 (by rw [e6]; decide) (by rw [e6]; decide) (by rw [e6]; rfl) rfl ?_
    refine ch_aload_n 0 (some m) dX3_work_336 rfl (mp_gA 101 dX3_work_337 fl_X3_198 rfl (ch_iload_n 2 _ dX3_work_340 rfl (mp_iald dX3_work_341 mk_101 h (fun v45 h => ?_))))
    refine ch_istore_n 3 _ (ls1 := [some (va_rf (some m)), some (.int x1), some (.int ((σ.1 fX3_piled) - 1)), some (.int v45), none]) dX3_work_342 (Nat.le_of_ble_eq_true rfl) rfl (ch_iload_n 3 _ dX3_work_343 rfl (cp_if_ge _ (tgt := 353) dX3_work_344 rfl h (fun h => ?_) (fun h => ?_)))
    · refine ch_iload_n 3 _ dX3_work_353 rfl (ch_aload_n 0 (some m) dX3_work_354 rfl (mp_gI 72 dX3_work_355 fl_X3_569 rfl (cp_icmp_gt _ _ (tgt := 371) dX3_work_358 rfl h (fun h => ?_) (fun h => ?_))))
      · exact ch_FT.wk (ch_wS (ch_wN (ch_wN (ch_wN (ch_wN ch_w0))))) (s_X3_work_371  h hk)
      · obtain ⟨p46, hp47, h⟩ := ch_bd h
        refine ch_aload_n 0 (some m) dX3_work_361 rfl (ch_iconst _ 2 dX3_work_362 rfl (ch_iload_n 3 _ dX3_work_363 rfl (ch_iadd _ _ dX3_work_364 (ch_iv yX3_hasRoom prog_14_method_80_code 2 (some .boolean) (ci := 3) (q := (RX3, TX3, 109)) (b := m) (d' := 4) (av := [.int (2 + v45)]) (rest := []) rfl dX3_work_365 q2251 q2253 rfl qs184 q2254 can_X3_hasRoom (Nat.le_of_ble_eq_true rfl) (Nat.le_of_ble_eq_true rfl) ch_put_tag (cp_kI (v := p46.1) (w1 := ch_put m w p46.2) (fun Q' hq => s_X3_hasRoom hp47 hq) ?_)))))
        refine cp_if_ne _ (tgt := 377) dX3_work_368 rfl h (fun h => ?_) (fun h => ?_)
        · refine ch_aload_n 0 (some m) dX3_work_377 rfl (ch_dup dX3_work_378 (ch_cat _) (mp_gI 100 dX3_work_379 fl_X3_560 rfl (ch_iconst _ 1 dX3_work_382 rfl (ch_isub _ _ dX3_work_383 (mp_pI (k := 100) dX3_work_384 fl_X3_560 rfl rfl rfl h (fun σ48 h => ?_))))))
          obtain ⟨p49, hp50, h⟩ := ch_bd h
          refine ch_aload_n 0 (some m) dX3_work_387 rfl (ch_aload_n 0 (some m) dX3_work_388 rfl (ch_iconst _ (-1) dX3_work_389 rfl (ch_iload_n 3 _ dX3_work_390 rfl (ch_iv yX3_object prog_14_method_81_code 6 (some .int) (ci := 3) (q := (RX3, TX3, 109)) (b := m) (d' := 2) (av := [.int (-1), .int v45]) (rest := [va_rf (some m)]) rfl dX3_work_391 q2194 q2196 rfl qs171 q2197 can_X3_object (Nat.le_of_ble_eq_true rfl) (ch_hw (Nat.le_of_ble_eq_true rfl)) ch_put_tag (cp_kI (v := p49.1) (w1 := ch_put m w p49.2) (fun Q' hq => s_X3_object hp50 hq) ?_)))))
          obtain ⟨p51, hp52, h⟩ := ch_bd h
          refine ch_iconst _ 1 dX3_work_394 rfl (ch_iv yX3_push prog_14_method_82_code 3 none (ci := 3) (q := (RX3, TX3, 109)) (b := m) (d' := 2) (av := [.int p49.1, .int 1]) (rest := []) rfl dX3_work_395 q2243 q2245 rfl qs182 q2246 can_X3_push (Nat.le_of_ble_eq_true rfl) (Nat.le_of_ble_eq_true rfl) ch_put_tag (cp_kV (w1 := ch_put m w p51) (fun Q' hq => s_X3_push hp52 hq) ?_))
          obtain rfl := Option.some.inj h
          exact ch_goto 510 dX3_work_398 rfl (ch_return dX3_work_510 rfl hk)
        · exact ch_FT.wk (ch_wS (ch_wN (ch_wN (ch_wN (ch_wN ch_w0))))) (s_X3_work_371  h hk)
    · obtain ⟨p53, hp54, h⟩ := ch_bd h
      refine ch_aload_n 0 (some m) dX3_work_347 rfl (ch_iconst _ 4 dX3_work_348 rfl (ch_iv yX3_faults prog_14_method_86_code 2 none (ci := 3) (q := (RX3, TX3, 109)) (b := m) (d' := 4) (av := [.int 4]) (rest := []) rfl dX3_work_349 q2279 q2281 rfl qs191 q2282 can_X3_faults (Nat.le_of_ble_eq_true rfl) (Nat.le_of_ble_eq_true rfl) ch_put_tag (cp_kV (w1 := ch_put m w p53) (fun Q' hq => s_X3_faults hp54 hq) ?_)))
      obtain rfl := Option.some.inj h
      exact ch_return dX3_work_352 rfl hk
  replace h := ch_ifF e6 h
  by_cases e7 : v1 = 13
  · have h := ch_ifT e7 h
    refine ch_tableIn _ (off := 388) (tgt := 401) dX3_work_13 (by rw [e7]; decide) (by rw [e7]; decide) (by rw [e7]; rfl) rfl ?_
    refine ch_aload_n 0 (some m) dX3_work_401 rfl (mp_gA 101 dX3_work_402 fl_X3_198 rfl (ch_iload_n 2 _ dX3_work_405 rfl (ch_aload_n 0 (some m) dX3_work_406 rfl (mp_gA 101 dX3_work_407 fl_X3_198 rfl (ch_iload_n 2 _ dX3_work_410 rfl (mp_iald dX3_work_411 mk_101 h (fun v55 h => ?_)))))))
    refine ch_ineg _ dX3_work_412 (mp_iast dX3_work_413 mk_101 rfl h (fun σ56 h => ?_))
    obtain rfl := Option.some.inj h
    exact ch_goto 510 dX3_work_414 rfl (ch_return dX3_work_510 rfl hk)
  replace h := ch_ifF e7 h
  by_cases e8 : v1 = 14
  · have h := ch_ifT e8 h
    refine ch_tableIn _ (off := 404) (tgt := 417) dX3_work_13 (by rw [e8]; decide) (by rw [e8]; decide) (by rw [e8]; rfl) rfl ?_
    refine ch_aload_n 0 (some m) dX3_work_417 rfl (mp_gA 101 dX3_work_418 fl_X3_198 rfl (ch_iload_n 2 _ dX3_work_421 rfl (ch_iconst _ 1 dX3_work_422 rfl (ch_aload_n 0 (some m) dX3_work_423 rfl (mp_gA 101 dX3_work_424 fl_X3_198 rfl (ch_iload_n 2 _ dX3_work_427 rfl (mp_iald dX3_work_428 mk_101 h (fun v57 h => ?_))))))))
    refine ch_isub _ _ dX3_work_429 (mp_iast dX3_work_430 mk_101 rfl h (fun σ58 h => ?_))
    obtain rfl := Option.some.inj h
    exact ch_goto 510 dX3_work_431 rfl (ch_return dX3_work_510 rfl hk)
  replace h := ch_ifF e8 h
  by_cases e9 : v1 = 15
  · have h := ch_ifT e9 h
    refine ch_tableIn _ (off := 421) (tgt := 434) dX3_work_13 (by rw [e9]; decide) (by rw [e9]; decide) (by rw [e9]; rfl) rfl ?_
    refine ch_aload_n 0 (some m) dX3_work_434 rfl (mp_gA 101 dX3_work_435 fl_X3_198 rfl (ch_iload_n 2 _ dX3_work_438 rfl (mp_iald dX3_work_439 mk_101 h (fun v59 h => ?_))))
    refine ch_istore_n 3 _ (ls1 := [some (va_rf (some m)), some (.int x1), some (.int ((σ.1 fX3_piled) - 1)), some (.int v59), none]) dX3_work_440 (Nat.le_of_ble_eq_true rfl) rfl (ch_aload_n 0 (some m) dX3_work_441 rfl (mp_gA 101 dX3_work_442 fl_X3_198 rfl (ch_iload_n 2 _ dX3_work_445 rfl (ch_iconst _ 1 dX3_work_446 rfl (ch_isub _ _ dX3_work_447 (mp_iald dX3_work_448 mk_101 h (fun v60 h => ?_)))))))
    refine ch_istore 4 _ (ls1 := [some (va_rf (some m)), some (.int x1), some (.int ((σ.1 fX3_piled) - 1)), some (.int v59), some (.int v60)]) dX3_work_449 (Nat.le_of_ble_eq_true rfl) rfl (ch_iload_n 3 _ dX3_work_451 rfl (cp_if_ne _ (tgt := 483) dX3_work_452 rfl h (fun h => ?_) (fun h => ?_)))
    · exact ch_FT.wk (ch_wS (ch_wS (ch_wN (ch_wS (ch_wS ch_w0))))) (s_X3_work_483  h hk)
    · refine ch_aload_n 0 (some m) dX3_work_455 rfl (mp_gA 19 dX3_work_456 fl_X3_34 rfl (ch_iload_n 1 _ dX3_work_459 rfl (mp_iald dX3_work_460 mk_19 h (fun v61 h => ?_))))
      refine ch_bipush _ 47 dX3_work_461 rfl (cp_icmp_eq _ _ (tgt := 477) dX3_work_463 rfl h (fun h => ?_) (fun h => ?_))
      · exact ch_FT.wk (ch_wS (ch_wN (ch_wN (ch_wN (ch_wN ch_w0))))) (s_X3_work_477  h hk)
      · refine ch_aload_n 0 (some m) dX3_work_466 rfl (mp_gA 19 dX3_work_467 fl_X3_34 rfl (ch_iload_n 1 _ dX3_work_470 rfl (mp_iald dX3_work_471 mk_19 h (fun v62 h => ?_))))
        refine ch_bipush _ 37 dX3_work_472 rfl (cp_icmp_ne _ _ (tgt := 483) dX3_work_474 rfl h (fun h => ?_) (fun h => ?_))
        · exact ch_FT.wk (ch_wS (ch_wS (ch_wN (ch_wS (ch_wS ch_w0))))) (s_X3_work_483  h hk)
        · exact ch_FT.wk (ch_wS (ch_wN (ch_wN (ch_wN (ch_wN ch_w0))))) (s_X3_work_477  h hk)
  replace h := ch_ifF e9 h
  by_cases e10 : v1 = 16
  · have h := ch_ifT e10 h
    refine ch_tableIn _ (off := 421) (tgt := 434) dX3_work_13 (by rw [e10]; decide) (by rw [e10]; decide) (by rw [e10]; rfl) rfl ?_
    refine ch_aload_n 0 (some m) dX3_work_434 rfl (mp_gA 101 dX3_work_435 fl_X3_198 rfl (ch_iload_n 2 _ dX3_work_438 rfl (mp_iald dX3_work_439 mk_101 h (fun v63 h => ?_))))
    refine ch_istore_n 3 _ (ls1 := [some (va_rf (some m)), some (.int x1), some (.int ((σ.1 fX3_piled) - 1)), some (.int v63), none]) dX3_work_440 (Nat.le_of_ble_eq_true rfl) rfl (ch_aload_n 0 (some m) dX3_work_441 rfl (mp_gA 101 dX3_work_442 fl_X3_198 rfl (ch_iload_n 2 _ dX3_work_445 rfl (ch_iconst _ 1 dX3_work_446 rfl (ch_isub _ _ dX3_work_447 (mp_iald dX3_work_448 mk_101 h (fun v64 h => ?_)))))))
    refine ch_istore 4 _ (ls1 := [some (va_rf (some m)), some (.int x1), some (.int ((σ.1 fX3_piled) - 1)), some (.int v63), some (.int v64)]) dX3_work_449 (Nat.le_of_ble_eq_true rfl) rfl (ch_iload_n 3 _ dX3_work_451 rfl (cp_if_ne _ (tgt := 483) dX3_work_452 rfl h (fun h => ?_) (fun h => ?_)))
    · exact ch_FT.wk (ch_wS (ch_wS (ch_wN (ch_wS (ch_wS ch_w0))))) (s_X3_work_483  h hk)
    · refine ch_aload_n 0 (some m) dX3_work_455 rfl (mp_gA 19 dX3_work_456 fl_X3_34 rfl (ch_iload_n 1 _ dX3_work_459 rfl (mp_iald dX3_work_460 mk_19 h (fun v65 h => ?_))))
      refine ch_bipush _ 47 dX3_work_461 rfl (cp_icmp_eq _ _ (tgt := 477) dX3_work_463 rfl h (fun h => ?_) (fun h => ?_))
      · exact ch_FT.wk (ch_wS (ch_wN (ch_wN (ch_wN (ch_wN ch_w0))))) (s_X3_work_477  h hk)
      · refine ch_aload_n 0 (some m) dX3_work_466 rfl (mp_gA 19 dX3_work_467 fl_X3_34 rfl (ch_iload_n 1 _ dX3_work_470 rfl (mp_iald dX3_work_471 mk_19 h (fun v66 h => ?_))))
        refine ch_bipush _ 37 dX3_work_472 rfl (cp_icmp_ne _ _ (tgt := 483) dX3_work_474 rfl h (fun h => ?_) (fun h => ?_))
        · exact ch_FT.wk (ch_wS (ch_wS (ch_wN (ch_wS (ch_wS ch_w0))))) (s_X3_work_483  h hk)
        · exact ch_FT.wk (ch_wS (ch_wN (ch_wN (ch_wN (ch_wN ch_w0))))) (s_X3_work_477  h hk)
  replace h := ch_ifF e10 h
  by_cases e11 : v1 = 17
  · have h := ch_ifT e11 h
    refine ch_tableIn _ (off := 421) (tgt := 434) dX3_work_13 (by rw [e11]; decide) (by rw [e11]; decide) (by rw [e11]; rfl) rfl ?_
    refine ch_aload_n 0 (some m) dX3_work_434 rfl (mp_gA 101 dX3_work_435 fl_X3_198 rfl (ch_iload_n 2 _ dX3_work_438 rfl (mp_iald dX3_work_439 mk_101 h (fun v67 h => ?_))))
    refine ch_istore_n 3 _ (ls1 := [some (va_rf (some m)), some (.int x1), some (.int ((σ.1 fX3_piled) - 1)), some (.int v67), none]) dX3_work_440 (Nat.le_of_ble_eq_true rfl) rfl (ch_aload_n 0 (some m) dX3_work_441 rfl (mp_gA 101 dX3_work_442 fl_X3_198 rfl (ch_iload_n 2 _ dX3_work_445 rfl (ch_iconst _ 1 dX3_work_446 rfl (ch_isub _ _ dX3_work_447 (mp_iald dX3_work_448 mk_101 h (fun v68 h => ?_)))))))
    refine ch_istore 4 _ (ls1 := [some (va_rf (some m)), some (.int x1), some (.int ((σ.1 fX3_piled) - 1)), some (.int v67), some (.int v68)]) dX3_work_449 (Nat.le_of_ble_eq_true rfl) rfl (ch_iload_n 3 _ dX3_work_451 rfl (cp_if_ne _ (tgt := 483) dX3_work_452 rfl h (fun h => ?_) (fun h => ?_)))
    · exact ch_FT.wk (ch_wS (ch_wS (ch_wN (ch_wS (ch_wS ch_w0))))) (s_X3_work_483  h hk)
    · refine ch_aload_n 0 (some m) dX3_work_455 rfl (mp_gA 19 dX3_work_456 fl_X3_34 rfl (ch_iload_n 1 _ dX3_work_459 rfl (mp_iald dX3_work_460 mk_19 h (fun v69 h => ?_))))
      refine ch_bipush _ 47 dX3_work_461 rfl (cp_icmp_eq _ _ (tgt := 477) dX3_work_463 rfl h (fun h => ?_) (fun h => ?_))
      · exact ch_FT.wk (ch_wS (ch_wN (ch_wN (ch_wN (ch_wN ch_w0))))) (s_X3_work_477  h hk)
      · refine ch_aload_n 0 (some m) dX3_work_466 rfl (mp_gA 19 dX3_work_467 fl_X3_34 rfl (ch_iload_n 1 _ dX3_work_470 rfl (mp_iald dX3_work_471 mk_19 h (fun v70 h => ?_))))
        refine ch_bipush _ 37 dX3_work_472 rfl (cp_icmp_ne _ _ (tgt := 483) dX3_work_474 rfl h (fun h => ?_) (fun h => ?_))
        · exact ch_FT.wk (ch_wS (ch_wS (ch_wN (ch_wS (ch_wS ch_w0))))) (s_X3_work_483  h hk)
        · exact ch_FT.wk (ch_wS (ch_wN (ch_wN (ch_wN (ch_wN ch_w0))))) (s_X3_work_477  h hk)
  replace h := ch_ifF e11 h
  by_cases e12 : v1 = 18
  · have h := ch_ifT e12 h
    refine ch_tableIn _ (off := 67) (tgt := 80) dX3_work_13 (by rw [e12]; decide) (by rw [e12]; decide) (by rw [e12]; rfl) rfl ?_
    refine ch_aload_n 0 (some m) dX3_work_80 rfl (mp_gA 101 dX3_work_81 fl_X3_198 rfl (ch_iload_n 2 _ dX3_work_84 rfl (mp_iald dX3_work_85 mk_101 h (fun v71 h => ?_))))
    refine ch_istore_n 3 _ (ls1 := [some (va_rf (some m)), some (.int x1), some (.int ((σ.1 fX3_piled) - 1)), some (.int v71), none]) dX3_work_86 (Nat.le_of_ble_eq_true rfl) rfl (ch_iload_n 3 _ dX3_work_87 rfl (cp_if_ge _ (tgt := 97) dX3_work_88 rfl h (fun h => ?_) (fun h => ?_)))
    · refine ch_aload_n 0 (some m) dX3_work_97 rfl (mp_gA 84 dX3_work_98 fl_X3_157 rfl (ch_iload_n 3 _ dX3_work_101 rfl (mp_iald dX3_work_102 mk_84 h (fun v72 h => ?_))))
      refine ch_aload_n 0 (some m) dX3_work_103 rfl (mp_gA 19 dX3_work_104 fl_X3_34 rfl (ch_iload_n 1 _ dX3_work_107 rfl (mp_iald dX3_work_108 mk_19 h (fun v73 h => ?_))))
      refine ch_iadd _ _ dX3_work_109 (ch_istore 4 _ (ls1 := [some (va_rf (some m)), some (.int x1), some (.int ((σ.1 fX3_piled) - 1)), some (.int v71), some (.int (v72 + v73))]) dX3_work_110 (Nat.le_of_ble_eq_true rfl) rfl (ch_aload_n 0 (some m) dX3_work_112 rfl (ch_dup dX3_work_113 (ch_cat _) (mp_gI 100 dX3_work_114 fl_X3_560 rfl (ch_iconst _ 1 dX3_work_117 rfl (ch_isub _ _ dX3_work_118 (mp_pI (k := 100) dX3_work_119 fl_X3_560 rfl rfl rfl h (fun σ74 h => ?_))))))))
      refine ch_aload_n 0 (some m) dX3_work_122 rfl (mp_gA 16 dX3_work_123 fl_X3_25 rfl (ch_iload_n 1 _ dX3_work_126 rfl (mp_iald dX3_work_127 mk_16 h (fun v75 h => ?_))))
      refine ch_bipush _ 18 dX3_work_128 rfl (cp_icmp_ne _ _ (tgt := 147) dX3_work_130 rfl h (fun h => ?_) (fun h => ?_))
      · refine ch_aload_n 0 (some m) dX3_work_147 rfl (ch_aload_n 0 (some m) dX3_work_148 rfl (mp_gA 91 dX3_work_149 fl_X3_172 rfl (ch_iload 4 _ dX3_work_152 rfl (mp_iald dX3_work_154 mk_91 h (fun v76 h => ?_)))))
        refine ch_aload_n 0 (some m) dX3_work_155 rfl (mp_gA 92 dX3_work_156 fl_X3_175 rfl (ch_iload 4 _ dX3_work_159 rfl (mp_zald dX3_work_161 mk_92 h (fun v77 h => ?_))))
        obtain ⟨p78, hp79, h⟩ := ch_bd h
        refine ch_iv yX3_push prog_14_method_82_code 3 none (ci := 3) (q := (RX3, TX3, 109)) (b := m) (d' := 2) (av := [.int v76, .int v77]) (rest := []) rfl dX3_work_162 q2243 q2245 rfl qs182 q2246 can_X3_push (Nat.le_of_ble_eq_true rfl) (Nat.le_of_ble_eq_true rfl) ch_put_tag (cp_kV (w1 := ch_put m w p78) (fun Q' hq => s_X3_push hp79 hq) ?_)
        obtain rfl := Option.some.inj h
        exact ch_goto 510 dX3_work_165 rfl (ch_return dX3_work_510 rfl hk)
      · refine ch_aload_n 0 (some m) dX3_work_133 rfl (ch_aload_n 0 (some m) dX3_work_134 rfl (mp_gA 85 dX3_work_135 fl_X3_160 rfl (ch_iload_n 3 _ dX3_work_138 rfl (mp_iald dX3_work_139 mk_85 h (fun v80 h => ?_)))))
        obtain ⟨p81, hp82, h⟩ := ch_bd h
        refine ch_iconst _ 0 dX3_work_140 rfl (ch_iv yX3_push prog_14_method_82_code 3 none (ci := 3) (q := (RX3, TX3, 109)) (b := m) (d' := 2) (av := [.int v80, .int 0]) (rest := []) rfl dX3_work_141 q2243 q2245 rfl qs182 q2246 can_X3_push (Nat.le_of_ble_eq_true rfl) (Nat.le_of_ble_eq_true rfl) ch_put_tag (cp_kV (w1 := ch_put m w p81) (fun Q' hq => s_X3_push hp82 hq) ?_))
        obtain rfl := Option.some.inj h
        exact ch_goto 510 dX3_work_144 rfl (ch_return dX3_work_510 rfl hk)
    · obtain ⟨p83, hp84, h⟩ := ch_bd h
      refine ch_aload_n 0 (some m) dX3_work_91 rfl (ch_iconst _ 0 dX3_work_92 rfl (ch_iv yX3_faults prog_14_method_86_code 2 none (ci := 3) (q := (RX3, TX3, 109)) (b := m) (d' := 4) (av := [.int 0]) (rest := []) rfl dX3_work_93 q2279 q2281 rfl qs191 q2282 can_X3_faults (Nat.le_of_ble_eq_true rfl) (Nat.le_of_ble_eq_true rfl) ch_put_tag (cp_kV (w1 := ch_put m w p83) (fun Q' hq => s_X3_faults hp84 hq) ?_)))
      obtain rfl := Option.some.inj h
      exact ch_return dX3_work_96 rfl hk
  replace h := ch_ifF e12 h
  refine ch_tableOut _ (tgt := 434) dX3_work_13 (by have t0 := ch_ne (n := 6) e0 rfl; have t1 := ch_ne (n := 7) e1 rfl; have t2 := ch_ne (n := 8) e2 rfl; have t3 := ch_ne (n := 9) e3 rfl; have t4 := ch_ne (n := 10) e4 rfl; have t5 := ch_ne (n := 11) e5 rfl; have t6 := ch_ne (n := 12) e6 rfl; have t7 := ch_ne (n := 13) e7 rfl; have t8 := ch_ne (n := 14) e8 rfl; have t9 := ch_ne (n := 15) e9 rfl; have t10 := ch_ne (n := 16) e10 rfl; have t11 := ch_ne (n := 17) e11 rfl; have t12 := ch_ne (n := 18) e12 rfl; omega) rfl ?_
  refine ch_aload_n 0 (some m) dX3_work_434 rfl (mp_gA 101 dX3_work_435 fl_X3_198 rfl (ch_iload_n 2 _ dX3_work_438 rfl (mp_iald dX3_work_439 mk_101 h (fun v2 h => ?_))))
  refine ch_istore_n 3 _ (ls1 := [some (va_rf (some m)), some (.int x1), some (.int ((σ.1 fX3_piled) - 1)), some (.int v2), none]) dX3_work_440 (Nat.le_of_ble_eq_true rfl) rfl (ch_aload_n 0 (some m) dX3_work_441 rfl (mp_gA 101 dX3_work_442 fl_X3_198 rfl (ch_iload_n 2 _ dX3_work_445 rfl (ch_iconst _ 1 dX3_work_446 rfl (ch_isub _ _ dX3_work_447 (mp_iald dX3_work_448 mk_101 h (fun v3 h => ?_)))))))
  refine ch_istore 4 _ (ls1 := [some (va_rf (some m)), some (.int x1), some (.int ((σ.1 fX3_piled) - 1)), some (.int v2), some (.int v3)]) dX3_work_449 (Nat.le_of_ble_eq_true rfl) rfl (ch_iload_n 3 _ dX3_work_451 rfl (cp_if_ne _ (tgt := 483) dX3_work_452 rfl h (fun h => ?_) (fun h => ?_)))
  · exact ch_FT.wk (ch_wS (ch_wS (ch_wN (ch_wS (ch_wS ch_w0))))) (s_X3_work_483  h hk)
  · refine ch_aload_n 0 (some m) dX3_work_455 rfl (mp_gA 19 dX3_work_456 fl_X3_34 rfl (ch_iload_n 1 _ dX3_work_459 rfl (mp_iald dX3_work_460 mk_19 h (fun v4 h => ?_))))
    refine ch_bipush _ 47 dX3_work_461 rfl (cp_icmp_eq _ _ (tgt := 477) dX3_work_463 rfl h (fun h => ?_) (fun h => ?_))
    · exact ch_FT.wk (ch_wS (ch_wN (ch_wN (ch_wN (ch_wN ch_w0))))) (s_X3_work_477  h hk)
    · refine ch_aload_n 0 (some m) dX3_work_466 rfl (mp_gA 19 dX3_work_467 fl_X3_34 rfl (ch_iload_n 1 _ dX3_work_470 rfl (mp_iald dX3_work_471 mk_19 h (fun v5 h => ?_))))
      refine ch_bipush _ 37 dX3_work_472 rfl (cp_icmp_ne _ _ (tgt := 483) dX3_work_474 rfl h (fun h => ?_) (fun h => ?_))
      · exact ch_FT.wk (ch_wS (ch_wS (ch_wN (ch_wS (ch_wS ch_w0))))) (s_X3_work_483  h hk)
      · exact ch_FT.wk (ch_wS (ch_wN (ch_wN (ch_wN (ch_wN ch_w0))))) (s_X3_work_477  h hk)

theorem bX3_half_0 : ch_ck cX3_half 0 [42, 180, 0, 25, 27, 46, 16, 16, 160, 0, 25, 42, 180, 0, 198, 42] := ch_ckof (by decide +kernel)
theorem bX3_half_1 : ch_ck cX3_half 16 [180, 2, 48, 4, 100, 46, 154, 0, 7, 4, 167, 0, 27, 3, 167, 0] := ch_ckof (by decide +kernel)
theorem bX3_half_2 : ch_ck cX3_half 32 [23, 42, 180, 0, 198, 42, 180, 2, 48, 4, 100, 46, 4, 160, 0, 7] := ch_ckof (by decide +kernel)
theorem bX3_half_3 : ch_ck cX3_half 48 [4, 167, 0, 4, 3, 61, 28, 153, 0, 4, 177, 42, 89, 180, 2, 48] := ch_ckof (by decide +kernel)
theorem bX3_half_4 : ch_ck cX3_half 64 [4, 100, 181, 2, 48, 42, 3, 42, 180, 0, 31, 27, 46, 182, 2, 84] := ch_ckof (by decide +kernel)
theorem bX3_half_5 : ch_ck cX3_half 80 [177] := ch_ckof (by decide +kernel)
theorem dX3_half_0 : decode cX3_half 0 = .ok (.aload_n 0, 1) := dz_42 (bX3_half_0 0 _ rfl)
theorem dX3_half_1 : decode cX3_half 1 = .ok (.getfield 25, 3) := dz_180 (bX3_half_0 1 _ rfl) (bX3_half_0 2 _ rfl) (bX3_half_0 3 _ rfl)
theorem dX3_half_4 : decode cX3_half 4 = .ok (.iload_n 1, 1) := dz_27 (bX3_half_0 4 _ rfl)
theorem dX3_half_5 : decode cX3_half 5 = .ok (.iaload, 1) := dz_46 (bX3_half_0 5 _ rfl)
theorem dX3_half_6 : decode cX3_half 6 = .ok (.bipush 16, 2) := dz_16 (bX3_half_0 6 _ rfl) (bX3_half_0 7 _ rfl)
theorem dX3_half_8 : decode cX3_half 8 = .ok (.if_icmp .ne 25, 3) := dz_160 (bX3_half_0 8 _ rfl) (bX3_half_0 9 _ rfl) (bX3_half_0 10 _ rfl)
theorem dX3_half_11 : decode cX3_half 11 = .ok (.aload_n 0, 1) := dz_42 (bX3_half_0 11 _ rfl)
theorem dX3_half_12 : decode cX3_half 12 = .ok (.getfield 198, 3) := dz_180 (bX3_half_0 12 _ rfl) (bX3_half_0 13 _ rfl) (bX3_half_0 14 _ rfl)
theorem dX3_half_15 : decode cX3_half 15 = .ok (.aload_n 0, 1) := dz_42 (bX3_half_0 15 _ rfl)
theorem dX3_half_16 : decode cX3_half 16 = .ok (.getfield 560, 3) := dz_180 (bX3_half_1 0 _ rfl) (bX3_half_1 1 _ rfl) (bX3_half_1 2 _ rfl)
theorem dX3_half_19 : decode cX3_half 19 = .ok (.iconst 1, 1) := dz_4 (bX3_half_1 3 _ rfl)
theorem dX3_half_20 : decode cX3_half 20 = .ok (.isub, 1) := dz_100 (bX3_half_1 4 _ rfl)
theorem dX3_half_21 : decode cX3_half 21 = .ok (.iaload, 1) := dz_46 (bX3_half_1 5 _ rfl)
theorem dX3_half_22 : decode cX3_half 22 = .ok (.ifCond .ne 7, 3) := dz_154 (bX3_half_1 6 _ rfl) (bX3_half_1 7 _ rfl) (bX3_half_1 8 _ rfl)
theorem dX3_half_25 : decode cX3_half 25 = .ok (.iconst 1, 1) := dz_4 (bX3_half_1 9 _ rfl)
theorem dX3_half_26 : decode cX3_half 26 = .ok (.goto 27, 3) := dz_167 (bX3_half_1 10 _ rfl) (bX3_half_1 11 _ rfl) (bX3_half_1 12 _ rfl)
theorem dX3_half_29 : decode cX3_half 29 = .ok (.iconst 0, 1) := dz_3 (bX3_half_1 13 _ rfl)
theorem dX3_half_30 : decode cX3_half 30 = .ok (.goto 23, 3) := dz_167 (bX3_half_1 14 _ rfl) (bX3_half_1 15 _ rfl) (bX3_half_2 0 _ rfl)
theorem dX3_half_33 : decode cX3_half 33 = .ok (.aload_n 0, 1) := dz_42 (bX3_half_2 1 _ rfl)
theorem dX3_half_34 : decode cX3_half 34 = .ok (.getfield 198, 3) := dz_180 (bX3_half_2 2 _ rfl) (bX3_half_2 3 _ rfl) (bX3_half_2 4 _ rfl)
theorem dX3_half_37 : decode cX3_half 37 = .ok (.aload_n 0, 1) := dz_42 (bX3_half_2 5 _ rfl)
theorem dX3_half_38 : decode cX3_half 38 = .ok (.getfield 560, 3) := dz_180 (bX3_half_2 6 _ rfl) (bX3_half_2 7 _ rfl) (bX3_half_2 8 _ rfl)
theorem dX3_half_41 : decode cX3_half 41 = .ok (.iconst 1, 1) := dz_4 (bX3_half_2 9 _ rfl)
theorem dX3_half_42 : decode cX3_half 42 = .ok (.isub, 1) := dz_100 (bX3_half_2 10 _ rfl)
theorem dX3_half_43 : decode cX3_half 43 = .ok (.iaload, 1) := dz_46 (bX3_half_2 11 _ rfl)
theorem dX3_half_44 : decode cX3_half 44 = .ok (.iconst 1, 1) := dz_4 (bX3_half_2 12 _ rfl)
theorem dX3_half_45 : decode cX3_half 45 = .ok (.if_icmp .ne 7, 3) := dz_160 (bX3_half_2 13 _ rfl) (bX3_half_2 14 _ rfl) (bX3_half_2 15 _ rfl)
theorem dX3_half_48 : decode cX3_half 48 = .ok (.iconst 1, 1) := dz_4 (bX3_half_3 0 _ rfl)
theorem dX3_half_49 : decode cX3_half 49 = .ok (.goto 4, 3) := dz_167 (bX3_half_3 1 _ rfl) (bX3_half_3 2 _ rfl) (bX3_half_3 3 _ rfl)
theorem dX3_half_52 : decode cX3_half 52 = .ok (.iconst 0, 1) := dz_3 (bX3_half_3 4 _ rfl)
theorem dX3_half_53 : decode cX3_half 53 = .ok (.istore_n 2, 1) := dz_61 (bX3_half_3 5 _ rfl)
theorem dX3_half_54 : decode cX3_half 54 = .ok (.iload_n 2, 1) := dz_28 (bX3_half_3 6 _ rfl)
theorem dX3_half_55 : decode cX3_half 55 = .ok (.ifCond .eq 4, 3) := dz_153 (bX3_half_3 7 _ rfl) (bX3_half_3 8 _ rfl) (bX3_half_3 9 _ rfl)
theorem dX3_half_58 : decode cX3_half 58 = .ok (.return_, 1) := dz_177 (bX3_half_3 10 _ rfl)
theorem dX3_half_59 : decode cX3_half 59 = .ok (.aload_n 0, 1) := dz_42 (bX3_half_3 11 _ rfl)
theorem dX3_half_60 : decode cX3_half 60 = .ok (.dup, 1) := dz_89 (bX3_half_3 12 _ rfl)
theorem dX3_half_61 : decode cX3_half 61 = .ok (.getfield 560, 3) := dz_180 (bX3_half_3 13 _ rfl) (bX3_half_3 14 _ rfl) (bX3_half_3 15 _ rfl)
theorem dX3_half_64 : decode cX3_half 64 = .ok (.iconst 1, 1) := dz_4 (bX3_half_4 0 _ rfl)
theorem dX3_half_65 : decode cX3_half 65 = .ok (.isub, 1) := dz_100 (bX3_half_4 1 _ rfl)
theorem dX3_half_66 : decode cX3_half 66 = .ok (.putfield 560, 3) := dz_181 (bX3_half_4 2 _ rfl) (bX3_half_4 3 _ rfl) (bX3_half_4 4 _ rfl)
theorem dX3_half_69 : decode cX3_half 69 = .ok (.aload_n 0, 1) := dz_42 (bX3_half_4 5 _ rfl)
theorem dX3_half_70 : decode cX3_half 70 = .ok (.iconst 0, 1) := dz_3 (bX3_half_4 6 _ rfl)
theorem dX3_half_71 : decode cX3_half 71 = .ok (.aload_n 0, 1) := dz_42 (bX3_half_4 7 _ rfl)
theorem dX3_half_72 : decode cX3_half 72 = .ok (.getfield 31, 3) := dz_180 (bX3_half_4 8 _ rfl) (bX3_half_4 9 _ rfl) (bX3_half_4 10 _ rfl)
theorem dX3_half_75 : decode cX3_half 75 = .ok (.iload_n 1, 1) := dz_27 (bX3_half_4 11 _ rfl)
theorem dX3_half_76 : decode cX3_half 76 = .ok (.iaload, 1) := dz_46 (bX3_half_4 12 _ rfl)
theorem dX3_half_77 : decode cX3_half 77 = .ok (.invokevirtual 596, 3) := dz_182 (bX3_half_4 13 _ rfl) (bX3_half_4 14 _ rfl) (bX3_half_4 15 _ rfl)
theorem dX3_half_80 : decode cX3_half 80 = .ok (.return_, 1) := dz_177 (bX3_half_5 0 _ rfl)
def m_X3_half_53 (x1 : Int32) (y0 : Int32) (σ : ch_S) : Option (ch_S) := if y0 = 0 then ((ch_mI σ fX3_piled ((σ.1 fX3_piled) - 1)).bind fun σ1 => (ch_ma σ1 fX3_two x1).bind fun v2 => (m_X3_todo 0 v2 σ1).bind fun p3 => some (p3)) else (some (σ))
theorem s_X3_half_53 {g : State} {m : Nat} {w : ch_W} {x1 : Int32} {y0 : Int32} {σ : ch_S} {res : ch_S} {Q : Outcome → ch_W → Prop} (h : m_X3_half_53 x1 y0 σ = some res) (hk : (fun r => ch_eV Q (ch_put m w r)) res) : ch_FT g false mX3_half 3 53 [some (va_rf (some m)), some (.int x1), none] [.int y0] (ch_put m w σ) Q := by
  unfold m_X3_half_53 at h
  refine ch_istore_n 2 _ (ls1 := [some (va_rf (some m)), some (.int x1), some (.int y0)]) dX3_half_53 (Nat.le_of_ble_eq_true rfl) rfl (ch_iload_n 2 _ dX3_half_54 rfl (cp_if_eq _ (tgt := 59) dX3_half_55 rfl h (fun h => ?_) (fun h => ?_)))
  · refine ch_aload_n 0 (some m) dX3_half_59 rfl (ch_dup dX3_half_60 (ch_cat _) (mp_gI 100 dX3_half_61 fl_X3_560 rfl (ch_iconst _ 1 dX3_half_64 rfl (ch_isub _ _ dX3_half_65 (mp_pI (k := 100) dX3_half_66 fl_X3_560 rfl rfl rfl h (fun σ1 h => ?_))))))
    refine ch_aload_n 0 (some m) dX3_half_69 rfl (ch_iconst _ 0 dX3_half_70 rfl (ch_aload_n 0 (some m) dX3_half_71 rfl (mp_gA 18 dX3_half_72 fl_X3_31 rfl (ch_iload_n 1 _ dX3_half_75 rfl (mp_iald dX3_half_76 mk_18 h (fun v2 h => ?_))))))
    obtain ⟨p3, hp4, h⟩ := ch_bd h
    refine ch_iv yX3_todo prog_14_method_83_code 3 none (ci := 3) (q := (RX3, TX3, 109)) (b := m) (d' := 2) (av := [.int 0, .int v2]) (rest := []) rfl dX3_half_77 q2206 q2208 rfl qs174 q2209 can_X3_todo (Nat.le_of_ble_eq_true rfl) (Nat.le_of_ble_eq_true rfl) ch_put_tag (cp_kV (w1 := ch_put m w p3) (fun Q' hq => s_X3_todo hp4 hq) ?_)
    obtain rfl := Option.some.inj h
    exact ch_return dX3_half_80 rfl hk
  · obtain rfl := Option.some.inj h
    exact ch_return dX3_half_58 rfl hk

def m_X3_half (x1 : Int32) (σ : ch_S) : Option (ch_S) := (ch_ma σ fX3_is x1).bind fun v1 => if v1 = 16 then ((ch_ma σ fX3_pile ((σ.1 fX3_piled) - 1)).bind fun v3 => if v3 = 0 then (m_X3_half_53 x1 1 σ) else (m_X3_half_53 x1 0 σ)) else ((ch_ma σ fX3_pile ((σ.1 fX3_piled) - 1)).bind fun v2 => if v2 = 1 then (m_X3_half_53 x1 1 σ) else (m_X3_half_53 x1 0 σ))
theorem s_X3_half {g : State} {m : Nat} {w : ch_W} {x1 : Int32} {σ : ch_S} {res : ch_S} {Q : Outcome → ch_W → Prop} (h : m_X3_half x1 σ = some res) (hk : (fun r => ch_eV Q (ch_put m w r)) res) : ch_CT g false yX3_half 3 [.ref m, .int x1] (ch_put m w σ) Q := by
  unfold m_X3_half at h
  refine ch_ctL mX3_half (ls := [some (va_rf (some m)), some (.int x1), none]) q2301 rfl (ch_lyr (r := some m) (ch_lyi ch_ly0)) (Nat.le_of_ble_eq_true rfl) rfl ?_
  refine ch_aload_n 0 (some m) dX3_half_0 rfl (mp_gA 16 dX3_half_1 fl_X3_25 rfl (ch_iload_n 1 _ dX3_half_4 rfl (mp_iald dX3_half_5 mk_16 h (fun v1 h => ?_))))
  refine ch_bipush _ 16 dX3_half_6 rfl (cp_icmp_ne _ _ (tgt := 33) dX3_half_8 rfl h (fun h => ?_) (fun h => ?_))
  · refine ch_aload_n 0 (some m) dX3_half_33 rfl (mp_gA 101 dX3_half_34 fl_X3_198 rfl (ch_aload_n 0 (some m) dX3_half_37 rfl (mp_gI 100 dX3_half_38 fl_X3_560 rfl (ch_iconst _ 1 dX3_half_41 rfl (ch_isub _ _ dX3_half_42 (mp_iald dX3_half_43 mk_101 h (fun v2 h => ?_)))))))
    refine ch_iconst _ 1 dX3_half_44 rfl (cp_icmp_ne _ _ (tgt := 52) dX3_half_45 rfl h (fun h => ?_) (fun h => ?_))
    · exact ch_iconst _ 0 dX3_half_52 rfl (ch_FT.wk (ch_wS (ch_wS (ch_wN ch_w0))) (s_X3_half_53  h hk))
    · exact ch_iconst _ 1 dX3_half_48 rfl (ch_goto 53 dX3_half_49 rfl (ch_FT.wk (ch_wS (ch_wS (ch_wN ch_w0))) (s_X3_half_53  h hk)))
  · refine ch_aload_n 0 (some m) dX3_half_11 rfl (mp_gA 101 dX3_half_12 fl_X3_198 rfl (ch_aload_n 0 (some m) dX3_half_15 rfl (mp_gI 100 dX3_half_16 fl_X3_560 rfl (ch_iconst _ 1 dX3_half_19 rfl (ch_isub _ _ dX3_half_20 (mp_iald dX3_half_21 mk_101 h (fun v3 h => ?_)))))))
    refine cp_if_ne _ (tgt := 29) dX3_half_22 rfl h (fun h => ?_) (fun h => ?_)
    · exact ch_iconst _ 0 dX3_half_29 rfl (ch_goto 53 dX3_half_30 rfl (ch_FT.wk (ch_wS (ch_wS (ch_wN ch_w0))) (s_X3_half_53  h hk)))
    · exact ch_iconst _ 1 dX3_half_25 rfl (ch_goto 53 dX3_half_26 rfl (ch_FT.wk (ch_wS (ch_wS (ch_wN ch_w0))) (s_X3_half_53  h hk)))

theorem bX3_returns_0 : ch_ck cX3_returns 0 [42, 180, 0, 55, 27, 46, 155, 0, 7, 4, 167, 0, 4, 3, 61, 28] := ch_ckof (by decide +kernel)
theorem bX3_returns_1 : ch_ck cX3_returns 16 [153, 0, 17, 42, 180, 0, 198, 42, 180, 2, 48, 4, 100, 46, 167, 0] := ch_ckof (by decide +kernel)
theorem bX3_returns_2 : ch_ck cX3_returns 32 [4, 3, 62, 28, 153, 0, 21, 42, 180, 0, 201, 42, 180, 2, 48, 4] := ch_ckof (by decide +kernel)
theorem bX3_returns_3 : ch_ck cX3_returns 48 [100, 51, 153, 0, 7, 4, 167, 0, 4, 3, 54, 4, 42, 180, 0, 205] := ch_ckof (by decide +kernel)
theorem bX3_returns_4 : ch_ck cX3_returns 64 [42, 180, 2, 72, 4, 100, 46, 16, 8, 159, 0, 40, 42, 89, 180, 2] := ch_ckof (by decide +kernel)
theorem bX3_returns_5 : ch_ck cX3_returns 80 [72, 4, 100, 181, 2, 72, 42, 180, 0, 205, 42, 180, 2, 72, 46, 16] := ch_ckof (by decide +kernel)
theorem bX3_returns_6 : ch_ck cX3_returns 96 [7, 160, 255, 219, 42, 89, 180, 2, 81, 4, 100, 181, 2, 81, 167, 255] := ch_ckof (by decide +kernel)
theorem bX3_returns_7 : ch_ck cX3_returns 112 [206, 42, 89, 180, 2, 72, 4, 100, 181, 2, 72, 42, 89, 180, 2, 42] := ch_ckof (by decide +kernel)
theorem bX3_returns_8 : ch_ck cX3_returns 128 [4, 100, 181, 2, 42, 42, 180, 2, 42, 154, 0, 14, 42, 29, 181, 2] := ch_ckof (by decide +kernel)
theorem bX3_returns_9 : ch_ck cX3_returns 144 [90, 42, 4, 182, 2, 93, 177, 42, 42, 180, 0, 187, 42, 180, 2, 42] := ch_ckof (by decide +kernel)
theorem bX3_returns_10 : ch_ck cX3_returns 160 [46, 181, 2, 48, 28, 153, 0, 10, 42, 29, 21, 4, 182, 2, 111, 177] := ch_ckof (by decide +kernel)
theorem dX3_returns_0 : decode cX3_returns 0 = .ok (.aload_n 0, 1) := dz_42 (bX3_returns_0 0 _ rfl)
theorem dX3_returns_1 : decode cX3_returns 1 = .ok (.getfield 55, 3) := dz_180 (bX3_returns_0 1 _ rfl) (bX3_returns_0 2 _ rfl) (bX3_returns_0 3 _ rfl)
theorem dX3_returns_4 : decode cX3_returns 4 = .ok (.iload_n 1, 1) := dz_27 (bX3_returns_0 4 _ rfl)
theorem dX3_returns_5 : decode cX3_returns 5 = .ok (.iaload, 1) := dz_46 (bX3_returns_0 5 _ rfl)
theorem dX3_returns_6 : decode cX3_returns 6 = .ok (.ifCond .lt 7, 3) := dz_155 (bX3_returns_0 6 _ rfl) (bX3_returns_0 7 _ rfl) (bX3_returns_0 8 _ rfl)
theorem dX3_returns_9 : decode cX3_returns 9 = .ok (.iconst 1, 1) := dz_4 (bX3_returns_0 9 _ rfl)
theorem dX3_returns_10 : decode cX3_returns 10 = .ok (.goto 4, 3) := dz_167 (bX3_returns_0 10 _ rfl) (bX3_returns_0 11 _ rfl) (bX3_returns_0 12 _ rfl)
theorem dX3_returns_13 : decode cX3_returns 13 = .ok (.iconst 0, 1) := dz_3 (bX3_returns_0 13 _ rfl)
theorem dX3_returns_14 : decode cX3_returns 14 = .ok (.istore_n 2, 1) := dz_61 (bX3_returns_0 14 _ rfl)
theorem dX3_returns_15 : decode cX3_returns 15 = .ok (.iload_n 2, 1) := dz_28 (bX3_returns_0 15 _ rfl)
theorem dX3_returns_16 : decode cX3_returns 16 = .ok (.ifCond .eq 17, 3) := dz_153 (bX3_returns_1 0 _ rfl) (bX3_returns_1 1 _ rfl) (bX3_returns_1 2 _ rfl)
theorem dX3_returns_19 : decode cX3_returns 19 = .ok (.aload_n 0, 1) := dz_42 (bX3_returns_1 3 _ rfl)
theorem dX3_returns_20 : decode cX3_returns 20 = .ok (.getfield 198, 3) := dz_180 (bX3_returns_1 4 _ rfl) (bX3_returns_1 5 _ rfl) (bX3_returns_1 6 _ rfl)
theorem dX3_returns_23 : decode cX3_returns 23 = .ok (.aload_n 0, 1) := dz_42 (bX3_returns_1 7 _ rfl)
theorem dX3_returns_24 : decode cX3_returns 24 = .ok (.getfield 560, 3) := dz_180 (bX3_returns_1 8 _ rfl) (bX3_returns_1 9 _ rfl) (bX3_returns_1 10 _ rfl)
theorem dX3_returns_27 : decode cX3_returns 27 = .ok (.iconst 1, 1) := dz_4 (bX3_returns_1 11 _ rfl)
theorem dX3_returns_28 : decode cX3_returns 28 = .ok (.isub, 1) := dz_100 (bX3_returns_1 12 _ rfl)
theorem dX3_returns_29 : decode cX3_returns 29 = .ok (.iaload, 1) := dz_46 (bX3_returns_1 13 _ rfl)
theorem dX3_returns_30 : decode cX3_returns 30 = .ok (.goto 4, 3) := dz_167 (bX3_returns_1 14 _ rfl) (bX3_returns_1 15 _ rfl) (bX3_returns_2 0 _ rfl)
theorem dX3_returns_33 : decode cX3_returns 33 = .ok (.iconst 0, 1) := dz_3 (bX3_returns_2 1 _ rfl)
theorem dX3_returns_34 : decode cX3_returns 34 = .ok (.istore_n 3, 1) := dz_62 (bX3_returns_2 2 _ rfl)
theorem dX3_returns_35 : decode cX3_returns 35 = .ok (.iload_n 2, 1) := dz_28 (bX3_returns_2 3 _ rfl)
theorem dX3_returns_36 : decode cX3_returns 36 = .ok (.ifCond .eq 21, 3) := dz_153 (bX3_returns_2 4 _ rfl) (bX3_returns_2 5 _ rfl) (bX3_returns_2 6 _ rfl)
theorem dX3_returns_39 : decode cX3_returns 39 = .ok (.aload_n 0, 1) := dz_42 (bX3_returns_2 7 _ rfl)
theorem dX3_returns_40 : decode cX3_returns 40 = .ok (.getfield 201, 3) := dz_180 (bX3_returns_2 8 _ rfl) (bX3_returns_2 9 _ rfl) (bX3_returns_2 10 _ rfl)
theorem dX3_returns_43 : decode cX3_returns 43 = .ok (.aload_n 0, 1) := dz_42 (bX3_returns_2 11 _ rfl)
theorem dX3_returns_44 : decode cX3_returns 44 = .ok (.getfield 560, 3) := dz_180 (bX3_returns_2 12 _ rfl) (bX3_returns_2 13 _ rfl) (bX3_returns_2 14 _ rfl)
theorem dX3_returns_47 : decode cX3_returns 47 = .ok (.iconst 1, 1) := dz_4 (bX3_returns_2 15 _ rfl)
theorem dX3_returns_48 : decode cX3_returns 48 = .ok (.isub, 1) := dz_100 (bX3_returns_3 0 _ rfl)
theorem dX3_returns_49 : decode cX3_returns 49 = .ok (.baload, 1) := dz_51 (bX3_returns_3 1 _ rfl)
theorem dX3_returns_50 : decode cX3_returns 50 = .ok (.ifCond .eq 7, 3) := dz_153 (bX3_returns_3 2 _ rfl) (bX3_returns_3 3 _ rfl) (bX3_returns_3 4 _ rfl)
theorem dX3_returns_53 : decode cX3_returns 53 = .ok (.iconst 1, 1) := dz_4 (bX3_returns_3 5 _ rfl)
theorem dX3_returns_54 : decode cX3_returns 54 = .ok (.goto 4, 3) := dz_167 (bX3_returns_3 6 _ rfl) (bX3_returns_3 7 _ rfl) (bX3_returns_3 8 _ rfl)
theorem dX3_returns_57 : decode cX3_returns 57 = .ok (.iconst 0, 1) := dz_3 (bX3_returns_3 9 _ rfl)
theorem dX3_returns_58 : decode cX3_returns 58 = .ok (.istore 4, 2) := dz_54 (bX3_returns_3 10 _ rfl) (bX3_returns_3 11 _ rfl)
theorem dX3_returns_60 : decode cX3_returns 60 = .ok (.aload_n 0, 1) := dz_42 (bX3_returns_3 12 _ rfl)
theorem dX3_returns_61 : decode cX3_returns 61 = .ok (.getfield 205, 3) := dz_180 (bX3_returns_3 13 _ rfl) (bX3_returns_3 14 _ rfl) (bX3_returns_3 15 _ rfl)
theorem dX3_returns_64 : decode cX3_returns 64 = .ok (.aload_n 0, 1) := dz_42 (bX3_returns_4 0 _ rfl)
theorem dX3_returns_65 : decode cX3_returns 65 = .ok (.getfield 584, 3) := dz_180 (bX3_returns_4 1 _ rfl) (bX3_returns_4 2 _ rfl) (bX3_returns_4 3 _ rfl)
theorem dX3_returns_68 : decode cX3_returns 68 = .ok (.iconst 1, 1) := dz_4 (bX3_returns_4 4 _ rfl)
theorem dX3_returns_69 : decode cX3_returns 69 = .ok (.isub, 1) := dz_100 (bX3_returns_4 5 _ rfl)
theorem dX3_returns_70 : decode cX3_returns 70 = .ok (.iaload, 1) := dz_46 (bX3_returns_4 6 _ rfl)
theorem dX3_returns_71 : decode cX3_returns 71 = .ok (.bipush 8, 2) := dz_16 (bX3_returns_4 7 _ rfl) (bX3_returns_4 8 _ rfl)
theorem dX3_returns_73 : decode cX3_returns 73 = .ok (.if_icmp .eq 40, 3) := dz_159 (bX3_returns_4 9 _ rfl) (bX3_returns_4 10 _ rfl) (bX3_returns_4 11 _ rfl)
theorem dX3_returns_76 : decode cX3_returns 76 = .ok (.aload_n 0, 1) := dz_42 (bX3_returns_4 12 _ rfl)
theorem dX3_returns_77 : decode cX3_returns 77 = .ok (.dup, 1) := dz_89 (bX3_returns_4 13 _ rfl)
theorem dX3_returns_78 : decode cX3_returns 78 = .ok (.getfield 584, 3) := dz_180 (bX3_returns_4 14 _ rfl) (bX3_returns_4 15 _ rfl) (bX3_returns_5 0 _ rfl)
theorem dX3_returns_81 : decode cX3_returns 81 = .ok (.iconst 1, 1) := dz_4 (bX3_returns_5 1 _ rfl)
theorem dX3_returns_82 : decode cX3_returns 82 = .ok (.isub, 1) := dz_100 (bX3_returns_5 2 _ rfl)
theorem dX3_returns_83 : decode cX3_returns 83 = .ok (.putfield 584, 3) := dz_181 (bX3_returns_5 3 _ rfl) (bX3_returns_5 4 _ rfl) (bX3_returns_5 5 _ rfl)
theorem dX3_returns_86 : decode cX3_returns 86 = .ok (.aload_n 0, 1) := dz_42 (bX3_returns_5 6 _ rfl)
theorem dX3_returns_87 : decode cX3_returns 87 = .ok (.getfield 205, 3) := dz_180 (bX3_returns_5 7 _ rfl) (bX3_returns_5 8 _ rfl) (bX3_returns_5 9 _ rfl)
theorem dX3_returns_90 : decode cX3_returns 90 = .ok (.aload_n 0, 1) := dz_42 (bX3_returns_5 10 _ rfl)
theorem dX3_returns_91 : decode cX3_returns 91 = .ok (.getfield 584, 3) := dz_180 (bX3_returns_5 11 _ rfl) (bX3_returns_5 12 _ rfl) (bX3_returns_5 13 _ rfl)
theorem dX3_returns_94 : decode cX3_returns 94 = .ok (.iaload, 1) := dz_46 (bX3_returns_5 14 _ rfl)
theorem dX3_returns_95 : decode cX3_returns 95 = .ok (.bipush 7, 2) := dz_16 (bX3_returns_5 15 _ rfl) (bX3_returns_6 0 _ rfl)
theorem dX3_returns_97 : decode cX3_returns 97 = .ok (.if_icmp .ne (-37), 3) := dz_160 (bX3_returns_6 1 _ rfl) (bX3_returns_6 2 _ rfl) (bX3_returns_6 3 _ rfl)
theorem dX3_returns_100 : decode cX3_returns 100 = .ok (.aload_n 0, 1) := dz_42 (bX3_returns_6 4 _ rfl)
theorem dX3_returns_101 : decode cX3_returns 101 = .ok (.dup, 1) := dz_89 (bX3_returns_6 5 _ rfl)
theorem dX3_returns_102 : decode cX3_returns 102 = .ok (.getfield 593, 3) := dz_180 (bX3_returns_6 6 _ rfl) (bX3_returns_6 7 _ rfl) (bX3_returns_6 8 _ rfl)
theorem dX3_returns_105 : decode cX3_returns 105 = .ok (.iconst 1, 1) := dz_4 (bX3_returns_6 9 _ rfl)
theorem dX3_returns_106 : decode cX3_returns 106 = .ok (.isub, 1) := dz_100 (bX3_returns_6 10 _ rfl)
theorem dX3_returns_107 : decode cX3_returns 107 = .ok (.putfield 593, 3) := dz_181 (bX3_returns_6 11 _ rfl) (bX3_returns_6 12 _ rfl) (bX3_returns_6 13 _ rfl)
theorem dX3_returns_110 : decode cX3_returns 110 = .ok (.goto (-50), 3) := dz_167 (bX3_returns_6 14 _ rfl) (bX3_returns_6 15 _ rfl) (bX3_returns_7 0 _ rfl)
theorem dX3_returns_113 : decode cX3_returns 113 = .ok (.aload_n 0, 1) := dz_42 (bX3_returns_7 1 _ rfl)
theorem dX3_returns_114 : decode cX3_returns 114 = .ok (.dup, 1) := dz_89 (bX3_returns_7 2 _ rfl)
theorem dX3_returns_115 : decode cX3_returns 115 = .ok (.getfield 584, 3) := dz_180 (bX3_returns_7 3 _ rfl) (bX3_returns_7 4 _ rfl) (bX3_returns_7 5 _ rfl)
theorem dX3_returns_118 : decode cX3_returns 118 = .ok (.iconst 1, 1) := dz_4 (bX3_returns_7 6 _ rfl)
theorem dX3_returns_119 : decode cX3_returns 119 = .ok (.isub, 1) := dz_100 (bX3_returns_7 7 _ rfl)
theorem dX3_returns_120 : decode cX3_returns 120 = .ok (.putfield 584, 3) := dz_181 (bX3_returns_7 8 _ rfl) (bX3_returns_7 9 _ rfl) (bX3_returns_7 10 _ rfl)
theorem dX3_returns_123 : decode cX3_returns 123 = .ok (.aload_n 0, 1) := dz_42 (bX3_returns_7 11 _ rfl)
theorem dX3_returns_124 : decode cX3_returns 124 = .ok (.dup, 1) := dz_89 (bX3_returns_7 12 _ rfl)
theorem dX3_returns_125 : decode cX3_returns 125 = .ok (.getfield 554, 3) := dz_180 (bX3_returns_7 13 _ rfl) (bX3_returns_7 14 _ rfl) (bX3_returns_7 15 _ rfl)
theorem dX3_returns_128 : decode cX3_returns 128 = .ok (.iconst 1, 1) := dz_4 (bX3_returns_8 0 _ rfl)
theorem dX3_returns_129 : decode cX3_returns 129 = .ok (.isub, 1) := dz_100 (bX3_returns_8 1 _ rfl)
theorem dX3_returns_130 : decode cX3_returns 130 = .ok (.putfield 554, 3) := dz_181 (bX3_returns_8 2 _ rfl) (bX3_returns_8 3 _ rfl) (bX3_returns_8 4 _ rfl)
theorem dX3_returns_133 : decode cX3_returns 133 = .ok (.aload_n 0, 1) := dz_42 (bX3_returns_8 5 _ rfl)
theorem dX3_returns_134 : decode cX3_returns 134 = .ok (.getfield 554, 3) := dz_180 (bX3_returns_8 6 _ rfl) (bX3_returns_8 7 _ rfl) (bX3_returns_8 8 _ rfl)
theorem dX3_returns_137 : decode cX3_returns 137 = .ok (.ifCond .ne 14, 3) := dz_154 (bX3_returns_8 9 _ rfl) (bX3_returns_8 10 _ rfl) (bX3_returns_8 11 _ rfl)
theorem dX3_returns_140 : decode cX3_returns 140 = .ok (.aload_n 0, 1) := dz_42 (bX3_returns_8 12 _ rfl)
theorem dX3_returns_141 : decode cX3_returns 141 = .ok (.iload_n 3, 1) := dz_29 (bX3_returns_8 13 _ rfl)
theorem dX3_returns_142 : decode cX3_returns 142 = .ok (.putfield 602, 3) := dz_181 (bX3_returns_8 14 _ rfl) (bX3_returns_8 15 _ rfl) (bX3_returns_9 0 _ rfl)
theorem dX3_returns_145 : decode cX3_returns 145 = .ok (.aload_n 0, 1) := dz_42 (bX3_returns_9 1 _ rfl)
theorem dX3_returns_146 : decode cX3_returns 146 = .ok (.iconst 1, 1) := dz_4 (bX3_returns_9 2 _ rfl)
theorem dX3_returns_147 : decode cX3_returns 147 = .ok (.invokevirtual 605, 3) := dz_182 (bX3_returns_9 3 _ rfl) (bX3_returns_9 4 _ rfl) (bX3_returns_9 5 _ rfl)
theorem dX3_returns_150 : decode cX3_returns 150 = .ok (.return_, 1) := dz_177 (bX3_returns_9 6 _ rfl)
theorem dX3_returns_151 : decode cX3_returns 151 = .ok (.aload_n 0, 1) := dz_42 (bX3_returns_9 7 _ rfl)
theorem dX3_returns_152 : decode cX3_returns 152 = .ok (.aload_n 0, 1) := dz_42 (bX3_returns_9 8 _ rfl)
theorem dX3_returns_153 : decode cX3_returns 153 = .ok (.getfield 187, 3) := dz_180 (bX3_returns_9 9 _ rfl) (bX3_returns_9 10 _ rfl) (bX3_returns_9 11 _ rfl)
theorem dX3_returns_156 : decode cX3_returns 156 = .ok (.aload_n 0, 1) := dz_42 (bX3_returns_9 12 _ rfl)
theorem dX3_returns_157 : decode cX3_returns 157 = .ok (.getfield 554, 3) := dz_180 (bX3_returns_9 13 _ rfl) (bX3_returns_9 14 _ rfl) (bX3_returns_9 15 _ rfl)
theorem dX3_returns_160 : decode cX3_returns 160 = .ok (.iaload, 1) := dz_46 (bX3_returns_10 0 _ rfl)
theorem dX3_returns_161 : decode cX3_returns 161 = .ok (.putfield 560, 3) := dz_181 (bX3_returns_10 1 _ rfl) (bX3_returns_10 2 _ rfl) (bX3_returns_10 3 _ rfl)
theorem dX3_returns_164 : decode cX3_returns 164 = .ok (.iload_n 2, 1) := dz_28 (bX3_returns_10 4 _ rfl)
theorem dX3_returns_165 : decode cX3_returns 165 = .ok (.ifCond .eq 10, 3) := dz_153 (bX3_returns_10 5 _ rfl) (bX3_returns_10 6 _ rfl) (bX3_returns_10 7 _ rfl)
theorem dX3_returns_168 : decode cX3_returns 168 = .ok (.aload_n 0, 1) := dz_42 (bX3_returns_10 8 _ rfl)
theorem dX3_returns_169 : decode cX3_returns 169 = .ok (.iload_n 3, 1) := dz_29 (bX3_returns_10 9 _ rfl)
theorem dX3_returns_170 : decode cX3_returns 170 = .ok (.iload 4, 2) := dz_21 (bX3_returns_10 10 _ rfl) (bX3_returns_10 11 _ rfl)
theorem dX3_returns_172 : decode cX3_returns 172 = .ok (.invokevirtual 623, 3) := dz_182 (bX3_returns_10 12 _ rfl) (bX3_returns_10 13 _ rfl) (bX3_returns_10 14 _ rfl)
theorem dX3_returns_175 : decode cX3_returns 175 = .ok (.return_, 1) := dz_177 (bX3_returns_10 15 _ rfl)
def m_X3_returns_60 (x2 : Int32) (x3 : Int32) (x4 : Int32)  (σ : ch_S) : Option (ch_S ⊕ (ch_S)) := (ch_ma σ fX3_todoIs ((σ.1 fX3_todo) - 1)).bind fun v1 => if v1 = 8 then ((ch_mI σ fX3_todo ((σ.1 fX3_todo) - 1)).bind fun σ2 => (ch_mI σ2 fX3_open ((σ2.1 fX3_open) - 1)).bind fun σ3 => if (σ3.1 fX3_open) = 0 then ((ch_mI σ3 fX3_ended x3).bind fun σ8 => (m_X3_ends 1 σ8).bind fun p9 => some (.inr (p9))) else ((ch_ma σ3 fX3_openPile (σ3.1 fX3_open)).bind fun v4 => (ch_mI σ3 fX3_piled v4).bind fun σ5 => if x2 = 0 then (some (.inr (σ5))) else ((m_X3_push x3 x4 σ5).bind fun p6 => some (.inr (p6))))) else ((ch_mI σ fX3_todo ((σ.1 fX3_todo) - 1)).bind fun σ11 => (ch_ma σ11 fX3_todoIs (σ11.1 fX3_todo)).bind fun v12 => if v12 = 7 then ((ch_mI σ11 fX3_tries ((σ11.1 fX3_tries) - 1)).bind fun σ13 => some (.inl (σ13))) else (some (.inl (σ11))))
theorem s_X3_returns_60 {g : State} {m : Nat} {w : ch_W} {x2 : Int32} {x3 : Int32} {x4 : Int32} {σ : ch_S} {res : ch_S ⊕ (ch_S)} {Q : Outcome → ch_W → Prop} (h : m_X3_returns_60 x2 x3 x4 σ = some res) (hk : (ch_sm (fun s => ch_FT g false mX3_returns 3 60 [some (va_rf (some m)), none, some (.int x2), some (.int x3), some (.int x4)] [] (ch_put m w s) Q) (fun r => ch_eV Q (ch_put m w r))) res) : ch_FT g false mX3_returns 3 60 [some (va_rf (some m)), none, some (.int x2), some (.int x3), some (.int x4)] [] (ch_put m w σ) Q := by
  unfold m_X3_returns_60 at h
  refine ch_aload_n 0 (some m) dX3_returns_60 rfl (mp_gA 104 dX3_returns_61 fl_X3_205 rfl (ch_aload_n 0 (some m) dX3_returns_64 rfl (mp_gI 103 dX3_returns_65 fl_X3_584 rfl (ch_iconst _ 1 dX3_returns_68 rfl (ch_isub _ _ dX3_returns_69 (mp_iald dX3_returns_70 mk_104 h (fun v1 h => ?_)))))))
  refine ch_bipush _ 8 dX3_returns_71 rfl (cp_icmp_eq _ _ (tgt := 113) dX3_returns_73 rfl h (fun h => ?_) (fun h => ?_))
  · refine ch_aload_n 0 (some m) dX3_returns_113 rfl (ch_dup dX3_returns_114 (ch_cat _) (mp_gI 103 dX3_returns_115 fl_X3_584 rfl (ch_iconst _ 1 dX3_returns_118 rfl (ch_isub _ _ dX3_returns_119 (mp_pI (k := 103) dX3_returns_120 fl_X3_584 rfl rfl rfl h (fun σ2 h => ?_))))))
    refine ch_aload_n 0 (some m) dX3_returns_123 rfl (ch_dup dX3_returns_124 (ch_cat _) (mp_gI 93 dX3_returns_125 fl_X3_554 rfl (ch_iconst _ 1 dX3_returns_128 rfl (ch_isub _ _ dX3_returns_129 (mp_pI (k := 93) dX3_returns_130 fl_X3_554 rfl rfl rfl h (fun σ3 h => ?_))))))
    refine ch_aload_n 0 (some m) dX3_returns_133 rfl (mp_gI 93 dX3_returns_134 fl_X3_554 rfl (cp_if_ne _ (tgt := 151) dX3_returns_137 rfl h (fun h => ?_) (fun h => ?_)))
    · refine ch_aload_n 0 (some m) dX3_returns_151 rfl (ch_aload_n 0 (some m) dX3_returns_152 rfl (mp_gA 97 dX3_returns_153 fl_X3_187 rfl (ch_aload_n 0 (some m) dX3_returns_156 rfl (mp_gI 93 dX3_returns_157 fl_X3_554 rfl (mp_iald dX3_returns_160 mk_97 h (fun v4 h => ?_))))))
      refine mp_pI (k := 100) dX3_returns_161 fl_X3_560 rfl rfl rfl h (fun σ5 h => ?_)
      refine ch_iload_n 2 _ dX3_returns_164 rfl (cp_if_eq _ (tgt := 175) dX3_returns_165 rfl h (fun h => ?_) (fun h => ?_))
      · obtain rfl := Option.some.inj h
        exact ch_return dX3_returns_175 rfl hk
      · obtain ⟨p6, hp7, h⟩ := ch_bd h
        refine ch_aload_n 0 (some m) dX3_returns_168 rfl (ch_iload_n 3 _ dX3_returns_169 rfl (ch_iload 4 _ dX3_returns_170 rfl (ch_iv yX3_push prog_14_method_82_code 3 none (ci := 3) (q := (RX3, TX3, 109)) (b := m) (d' := 2) (av := [.int x3, .int x4]) (rest := []) rfl dX3_returns_172 q2243 q2245 rfl qs182 q2246 can_X3_push (Nat.le_of_ble_eq_true rfl) (Nat.le_of_ble_eq_true rfl) ch_put_tag (cp_kV (w1 := ch_put m w p6) (fun Q' hq => s_X3_push hp7 hq) ?_))))
        obtain rfl := Option.some.inj h
        exact ch_return dX3_returns_175 rfl hk
    · refine ch_aload_n 0 (some m) dX3_returns_140 rfl (ch_iload_n 3 _ dX3_returns_141 rfl (mp_pI (k := 77) dX3_returns_142 fl_X3_602 rfl rfl rfl h (fun σ8 h => ?_)))
      obtain ⟨p9, hp10, h⟩ := ch_bd h
      refine ch_aload_n 0 (some m) dX3_returns_145 rfl (ch_iconst _ 1 dX3_returns_146 rfl (ch_iv yX3_ends prog_14_method_84_code 2 none (ci := 3) (q := (RX3, TX3, 109)) (b := m) (d' := 2) (av := [.int 1]) (rest := []) rfl dX3_returns_147 q2271 q2273 rfl qs189 q2274 can_X3_ends (Nat.le_of_ble_eq_true rfl) (Nat.le_of_ble_eq_true rfl) ch_put_tag (cp_kV (w1 := ch_put m w p9) (fun Q' hq => s_X3_ends hp10 hq) ?_)))
      obtain rfl := Option.some.inj h
      exact ch_return dX3_returns_150 rfl hk
  · refine ch_aload_n 0 (some m) dX3_returns_76 rfl (ch_dup dX3_returns_77 (ch_cat _) (mp_gI 103 dX3_returns_78 fl_X3_584 rfl (ch_iconst _ 1 dX3_returns_81 rfl (ch_isub _ _ dX3_returns_82 (mp_pI (k := 103) dX3_returns_83 fl_X3_584 rfl rfl rfl h (fun σ11 h => ?_))))))
    refine ch_aload_n 0 (some m) dX3_returns_86 rfl (mp_gA 104 dX3_returns_87 fl_X3_205 rfl (ch_aload_n 0 (some m) dX3_returns_90 rfl (mp_gI 103 dX3_returns_91 fl_X3_584 rfl (mp_iald dX3_returns_94 mk_104 h (fun v12 h => ?_)))))
    refine ch_bipush _ 7 dX3_returns_95 rfl (cp_icmp_ne _ _ (tgt := 60) dX3_returns_97 rfl h (fun h => ?_) (fun h => ?_))
    · refine ch_FT.wk (ch_wS (ch_wN (ch_wS (ch_wS (ch_wS ch_w0))))) ?_
      obtain rfl := Option.some.inj h
      exact hk
    · refine ch_aload_n 0 (some m) dX3_returns_100 rfl (ch_dup dX3_returns_101 (ch_cat _) (mp_gI 106 dX3_returns_102 fl_X3_593 rfl (ch_iconst _ 1 dX3_returns_105 rfl (ch_isub _ _ dX3_returns_106 (mp_pI (k := 106) dX3_returns_107 fl_X3_593 rfl rfl rfl h (fun σ13 h => ?_))))))
      refine ch_goto 60 dX3_returns_110 rfl (ch_FT.wk (ch_wS (ch_wN (ch_wS (ch_wS (ch_wS ch_w0))))) ?_)
      obtain rfl := Option.some.inj h
      exact hk
theorem sl_X3_returns_60 {g : State} {m : Nat} {w : ch_W} {x2 : Int32} {x3 : Int32} {x4 : Int32} {a : ch_S} {res : ch_S} {Q : Outcome → ch_W → Prop} (h : ch_loop (fun (s : ch_S) => m_X3_returns_60 x2 x3 x4 s) a = some res) (hk : (fun r => ch_eV Q (ch_put m w r)) res) : ch_FT g false mX3_returns 3 60 [some (va_rf (some m)), none, some (.int x2), some (.int x3), some (.int x4)] [] (ch_put m w a) Q := by
  refine ch_loop_ind (fun (a : ch_S) (r : ch_S) => (fun r => ch_eV Q (ch_put m w r)) r → ch_FT g false mX3_returns 3 60 [some (va_rf (some m)), none, some (.int x2), some (.int x3), some (.int x4)] [] (ch_put m w a) Q) ?_ ?_ a res h hk
  · intro a a2 b h1 ih hk
    exact s_X3_returns_60  h1 (ih hk)
  · intro a b h1 hk
    exact s_X3_returns_60  h1 hk

def m_X3_returns_34 (x2 : Int32) (y0 : Int32) (σ : ch_S) : Option (ch_S) := if x2 = 0 then (ch_loop (fun (s : ch_S) => m_X3_returns_60 x2 y0 0 s) (σ)) else ((ch_ma σ fX3_isPileObject ((σ.1 fX3_piled) - 1)).bind fun v1 => if v1 = 0 then (ch_loop (fun (s : ch_S) => m_X3_returns_60 x2 y0 0 s) (σ)) else (ch_loop (fun (s : ch_S) => m_X3_returns_60 x2 y0 1 s) (σ)))
theorem s_X3_returns_34 {g : State} {m : Nat} {w : ch_W} {x2 : Int32} {y0 : Int32} {σ : ch_S} {res : ch_S} {Q : Outcome → ch_W → Prop} (h : m_X3_returns_34 x2 y0 σ = some res) (hk : (fun r => ch_eV Q (ch_put m w r)) res) : ch_FT g false mX3_returns 3 34 [some (va_rf (some m)), none, some (.int x2), none, none] [.int y0] (ch_put m w σ) Q := by
  unfold m_X3_returns_34 at h
  refine ch_istore_n 3 _ (ls1 := [some (va_rf (some m)), none, some (.int x2), some (.int y0), none]) dX3_returns_34 (Nat.le_of_ble_eq_true rfl) rfl (ch_iload_n 2 _ dX3_returns_35 rfl (cp_if_eq _ (tgt := 57) dX3_returns_36 rfl h (fun h => ?_) (fun h => ?_)))
  · exact ch_iconst _ 0 dX3_returns_57 rfl (ch_istore 4 _ (ls1 := [some (va_rf (some m)), none, some (.int x2), some (.int y0), some (.int 0)]) dX3_returns_58 (Nat.le_of_ble_eq_true rfl) rfl (ch_FT.wk (ch_wS (ch_wN (ch_wS (ch_wS (ch_wS ch_w0))))) (sl_X3_returns_60  h hk)))
  · refine ch_aload_n 0 (some m) dX3_returns_39 rfl (mp_gA 102 dX3_returns_40 fl_X3_201 rfl (ch_aload_n 0 (some m) dX3_returns_43 rfl (mp_gI 100 dX3_returns_44 fl_X3_560 rfl (ch_iconst _ 1 dX3_returns_47 rfl (ch_isub _ _ dX3_returns_48 (mp_zald dX3_returns_49 mk_102 h (fun v1 h => ?_)))))))
    refine cp_if_eq _ (tgt := 57) dX3_returns_50 rfl h (fun h => ?_) (fun h => ?_)
    · exact ch_iconst _ 0 dX3_returns_57 rfl (ch_istore 4 _ (ls1 := [some (va_rf (some m)), none, some (.int x2), some (.int y0), some (.int 0)]) dX3_returns_58 (Nat.le_of_ble_eq_true rfl) rfl (ch_FT.wk (ch_wS (ch_wN (ch_wS (ch_wS (ch_wS ch_w0))))) (sl_X3_returns_60  h hk)))
    · exact ch_iconst _ 1 dX3_returns_53 rfl (ch_goto 58 dX3_returns_54 rfl (ch_istore 4 _ (ls1 := [some (va_rf (some m)), none, some (.int x2), some (.int y0), some (.int 1)]) dX3_returns_58 (Nat.le_of_ble_eq_true rfl) rfl (ch_FT.wk (ch_wS (ch_wN (ch_wS (ch_wS (ch_wS ch_w0))))) (sl_X3_returns_60  h hk))))

def m_X3_returns_14  (y0 : Int32) (σ : ch_S) : Option (ch_S) := if y0 = 0 then (m_X3_returns_34 y0 0 σ) else ((ch_ma σ fX3_pile ((σ.1 fX3_piled) - 1)).bind fun v1 => m_X3_returns_34 y0 v1 σ)
theorem s_X3_returns_14 {g : State} {m : Nat} {w : ch_W} {y0 : Int32} {σ : ch_S} {res : ch_S} {Q : Outcome → ch_W → Prop} (h : m_X3_returns_14 y0 σ = some res) (hk : (fun r => ch_eV Q (ch_put m w r)) res) : ch_FT g false mX3_returns 3 14 [some (va_rf (some m)), none, none, none, none] [.int y0] (ch_put m w σ) Q := by
  unfold m_X3_returns_14 at h
  refine ch_istore_n 2 _ (ls1 := [some (va_rf (some m)), none, some (.int y0), none, none]) dX3_returns_14 (Nat.le_of_ble_eq_true rfl) rfl (ch_iload_n 2 _ dX3_returns_15 rfl (cp_if_eq _ (tgt := 33) dX3_returns_16 rfl h (fun h => ?_) (fun h => ?_)))
  · exact ch_iconst _ 0 dX3_returns_33 rfl (ch_FT.wk (ch_wS (ch_wN (ch_wS (ch_wN (ch_wN ch_w0))))) (s_X3_returns_34  h hk))
  · refine ch_aload_n 0 (some m) dX3_returns_19 rfl (mp_gA 101 dX3_returns_20 fl_X3_198 rfl (ch_aload_n 0 (some m) dX3_returns_23 rfl (mp_gI 100 dX3_returns_24 fl_X3_560 rfl (ch_iconst _ 1 dX3_returns_27 rfl (ch_isub _ _ dX3_returns_28 (mp_iald dX3_returns_29 mk_101 h (fun v1 h => ?_)))))))
    exact ch_goto 34 dX3_returns_30 rfl (ch_FT.wk (ch_wS (ch_wN (ch_wS (ch_wN (ch_wN ch_w0))))) (s_X3_returns_34  h hk))

def m_X3_returns (x1 : Int32) (σ : ch_S) : Option (ch_S) := (ch_ma σ fX3_value x1).bind fun v1 => if v1 < 0 then (m_X3_returns_14 0 σ) else (m_X3_returns_14 1 σ)
theorem s_X3_returns {g : State} {m : Nat} {w : ch_W} {x1 : Int32} {σ : ch_S} {res : ch_S} {Q : Outcome → ch_W → Prop} (h : m_X3_returns x1 σ = some res) (hk : (fun r => ch_eV Q (ch_put m w r)) res) : ch_CT g false yX3_returns 3 [.ref m, .int x1] (ch_put m w σ) Q := by
  unfold m_X3_returns at h
  refine ch_ctL mX3_returns (ls := [some (va_rf (some m)), some (.int x1), none, none, none]) q2309 rfl (ch_lyr (r := some m) (ch_lyi ch_ly0)) (Nat.le_of_ble_eq_true rfl) rfl ?_
  refine ch_aload_n 0 (some m) dX3_returns_0 rfl (mp_gA 29 dX3_returns_1 fl_X3_55 rfl (ch_iload_n 1 _ dX3_returns_4 rfl (mp_iald dX3_returns_5 mk_29 h (fun v1 h => ?_))))
  refine cp_if_lt _ (tgt := 13) dX3_returns_6 rfl h (fun h => ?_) (fun h => ?_)
  · exact ch_iconst _ 0 dX3_returns_13 rfl (ch_FT.wk (ch_wS (ch_wN (ch_wN (ch_wN (ch_wN ch_w0))))) (s_X3_returns_14  h hk))
  · exact ch_iconst _ 1 dX3_returns_9 rfl (ch_goto 14 dX3_returns_10 rfl (ch_FT.wk (ch_wS (ch_wN (ch_wN (ch_wN (ch_wN ch_w0))))) (s_X3_returns_14  h hk)))

theorem bX3_sets_0 : ch_ck cX3_sets 0 [42, 180, 0, 58, 27, 46, 61, 42, 180, 2, 48, 4, 100, 62, 42, 180] := ch_ckof (by decide +kernel)
theorem bX3_sets_1 : ch_ck cX3_sets 16 [0, 198, 29, 46, 54, 4, 42, 180, 0, 201, 29, 51, 54, 5, 42, 180] := ch_ckof (by decide +kernel)
theorem bX3_sets_2 : ch_ck cX3_sets 32 [0, 25, 28, 46, 16, 19, 160, 0, 34, 42, 42, 180, 2, 42, 4, 100] := ch_ckof (by decide +kernel)
theorem bX3_sets_3 : ch_ck cX3_sets 48 [42, 180, 0, 34, 28, 46, 21, 4, 21, 5, 182, 2, 86, 42, 89, 180] := ch_ckof (by decide +kernel)
theorem bX3_sets_4 : ch_ck cX3_sets 64 [2, 48, 4, 100, 181, 2, 48, 177, 42, 180, 0, 25, 28, 46, 16, 20] := ch_ckof (by decide +kernel)
theorem bX3_sets_5 : ch_ck cX3_sets 80 [160, 0, 44, 42, 180, 0, 172, 42, 180, 0, 157, 42, 180, 0, 178, 42] := ch_ckof (by decide +kernel)
theorem bX3_sets_6 : ch_ck cX3_sets 96 [180, 2, 42, 4, 100, 46, 46, 42, 180, 0, 34, 28, 46, 96, 21, 4] := ch_ckof (by decide +kernel)
theorem bX3_sets_7 : ch_ck cX3_sets 112 [79, 42, 89, 180, 2, 48, 4, 100, 181, 2, 48, 177, 42, 180, 0, 25] := ch_ckof (by decide +kernel)
theorem bX3_sets_8 : ch_ck cX3_sets 128 [28, 46, 16, 7, 160, 0, 63, 42, 180, 0, 198, 29, 5, 100, 46, 54] := ch_ckof (by decide +kernel)
theorem bX3_sets_9 : ch_ck cX3_sets 144 [6, 42, 180, 0, 198, 29, 4, 100, 46, 54, 7, 42, 21, 6, 21, 7] := ch_ckof (by decide +kernel)
theorem bX3_sets_10 : ch_ck cX3_sets 160 [182, 2, 129, 154, 0, 4, 177, 42, 180, 0, 172, 42, 180, 0, 157, 21] := ch_ckof (by decide +kernel)
theorem bX3_sets_11 : ch_ck cX3_sets 176 [6, 46, 21, 7, 96, 21, 4, 79, 42, 89, 180, 2, 48, 6, 100, 181] := ch_ckof (by decide +kernel)
theorem bX3_sets_12 : ch_ck cX3_sets 192 [2, 48, 177, 42, 180, 0, 198, 29, 4, 100, 46, 54, 6, 21, 6, 156] := ch_ckof (by decide +kernel)
theorem bX3_sets_13 : ch_ck cX3_sets 208 [0, 9, 42, 3, 182, 2, 126, 177, 42, 180, 0, 172, 42, 180, 0, 157] := ch_ckof (by decide +kernel)
theorem bX3_sets_14 : ch_ck cX3_sets 224 [21, 6, 46, 42, 180, 0, 34, 28, 46, 96, 21, 4, 79, 42, 89, 180] := ch_ckof (by decide +kernel)
theorem bX3_sets_15 : ch_ck cX3_sets 240 [2, 48, 5, 100, 181, 2, 48, 177] := ch_ckof (by decide +kernel)
theorem dX3_sets_0 : decode cX3_sets 0 = .ok (.aload_n 0, 1) := dz_42 (bX3_sets_0 0 _ rfl)
theorem dX3_sets_1 : decode cX3_sets 1 = .ok (.getfield 58, 3) := dz_180 (bX3_sets_0 1 _ rfl) (bX3_sets_0 2 _ rfl) (bX3_sets_0 3 _ rfl)
theorem dX3_sets_4 : decode cX3_sets 4 = .ok (.iload_n 1, 1) := dz_27 (bX3_sets_0 4 _ rfl)
theorem dX3_sets_5 : decode cX3_sets 5 = .ok (.iaload, 1) := dz_46 (bX3_sets_0 5 _ rfl)
theorem dX3_sets_6 : decode cX3_sets 6 = .ok (.istore_n 2, 1) := dz_61 (bX3_sets_0 6 _ rfl)
theorem dX3_sets_7 : decode cX3_sets 7 = .ok (.aload_n 0, 1) := dz_42 (bX3_sets_0 7 _ rfl)
theorem dX3_sets_8 : decode cX3_sets 8 = .ok (.getfield 560, 3) := dz_180 (bX3_sets_0 8 _ rfl) (bX3_sets_0 9 _ rfl) (bX3_sets_0 10 _ rfl)
theorem dX3_sets_11 : decode cX3_sets 11 = .ok (.iconst 1, 1) := dz_4 (bX3_sets_0 11 _ rfl)
theorem dX3_sets_12 : decode cX3_sets 12 = .ok (.isub, 1) := dz_100 (bX3_sets_0 12 _ rfl)
theorem dX3_sets_13 : decode cX3_sets 13 = .ok (.istore_n 3, 1) := dz_62 (bX3_sets_0 13 _ rfl)
theorem dX3_sets_14 : decode cX3_sets 14 = .ok (.aload_n 0, 1) := dz_42 (bX3_sets_0 14 _ rfl)
theorem dX3_sets_15 : decode cX3_sets 15 = .ok (.getfield 198, 3) := dz_180 (bX3_sets_0 15 _ rfl) (bX3_sets_1 0 _ rfl) (bX3_sets_1 1 _ rfl)
theorem dX3_sets_18 : decode cX3_sets 18 = .ok (.iload_n 3, 1) := dz_29 (bX3_sets_1 2 _ rfl)
theorem dX3_sets_19 : decode cX3_sets 19 = .ok (.iaload, 1) := dz_46 (bX3_sets_1 3 _ rfl)
theorem dX3_sets_20 : decode cX3_sets 20 = .ok (.istore 4, 2) := dz_54 (bX3_sets_1 4 _ rfl) (bX3_sets_1 5 _ rfl)
theorem dX3_sets_22 : decode cX3_sets 22 = .ok (.aload_n 0, 1) := dz_42 (bX3_sets_1 6 _ rfl)
theorem dX3_sets_23 : decode cX3_sets 23 = .ok (.getfield 201, 3) := dz_180 (bX3_sets_1 7 _ rfl) (bX3_sets_1 8 _ rfl) (bX3_sets_1 9 _ rfl)
theorem dX3_sets_26 : decode cX3_sets 26 = .ok (.iload_n 3, 1) := dz_29 (bX3_sets_1 10 _ rfl)
theorem dX3_sets_27 : decode cX3_sets 27 = .ok (.baload, 1) := dz_51 (bX3_sets_1 11 _ rfl)
theorem dX3_sets_28 : decode cX3_sets 28 = .ok (.istore 5, 2) := dz_54 (bX3_sets_1 12 _ rfl) (bX3_sets_1 13 _ rfl)
theorem dX3_sets_30 : decode cX3_sets 30 = .ok (.aload_n 0, 1) := dz_42 (bX3_sets_1 14 _ rfl)
theorem dX3_sets_31 : decode cX3_sets 31 = .ok (.getfield 25, 3) := dz_180 (bX3_sets_1 15 _ rfl) (bX3_sets_2 0 _ rfl) (bX3_sets_2 1 _ rfl)
theorem dX3_sets_34 : decode cX3_sets 34 = .ok (.iload_n 2, 1) := dz_28 (bX3_sets_2 2 _ rfl)
theorem dX3_sets_35 : decode cX3_sets 35 = .ok (.iaload, 1) := dz_46 (bX3_sets_2 3 _ rfl)
theorem dX3_sets_36 : decode cX3_sets 36 = .ok (.bipush 19, 2) := dz_16 (bX3_sets_2 4 _ rfl) (bX3_sets_2 5 _ rfl)
theorem dX3_sets_38 : decode cX3_sets 38 = .ok (.if_icmp .ne 34, 3) := dz_160 (bX3_sets_2 6 _ rfl) (bX3_sets_2 7 _ rfl) (bX3_sets_2 8 _ rfl)
theorem dX3_sets_41 : decode cX3_sets 41 = .ok (.aload_n 0, 1) := dz_42 (bX3_sets_2 9 _ rfl)
theorem dX3_sets_42 : decode cX3_sets 42 = .ok (.aload_n 0, 1) := dz_42 (bX3_sets_2 10 _ rfl)
theorem dX3_sets_43 : decode cX3_sets 43 = .ok (.getfield 554, 3) := dz_180 (bX3_sets_2 11 _ rfl) (bX3_sets_2 12 _ rfl) (bX3_sets_2 13 _ rfl)
theorem dX3_sets_46 : decode cX3_sets 46 = .ok (.iconst 1, 1) := dz_4 (bX3_sets_2 14 _ rfl)
theorem dX3_sets_47 : decode cX3_sets 47 = .ok (.isub, 1) := dz_100 (bX3_sets_2 15 _ rfl)
theorem dX3_sets_48 : decode cX3_sets 48 = .ok (.aload_n 0, 1) := dz_42 (bX3_sets_3 0 _ rfl)
theorem dX3_sets_49 : decode cX3_sets 49 = .ok (.getfield 34, 3) := dz_180 (bX3_sets_3 1 _ rfl) (bX3_sets_3 2 _ rfl) (bX3_sets_3 3 _ rfl)
theorem dX3_sets_52 : decode cX3_sets 52 = .ok (.iload_n 2, 1) := dz_28 (bX3_sets_3 4 _ rfl)
theorem dX3_sets_53 : decode cX3_sets 53 = .ok (.iaload, 1) := dz_46 (bX3_sets_3 5 _ rfl)
theorem dX3_sets_54 : decode cX3_sets 54 = .ok (.iload 4, 2) := dz_21 (bX3_sets_3 6 _ rfl) (bX3_sets_3 7 _ rfl)
theorem dX3_sets_56 : decode cX3_sets 56 = .ok (.iload 5, 2) := dz_21 (bX3_sets_3 8 _ rfl) (bX3_sets_3 9 _ rfl)
theorem dX3_sets_58 : decode cX3_sets 58 = .ok (.invokevirtual 598, 3) := dz_182 (bX3_sets_3 10 _ rfl) (bX3_sets_3 11 _ rfl) (bX3_sets_3 12 _ rfl)
theorem dX3_sets_61 : decode cX3_sets 61 = .ok (.aload_n 0, 1) := dz_42 (bX3_sets_3 13 _ rfl)
theorem dX3_sets_62 : decode cX3_sets 62 = .ok (.dup, 1) := dz_89 (bX3_sets_3 14 _ rfl)
theorem dX3_sets_63 : decode cX3_sets 63 = .ok (.getfield 560, 3) := dz_180 (bX3_sets_3 15 _ rfl) (bX3_sets_4 0 _ rfl) (bX3_sets_4 1 _ rfl)
theorem dX3_sets_66 : decode cX3_sets 66 = .ok (.iconst 1, 1) := dz_4 (bX3_sets_4 2 _ rfl)
theorem dX3_sets_67 : decode cX3_sets 67 = .ok (.isub, 1) := dz_100 (bX3_sets_4 3 _ rfl)
theorem dX3_sets_68 : decode cX3_sets 68 = .ok (.putfield 560, 3) := dz_181 (bX3_sets_4 4 _ rfl) (bX3_sets_4 5 _ rfl) (bX3_sets_4 6 _ rfl)
theorem dX3_sets_71 : decode cX3_sets 71 = .ok (.return_, 1) := dz_177 (bX3_sets_4 7 _ rfl)
theorem dX3_sets_72 : decode cX3_sets 72 = .ok (.aload_n 0, 1) := dz_42 (bX3_sets_4 8 _ rfl)
theorem dX3_sets_73 : decode cX3_sets 73 = .ok (.getfield 25, 3) := dz_180 (bX3_sets_4 9 _ rfl) (bX3_sets_4 10 _ rfl) (bX3_sets_4 11 _ rfl)
theorem dX3_sets_76 : decode cX3_sets 76 = .ok (.iload_n 2, 1) := dz_28 (bX3_sets_4 12 _ rfl)
theorem dX3_sets_77 : decode cX3_sets 77 = .ok (.iaload, 1) := dz_46 (bX3_sets_4 13 _ rfl)
theorem dX3_sets_78 : decode cX3_sets 78 = .ok (.bipush 20, 2) := dz_16 (bX3_sets_4 14 _ rfl) (bX3_sets_4 15 _ rfl)
theorem dX3_sets_80 : decode cX3_sets 80 = .ok (.if_icmp .ne 44, 3) := dz_160 (bX3_sets_5 0 _ rfl) (bX3_sets_5 1 _ rfl) (bX3_sets_5 2 _ rfl)
theorem dX3_sets_83 : decode cX3_sets 83 = .ok (.aload_n 0, 1) := dz_42 (bX3_sets_5 3 _ rfl)
theorem dX3_sets_84 : decode cX3_sets 84 = .ok (.getfield 172, 3) := dz_180 (bX3_sets_5 4 _ rfl) (bX3_sets_5 5 _ rfl) (bX3_sets_5 6 _ rfl)
theorem dX3_sets_87 : decode cX3_sets 87 = .ok (.aload_n 0, 1) := dz_42 (bX3_sets_5 7 _ rfl)
theorem dX3_sets_88 : decode cX3_sets 88 = .ok (.getfield 157, 3) := dz_180 (bX3_sets_5 8 _ rfl) (bX3_sets_5 9 _ rfl) (bX3_sets_5 10 _ rfl)
theorem dX3_sets_91 : decode cX3_sets 91 = .ok (.aload_n 0, 1) := dz_42 (bX3_sets_5 11 _ rfl)
theorem dX3_sets_92 : decode cX3_sets 92 = .ok (.getfield 178, 3) := dz_180 (bX3_sets_5 12 _ rfl) (bX3_sets_5 13 _ rfl) (bX3_sets_5 14 _ rfl)
theorem dX3_sets_95 : decode cX3_sets 95 = .ok (.aload_n 0, 1) := dz_42 (bX3_sets_5 15 _ rfl)
theorem dX3_sets_96 : decode cX3_sets 96 = .ok (.getfield 554, 3) := dz_180 (bX3_sets_6 0 _ rfl) (bX3_sets_6 1 _ rfl) (bX3_sets_6 2 _ rfl)
theorem dX3_sets_99 : decode cX3_sets 99 = .ok (.iconst 1, 1) := dz_4 (bX3_sets_6 3 _ rfl)
theorem dX3_sets_100 : decode cX3_sets 100 = .ok (.isub, 1) := dz_100 (bX3_sets_6 4 _ rfl)
theorem dX3_sets_101 : decode cX3_sets 101 = .ok (.iaload, 1) := dz_46 (bX3_sets_6 5 _ rfl)
theorem dX3_sets_102 : decode cX3_sets 102 = .ok (.iaload, 1) := dz_46 (bX3_sets_6 6 _ rfl)
theorem dX3_sets_103 : decode cX3_sets 103 = .ok (.aload_n 0, 1) := dz_42 (bX3_sets_6 7 _ rfl)
theorem dX3_sets_104 : decode cX3_sets 104 = .ok (.getfield 34, 3) := dz_180 (bX3_sets_6 8 _ rfl) (bX3_sets_6 9 _ rfl) (bX3_sets_6 10 _ rfl)
theorem dX3_sets_107 : decode cX3_sets 107 = .ok (.iload_n 2, 1) := dz_28 (bX3_sets_6 11 _ rfl)
theorem dX3_sets_108 : decode cX3_sets 108 = .ok (.iaload, 1) := dz_46 (bX3_sets_6 12 _ rfl)
theorem dX3_sets_109 : decode cX3_sets 109 = .ok (.iadd, 1) := dz_96 (bX3_sets_6 13 _ rfl)
theorem dX3_sets_110 : decode cX3_sets 110 = .ok (.iload 4, 2) := dz_21 (bX3_sets_6 14 _ rfl) (bX3_sets_6 15 _ rfl)
theorem dX3_sets_112 : decode cX3_sets 112 = .ok (.iastore, 1) := dz_79 (bX3_sets_7 0 _ rfl)
theorem dX3_sets_113 : decode cX3_sets 113 = .ok (.aload_n 0, 1) := dz_42 (bX3_sets_7 1 _ rfl)
theorem dX3_sets_114 : decode cX3_sets 114 = .ok (.dup, 1) := dz_89 (bX3_sets_7 2 _ rfl)
theorem dX3_sets_115 : decode cX3_sets 115 = .ok (.getfield 560, 3) := dz_180 (bX3_sets_7 3 _ rfl) (bX3_sets_7 4 _ rfl) (bX3_sets_7 5 _ rfl)
theorem dX3_sets_118 : decode cX3_sets 118 = .ok (.iconst 1, 1) := dz_4 (bX3_sets_7 6 _ rfl)
theorem dX3_sets_119 : decode cX3_sets 119 = .ok (.isub, 1) := dz_100 (bX3_sets_7 7 _ rfl)
theorem dX3_sets_120 : decode cX3_sets 120 = .ok (.putfield 560, 3) := dz_181 (bX3_sets_7 8 _ rfl) (bX3_sets_7 9 _ rfl) (bX3_sets_7 10 _ rfl)
theorem dX3_sets_123 : decode cX3_sets 123 = .ok (.return_, 1) := dz_177 (bX3_sets_7 11 _ rfl)
theorem dX3_sets_124 : decode cX3_sets 124 = .ok (.aload_n 0, 1) := dz_42 (bX3_sets_7 12 _ rfl)
theorem dX3_sets_125 : decode cX3_sets 125 = .ok (.getfield 25, 3) := dz_180 (bX3_sets_7 13 _ rfl) (bX3_sets_7 14 _ rfl) (bX3_sets_7 15 _ rfl)
theorem dX3_sets_128 : decode cX3_sets 128 = .ok (.iload_n 2, 1) := dz_28 (bX3_sets_8 0 _ rfl)
theorem dX3_sets_129 : decode cX3_sets 129 = .ok (.iaload, 1) := dz_46 (bX3_sets_8 1 _ rfl)
theorem dX3_sets_130 : decode cX3_sets 130 = .ok (.bipush 7, 2) := dz_16 (bX3_sets_8 2 _ rfl) (bX3_sets_8 3 _ rfl)
theorem dX3_sets_132 : decode cX3_sets 132 = .ok (.if_icmp .ne 63, 3) := dz_160 (bX3_sets_8 4 _ rfl) (bX3_sets_8 5 _ rfl) (bX3_sets_8 6 _ rfl)
theorem dX3_sets_135 : decode cX3_sets 135 = .ok (.aload_n 0, 1) := dz_42 (bX3_sets_8 7 _ rfl)
theorem dX3_sets_136 : decode cX3_sets 136 = .ok (.getfield 198, 3) := dz_180 (bX3_sets_8 8 _ rfl) (bX3_sets_8 9 _ rfl) (bX3_sets_8 10 _ rfl)
theorem dX3_sets_139 : decode cX3_sets 139 = .ok (.iload_n 3, 1) := dz_29 (bX3_sets_8 11 _ rfl)
theorem dX3_sets_140 : decode cX3_sets 140 = .ok (.iconst 2, 1) := dz_5 (bX3_sets_8 12 _ rfl)
theorem dX3_sets_141 : decode cX3_sets 141 = .ok (.isub, 1) := dz_100 (bX3_sets_8 13 _ rfl)
theorem dX3_sets_142 : decode cX3_sets 142 = .ok (.iaload, 1) := dz_46 (bX3_sets_8 14 _ rfl)
theorem dX3_sets_143 : decode cX3_sets 143 = .ok (.istore 6, 2) := dz_54 (bX3_sets_8 15 _ rfl) (bX3_sets_9 0 _ rfl)
theorem dX3_sets_145 : decode cX3_sets 145 = .ok (.aload_n 0, 1) := dz_42 (bX3_sets_9 1 _ rfl)
theorem dX3_sets_146 : decode cX3_sets 146 = .ok (.getfield 198, 3) := dz_180 (bX3_sets_9 2 _ rfl) (bX3_sets_9 3 _ rfl) (bX3_sets_9 4 _ rfl)
theorem dX3_sets_149 : decode cX3_sets 149 = .ok (.iload_n 3, 1) := dz_29 (bX3_sets_9 5 _ rfl)
theorem dX3_sets_150 : decode cX3_sets 150 = .ok (.iconst 1, 1) := dz_4 (bX3_sets_9 6 _ rfl)
theorem dX3_sets_151 : decode cX3_sets 151 = .ok (.isub, 1) := dz_100 (bX3_sets_9 7 _ rfl)
theorem dX3_sets_152 : decode cX3_sets 152 = .ok (.iaload, 1) := dz_46 (bX3_sets_9 8 _ rfl)
theorem dX3_sets_153 : decode cX3_sets 153 = .ok (.istore 7, 2) := dz_54 (bX3_sets_9 9 _ rfl) (bX3_sets_9 10 _ rfl)
theorem dX3_sets_155 : decode cX3_sets 155 = .ok (.aload_n 0, 1) := dz_42 (bX3_sets_9 11 _ rfl)
theorem dX3_sets_156 : decode cX3_sets 156 = .ok (.iload 6, 2) := dz_21 (bX3_sets_9 12 _ rfl) (bX3_sets_9 13 _ rfl)
theorem dX3_sets_158 : decode cX3_sets 158 = .ok (.iload 7, 2) := dz_21 (bX3_sets_9 14 _ rfl) (bX3_sets_9 15 _ rfl)
theorem dX3_sets_160 : decode cX3_sets 160 = .ok (.invokevirtual 641, 3) := dz_182 (bX3_sets_10 0 _ rfl) (bX3_sets_10 1 _ rfl) (bX3_sets_10 2 _ rfl)
theorem dX3_sets_163 : decode cX3_sets 163 = .ok (.ifCond .ne 4, 3) := dz_154 (bX3_sets_10 3 _ rfl) (bX3_sets_10 4 _ rfl) (bX3_sets_10 5 _ rfl)
theorem dX3_sets_166 : decode cX3_sets 166 = .ok (.return_, 1) := dz_177 (bX3_sets_10 6 _ rfl)
theorem dX3_sets_167 : decode cX3_sets 167 = .ok (.aload_n 0, 1) := dz_42 (bX3_sets_10 7 _ rfl)
theorem dX3_sets_168 : decode cX3_sets 168 = .ok (.getfield 172, 3) := dz_180 (bX3_sets_10 8 _ rfl) (bX3_sets_10 9 _ rfl) (bX3_sets_10 10 _ rfl)
theorem dX3_sets_171 : decode cX3_sets 171 = .ok (.aload_n 0, 1) := dz_42 (bX3_sets_10 11 _ rfl)
theorem dX3_sets_172 : decode cX3_sets 172 = .ok (.getfield 157, 3) := dz_180 (bX3_sets_10 12 _ rfl) (bX3_sets_10 13 _ rfl) (bX3_sets_10 14 _ rfl)
theorem dX3_sets_175 : decode cX3_sets 175 = .ok (.iload 6, 2) := dz_21 (bX3_sets_10 15 _ rfl) (bX3_sets_11 0 _ rfl)
theorem dX3_sets_177 : decode cX3_sets 177 = .ok (.iaload, 1) := dz_46 (bX3_sets_11 1 _ rfl)
theorem dX3_sets_178 : decode cX3_sets 178 = .ok (.iload 7, 2) := dz_21 (bX3_sets_11 2 _ rfl) (bX3_sets_11 3 _ rfl)
theorem dX3_sets_180 : decode cX3_sets 180 = .ok (.iadd, 1) := dz_96 (bX3_sets_11 4 _ rfl)
theorem dX3_sets_181 : decode cX3_sets 181 = .ok (.iload 4, 2) := dz_21 (bX3_sets_11 5 _ rfl) (bX3_sets_11 6 _ rfl)
theorem dX3_sets_183 : decode cX3_sets 183 = .ok (.iastore, 1) := dz_79 (bX3_sets_11 7 _ rfl)
theorem dX3_sets_184 : decode cX3_sets 184 = .ok (.aload_n 0, 1) := dz_42 (bX3_sets_11 8 _ rfl)
theorem dX3_sets_185 : decode cX3_sets 185 = .ok (.dup, 1) := dz_89 (bX3_sets_11 9 _ rfl)
theorem dX3_sets_186 : decode cX3_sets 186 = .ok (.getfield 560, 3) := dz_180 (bX3_sets_11 10 _ rfl) (bX3_sets_11 11 _ rfl) (bX3_sets_11 12 _ rfl)
theorem dX3_sets_189 : decode cX3_sets 189 = .ok (.iconst 3, 1) := dz_6 (bX3_sets_11 13 _ rfl)
theorem dX3_sets_190 : decode cX3_sets 190 = .ok (.isub, 1) := dz_100 (bX3_sets_11 14 _ rfl)
theorem dX3_sets_191 : decode cX3_sets 191 = .ok (.putfield 560, 3) := dz_181 (bX3_sets_11 15 _ rfl) (bX3_sets_12 0 _ rfl) (bX3_sets_12 1 _ rfl)
theorem dX3_sets_194 : decode cX3_sets 194 = .ok (.return_, 1) := dz_177 (bX3_sets_12 2 _ rfl)
theorem dX3_sets_195 : decode cX3_sets 195 = .ok (.aload_n 0, 1) := dz_42 (bX3_sets_12 3 _ rfl)
theorem dX3_sets_196 : decode cX3_sets 196 = .ok (.getfield 198, 3) := dz_180 (bX3_sets_12 4 _ rfl) (bX3_sets_12 5 _ rfl) (bX3_sets_12 6 _ rfl)
theorem dX3_sets_199 : decode cX3_sets 199 = .ok (.iload_n 3, 1) := dz_29 (bX3_sets_12 7 _ rfl)
theorem dX3_sets_200 : decode cX3_sets 200 = .ok (.iconst 1, 1) := dz_4 (bX3_sets_12 8 _ rfl)
theorem dX3_sets_201 : decode cX3_sets 201 = .ok (.isub, 1) := dz_100 (bX3_sets_12 9 _ rfl)
theorem dX3_sets_202 : decode cX3_sets 202 = .ok (.iaload, 1) := dz_46 (bX3_sets_12 10 _ rfl)
theorem dX3_sets_203 : decode cX3_sets 203 = .ok (.istore 6, 2) := dz_54 (bX3_sets_12 11 _ rfl) (bX3_sets_12 12 _ rfl)
theorem dX3_sets_205 : decode cX3_sets 205 = .ok (.iload 6, 2) := dz_21 (bX3_sets_12 13 _ rfl) (bX3_sets_12 14 _ rfl)
theorem dX3_sets_207 : decode cX3_sets 207 = .ok (.ifCond .ge 9, 3) := dz_156 (bX3_sets_12 15 _ rfl) (bX3_sets_13 0 _ rfl) (bX3_sets_13 1 _ rfl)
theorem dX3_sets_210 : decode cX3_sets 210 = .ok (.aload_n 0, 1) := dz_42 (bX3_sets_13 2 _ rfl)
theorem dX3_sets_211 : decode cX3_sets 211 = .ok (.iconst 0, 1) := dz_3 (bX3_sets_13 3 _ rfl)
theorem dX3_sets_212 : decode cX3_sets 212 = .ok (.invokevirtual 638, 3) := dz_182 (bX3_sets_13 4 _ rfl) (bX3_sets_13 5 _ rfl) (bX3_sets_13 6 _ rfl)
theorem dX3_sets_215 : decode cX3_sets 215 = .ok (.return_, 1) := dz_177 (bX3_sets_13 7 _ rfl)
theorem dX3_sets_216 : decode cX3_sets 216 = .ok (.aload_n 0, 1) := dz_42 (bX3_sets_13 8 _ rfl)
theorem dX3_sets_217 : decode cX3_sets 217 = .ok (.getfield 172, 3) := dz_180 (bX3_sets_13 9 _ rfl) (bX3_sets_13 10 _ rfl) (bX3_sets_13 11 _ rfl)
theorem dX3_sets_220 : decode cX3_sets 220 = .ok (.aload_n 0, 1) := dz_42 (bX3_sets_13 12 _ rfl)
theorem dX3_sets_221 : decode cX3_sets 221 = .ok (.getfield 157, 3) := dz_180 (bX3_sets_13 13 _ rfl) (bX3_sets_13 14 _ rfl) (bX3_sets_13 15 _ rfl)
theorem dX3_sets_224 : decode cX3_sets 224 = .ok (.iload 6, 2) := dz_21 (bX3_sets_14 0 _ rfl) (bX3_sets_14 1 _ rfl)
theorem dX3_sets_226 : decode cX3_sets 226 = .ok (.iaload, 1) := dz_46 (bX3_sets_14 2 _ rfl)
theorem dX3_sets_227 : decode cX3_sets 227 = .ok (.aload_n 0, 1) := dz_42 (bX3_sets_14 3 _ rfl)
theorem dX3_sets_228 : decode cX3_sets 228 = .ok (.getfield 34, 3) := dz_180 (bX3_sets_14 4 _ rfl) (bX3_sets_14 5 _ rfl) (bX3_sets_14 6 _ rfl)
theorem dX3_sets_231 : decode cX3_sets 231 = .ok (.iload_n 2, 1) := dz_28 (bX3_sets_14 7 _ rfl)
theorem dX3_sets_232 : decode cX3_sets 232 = .ok (.iaload, 1) := dz_46 (bX3_sets_14 8 _ rfl)
theorem dX3_sets_233 : decode cX3_sets 233 = .ok (.iadd, 1) := dz_96 (bX3_sets_14 9 _ rfl)
theorem dX3_sets_234 : decode cX3_sets 234 = .ok (.iload 4, 2) := dz_21 (bX3_sets_14 10 _ rfl) (bX3_sets_14 11 _ rfl)
theorem dX3_sets_236 : decode cX3_sets 236 = .ok (.iastore, 1) := dz_79 (bX3_sets_14 12 _ rfl)
theorem dX3_sets_237 : decode cX3_sets 237 = .ok (.aload_n 0, 1) := dz_42 (bX3_sets_14 13 _ rfl)
theorem dX3_sets_238 : decode cX3_sets 238 = .ok (.dup, 1) := dz_89 (bX3_sets_14 14 _ rfl)
theorem dX3_sets_239 : decode cX3_sets 239 = .ok (.getfield 560, 3) := dz_180 (bX3_sets_14 15 _ rfl) (bX3_sets_15 0 _ rfl) (bX3_sets_15 1 _ rfl)
theorem dX3_sets_242 : decode cX3_sets 242 = .ok (.iconst 2, 1) := dz_5 (bX3_sets_15 2 _ rfl)
theorem dX3_sets_243 : decode cX3_sets 243 = .ok (.isub, 1) := dz_100 (bX3_sets_15 3 _ rfl)
theorem dX3_sets_244 : decode cX3_sets 244 = .ok (.putfield 560, 3) := dz_181 (bX3_sets_15 4 _ rfl) (bX3_sets_15 5 _ rfl) (bX3_sets_15 6 _ rfl)
theorem dX3_sets_247 : decode cX3_sets 247 = .ok (.return_, 1) := dz_177 (bX3_sets_15 7 _ rfl)
def m_X3_sets (x1 : Int32) (σ : ch_S) : Option (ch_S) := (ch_ma σ fX3_target x1).bind fun v1 => (ch_ma σ fX3_pile ((σ.1 fX3_piled) - 1)).bind fun v2 => (ch_ma σ fX3_isPileObject ((σ.1 fX3_piled) - 1)).bind fun v3 => (ch_ma σ fX3_is v1).bind fun v4 => if v4 = 19 then ((ch_ma σ fX3_of v1).bind fun v26 => (m_X3_setLocal ((σ.1 fX3_open) - 1) v26 v2 v3 σ).bind fun p27 => (ch_mI p27 fX3_piled ((p27.1 fX3_piled) - 1)).bind fun σ29 => some (σ29)) else ((ch_ma σ fX3_is v1).bind fun v5 => if v5 = 20 then ((ch_ma σ fX3_openThis ((σ.1 fX3_open) - 1)).bind fun v21 => (ch_ma σ fX3_wordsFrom v21).bind fun v22 => (ch_ma σ fX3_of v1).bind fun v23 => (ch_mw σ fX3_words (v22 + v23) v2).bind fun σ24 => (ch_mI σ24 fX3_piled ((σ24.1 fX3_piled) - 1)).bind fun σ25 => some (σ25)) else ((ch_ma σ fX3_is v1).bind fun v6 => if v6 = 7 then ((ch_ma σ fX3_pile (((σ.1 fX3_piled) - 1) - 2)).bind fun v14 => (ch_ma σ fX3_pile (((σ.1 fX3_piled) - 1) - 1)).bind fun v15 => (m_X3_isPlace v14 v15 σ).bind fun p16 => if p16.1 = 0 then (some (p16.2)) else ((ch_ma p16.2 fX3_wordsFrom v14).bind fun v18 => (ch_mw p16.2 fX3_words (v18 + v15) v2).bind fun σ19 => (ch_mI σ19 fX3_piled ((σ19.1 fX3_piled) - 3)).bind fun σ20 => some (σ20))) else ((ch_ma σ fX3_pile (((σ.1 fX3_piled) - 1) - 1)).bind fun v7 => if v7 < 0 then ((m_X3_faults 0 σ).bind fun p12 => some (p12)) else ((ch_ma σ fX3_wordsFrom v7).bind fun v8 => (ch_ma σ fX3_of v1).bind fun v9 => (ch_mw σ fX3_words (v8 + v9) v2).bind fun σ10 => (ch_mI σ10 fX3_piled ((σ10.1 fX3_piled) - 2)).bind fun σ11 => some (σ11)))))
theorem s_X3_sets {g : State} {m : Nat} {w : ch_W} {x1 : Int32} {σ : ch_S} {res : ch_S} {Q : Outcome → ch_W → Prop} (h : m_X3_sets x1 σ = some res) (hk : (fun r => ch_eV Q (ch_put m w r)) res) : ch_CT g false yX3_sets 6 [.ref m, .int x1] (ch_put m w σ) Q := by
  unfold m_X3_sets at h
  refine ch_ctL mX3_sets (ls := [some (va_rf (some m)), some (.int x1), none, none, none, none, none, none]) q2313 rfl (ch_lyr (r := some m) (ch_lyi ch_ly0)) (Nat.le_of_ble_eq_true rfl) rfl ?_
  refine ch_aload_n 0 (some m) dX3_sets_0 rfl (mp_gA 30 dX3_sets_1 fl_X3_58 rfl (ch_iload_n 1 _ dX3_sets_4 rfl (mp_iald dX3_sets_5 mk_30 h (fun v1 h => ?_))))
  refine ch_istore_n 2 _ (ls1 := [some (va_rf (some m)), some (.int x1), some (.int v1), none, none, none, none, none]) dX3_sets_6 (Nat.le_of_ble_eq_true rfl) rfl (ch_aload_n 0 (some m) dX3_sets_7 rfl (mp_gI 100 dX3_sets_8 fl_X3_560 rfl (ch_iconst _ 1 dX3_sets_11 rfl (ch_isub _ _ dX3_sets_12 (ch_istore_n 3 _ (ls1 := [some (va_rf (some m)), some (.int x1), some (.int v1), some (.int ((σ.1 fX3_piled) - 1)), none, none, none, none]) dX3_sets_13 (Nat.le_of_ble_eq_true rfl) rfl (ch_aload_n 0 (some m) dX3_sets_14 rfl (mp_gA 101 dX3_sets_15 fl_X3_198 rfl (?_))))))))
  refine ch_iload_n 3 _ dX3_sets_18 rfl (mp_iald dX3_sets_19 mk_101 h (fun v2 h => ?_))
  refine ch_istore 4 _ (ls1 := [some (va_rf (some m)), some (.int x1), some (.int v1), some (.int ((σ.1 fX3_piled) - 1)), some (.int v2), none, none, none]) dX3_sets_20 (Nat.le_of_ble_eq_true rfl) rfl (ch_aload_n 0 (some m) dX3_sets_22 rfl (mp_gA 102 dX3_sets_23 fl_X3_201 rfl (ch_iload_n 3 _ dX3_sets_26 rfl (mp_zald dX3_sets_27 mk_102 h (fun v3 h => ?_)))))
  refine ch_istore 5 _ (ls1 := [some (va_rf (some m)), some (.int x1), some (.int v1), some (.int ((σ.1 fX3_piled) - 1)), some (.int v2), some (.int v3), none, none]) dX3_sets_28 (Nat.le_of_ble_eq_true rfl) rfl (ch_aload_n 0 (some m) dX3_sets_30 rfl (mp_gA 16 dX3_sets_31 fl_X3_25 rfl (ch_iload_n 2 _ dX3_sets_34 rfl (mp_iald dX3_sets_35 mk_16 h (fun v4 h => ?_)))))
  refine ch_bipush _ 19 dX3_sets_36 rfl (cp_icmp_ne _ _ (tgt := 72) dX3_sets_38 rfl h (fun h => ?_) (fun h => ?_))
  · refine ch_aload_n 0 (some m) dX3_sets_72 rfl (mp_gA 16 dX3_sets_73 fl_X3_25 rfl (ch_iload_n 2 _ dX3_sets_76 rfl (mp_iald dX3_sets_77 mk_16 h (fun v5 h => ?_))))
    refine ch_bipush _ 20 dX3_sets_78 rfl (cp_icmp_ne _ _ (tgt := 124) dX3_sets_80 rfl h (fun h => ?_) (fun h => ?_))
    · refine ch_aload_n 0 (some m) dX3_sets_124 rfl (mp_gA 16 dX3_sets_125 fl_X3_25 rfl (ch_iload_n 2 _ dX3_sets_128 rfl (mp_iald dX3_sets_129 mk_16 h (fun v6 h => ?_))))
      refine ch_bipush _ 7 dX3_sets_130 rfl (cp_icmp_ne _ _ (tgt := 195) dX3_sets_132 rfl h (fun h => ?_) (fun h => ?_))
      · refine ch_aload_n 0 (some m) dX3_sets_195 rfl (mp_gA 101 dX3_sets_196 fl_X3_198 rfl (ch_iload_n 3 _ dX3_sets_199 rfl (ch_iconst _ 1 dX3_sets_200 rfl (ch_isub _ _ dX3_sets_201 (mp_iald dX3_sets_202 mk_101 h (fun v7 h => ?_))))))
        refine ch_istore 6 _ (ls1 := [some (va_rf (some m)), some (.int x1), some (.int v1), some (.int ((σ.1 fX3_piled) - 1)), some (.int v2), some (.int v3), some (.int v7), none]) dX3_sets_203 (Nat.le_of_ble_eq_true rfl) rfl (ch_iload 6 _ dX3_sets_205 rfl (cp_if_ge _ (tgt := 216) dX3_sets_207 rfl h (fun h => ?_) (fun h => ?_)))
        · refine ch_aload_n 0 (some m) dX3_sets_216 rfl (mp_gA 91 dX3_sets_217 fl_X3_172 rfl (ch_aload_n 0 (some m) dX3_sets_220 rfl (mp_gA 84 dX3_sets_221 fl_X3_157 rfl (ch_iload 6 _ dX3_sets_224 rfl (mp_iald dX3_sets_226 mk_84 h (fun v8 h => ?_))))))
          refine ch_aload_n 0 (some m) dX3_sets_227 rfl (mp_gA 19 dX3_sets_228 fl_X3_34 rfl (ch_iload_n 2 _ dX3_sets_231 rfl (mp_iald dX3_sets_232 mk_19 h (fun v9 h => ?_))))
          refine ch_iadd _ _ dX3_sets_233 (ch_iload 4 _ dX3_sets_234 rfl (mp_iast dX3_sets_236 mk_91 rfl h (fun σ10 h => ?_)))
          refine ch_aload_n 0 (some m) dX3_sets_237 rfl (ch_dup dX3_sets_238 (ch_cat _) (mp_gI 100 dX3_sets_239 fl_X3_560 rfl (ch_iconst _ 2 dX3_sets_242 rfl (ch_isub _ _ dX3_sets_243 (mp_pI (k := 100) dX3_sets_244 fl_X3_560 rfl rfl rfl h (fun σ11 h => ?_))))))
          obtain rfl := Option.some.inj h
          exact ch_return dX3_sets_247 rfl hk
        · obtain ⟨p12, hp13, h⟩ := ch_bd h
          refine ch_aload_n 0 (some m) dX3_sets_210 rfl (ch_iconst _ 0 dX3_sets_211 rfl (ch_iv yX3_faults prog_14_method_86_code 2 none (ci := 3) (q := (RX3, TX3, 109)) (b := m) (d' := 4) (av := [.int 0]) (rest := []) rfl dX3_sets_212 q2279 q2281 rfl qs191 q2282 can_X3_faults (Nat.le_of_ble_eq_true rfl) (Nat.le_of_ble_eq_true rfl) ch_put_tag (cp_kV (w1 := ch_put m w p12) (fun Q' hq => s_X3_faults hp13 hq) ?_)))
          obtain rfl := Option.some.inj h
          exact ch_return dX3_sets_215 rfl hk
      · refine ch_aload_n 0 (some m) dX3_sets_135 rfl (mp_gA 101 dX3_sets_136 fl_X3_198 rfl (ch_iload_n 3 _ dX3_sets_139 rfl (ch_iconst _ 2 dX3_sets_140 rfl (ch_isub _ _ dX3_sets_141 (mp_iald dX3_sets_142 mk_101 h (fun v14 h => ?_))))))
        refine ch_istore 6 _ (ls1 := [some (va_rf (some m)), some (.int x1), some (.int v1), some (.int ((σ.1 fX3_piled) - 1)), some (.int v2), some (.int v3), some (.int v14), none]) dX3_sets_143 (Nat.le_of_ble_eq_true rfl) rfl (ch_aload_n 0 (some m) dX3_sets_145 rfl (mp_gA 101 dX3_sets_146 fl_X3_198 rfl (ch_iload_n 3 _ dX3_sets_149 rfl (ch_iconst _ 1 dX3_sets_150 rfl (ch_isub _ _ dX3_sets_151 (mp_iald dX3_sets_152 mk_101 h (fun v15 h => ?_)))))))
        obtain ⟨p16, hp17, h⟩ := ch_bd h
        refine ch_istore 7 _ (ls1 := [some (va_rf (some m)), some (.int x1), some (.int v1), some (.int ((σ.1 fX3_piled) - 1)), some (.int v2), some (.int v3), some (.int v14), some (.int v15)]) dX3_sets_153 (Nat.le_of_ble_eq_true rfl) rfl (ch_aload_n 0 (some m) dX3_sets_155 rfl (ch_iload 6 _ dX3_sets_156 rfl (ch_iload 7 _ dX3_sets_158 rfl (ch_iv yX3_isPlace prog_14_method_96_code 3 (some .boolean) (ci := 3) (q := (RX3, TX3, 109)) (b := m) (d' := 5) (av := [.int v14, .int v15]) (rest := []) rfl dX3_sets_160 q2287 q2289 rfl qs193 q2290 can_X3_isPlace (Nat.le_of_ble_eq_true rfl) (Nat.le_of_ble_eq_true rfl) ch_put_tag (cp_kI (v := p16.1) (w1 := ch_put m w p16.2) (fun Q' hq => s_X3_isPlace hp17 hq) ?_)))))
        refine cp_if_ne _ (tgt := 167) dX3_sets_163 rfl h (fun h => ?_) (fun h => ?_)
        · refine ch_aload_n 0 (some m) dX3_sets_167 rfl (mp_gA 91 dX3_sets_168 fl_X3_172 rfl (ch_aload_n 0 (some m) dX3_sets_171 rfl (mp_gA 84 dX3_sets_172 fl_X3_157 rfl (ch_iload 6 _ dX3_sets_175 rfl (mp_iald dX3_sets_177 mk_84 h (fun v18 h => ?_))))))
          refine ch_iload 7 _ dX3_sets_178 rfl (ch_iadd _ _ dX3_sets_180 (ch_iload 4 _ dX3_sets_181 rfl (mp_iast dX3_sets_183 mk_91 rfl h (fun σ19 h => ?_))))
          refine ch_aload_n 0 (some m) dX3_sets_184 rfl (ch_dup dX3_sets_185 (ch_cat _) (mp_gI 100 dX3_sets_186 fl_X3_560 rfl (ch_iconst _ 3 dX3_sets_189 rfl (ch_isub _ _ dX3_sets_190 (mp_pI (k := 100) dX3_sets_191 fl_X3_560 rfl rfl rfl h (fun σ20 h => ?_))))))
          obtain rfl := Option.some.inj h
          exact ch_return dX3_sets_194 rfl hk
        · obtain rfl := Option.some.inj h
          exact ch_return dX3_sets_166 rfl hk
    · refine ch_aload_n 0 (some m) dX3_sets_83 rfl (mp_gA 91 dX3_sets_84 fl_X3_172 rfl (ch_aload_n 0 (some m) dX3_sets_87 rfl (mp_gA 84 dX3_sets_88 fl_X3_157 rfl (ch_aload_n 0 (some m) dX3_sets_91 rfl (mp_gA 94 dX3_sets_92 fl_X3_178 rfl (ch_aload_n 0 (some m) dX3_sets_95 rfl (mp_gI 93 dX3_sets_96 fl_X3_554 rfl (?_))))))))
      refine ch_iconst _ 1 dX3_sets_99 rfl (ch_isub _ _ dX3_sets_100 (mp_iald dX3_sets_101 mk_94 h (fun v21 h => ?_)))
      refine mp_iald dX3_sets_102 mk_84 h (fun v22 h => ?_)
      refine ch_aload_n 0 (some m) dX3_sets_103 rfl (mp_gA 19 dX3_sets_104 fl_X3_34 rfl (ch_iload_n 2 _ dX3_sets_107 rfl (mp_iald dX3_sets_108 mk_19 h (fun v23 h => ?_))))
      refine ch_iadd _ _ dX3_sets_109 (ch_iload 4 _ dX3_sets_110 rfl (mp_iast dX3_sets_112 mk_91 rfl h (fun σ24 h => ?_)))
      refine ch_aload_n 0 (some m) dX3_sets_113 rfl (ch_dup dX3_sets_114 (ch_cat _) (mp_gI 100 dX3_sets_115 fl_X3_560 rfl (ch_iconst _ 1 dX3_sets_118 rfl (ch_isub _ _ dX3_sets_119 (mp_pI (k := 100) dX3_sets_120 fl_X3_560 rfl rfl rfl h (fun σ25 h => ?_))))))
      obtain rfl := Option.some.inj h
      exact ch_return dX3_sets_123 rfl hk
  · refine ch_aload_n 0 (some m) dX3_sets_41 rfl (ch_aload_n 0 (some m) dX3_sets_42 rfl (mp_gI 93 dX3_sets_43 fl_X3_554 rfl (ch_iconst _ 1 dX3_sets_46 rfl (ch_isub _ _ dX3_sets_47 (ch_aload_n 0 (some m) dX3_sets_48 rfl (mp_gA 19 dX3_sets_49 fl_X3_34 rfl (ch_iload_n 2 _ dX3_sets_52 rfl (?_))))))))
    refine mp_iald dX3_sets_53 mk_19 h (fun v26 h => ?_)
    obtain ⟨p27, hp28, h⟩ := ch_bd h
    refine ch_iload 4 _ dX3_sets_54 rfl (ch_iload 5 _ dX3_sets_56 rfl (ch_iv yX3_setLocal prog_14_method_87_code 5 none (ci := 3) (q := (RX3, TX3, 109)) (b := m) (d' := 2) (av := [.int ((σ.1 fX3_open) - 1), .int v26, .int v2, .int v3]) (rest := []) rfl dX3_sets_58 q2202 q2204 rfl qs173 q2205 can_X3_setLocal (Nat.le_of_ble_eq_true rfl) (Nat.le_of_ble_eq_true rfl) ch_put_tag (cp_kV (w1 := ch_put m w p27) (fun Q' hq => s_X3_setLocal hp28 hq) ?_)))
    refine ch_aload_n 0 (some m) dX3_sets_61 rfl (ch_dup dX3_sets_62 (ch_cat _) (mp_gI 100 dX3_sets_63 fl_X3_560 rfl (ch_iconst _ 1 dX3_sets_66 rfl (ch_isub _ _ dX3_sets_67 (mp_pI (k := 100) dX3_sets_68 fl_X3_560 rfl rfl rfl h (fun σ29 h => ?_))))))
    obtain rfl := Option.some.inj h
    exact ch_return dX3_sets_71 rfl hk

theorem bX3_done_0 : ch_ck cX3_done 0 [42, 180, 2, 42, 4, 100, 61, 42, 180, 2, 48, 4, 100, 62, 42, 180] := ch_ckof (by decide +kernel)
theorem bX3_done_1 : ch_ck cX3_done 16 [0, 46, 27, 46, 170, 0, 0, 0, 0, 0, 1, 42, 0, 0, 0, 0] := ch_ckof (by decide +kernel)
theorem bX3_done_2 : ch_ck cX3_done 32 [0, 0, 0, 6, 0, 0, 0, 44, 0, 0, 0, 94, 0, 0, 0, 148] := ch_ckof (by decide +kernel)
theorem bX3_done_3 : ch_ck cX3_done 48 [0, 0, 0, 212, 0, 0, 0, 220, 0, 0, 1, 42, 0, 0, 0, 250] := ch_ckof (by decide +kernel)
theorem bX3_done_4 : ch_ck cX3_done 64 [42, 28, 42, 180, 0, 67, 27, 46, 42, 180, 0, 198, 29, 46, 42, 180] := ch_ckof (by decide +kernel)
theorem bX3_done_5 : ch_ck cX3_done 80 [0, 201, 29, 51, 182, 2, 86, 42, 180, 0, 184, 28, 42, 180, 0, 67] := ch_ckof (by decide +kernel)
theorem bX3_done_6 : ch_ck cX3_done 96 [27, 46, 4, 96, 79, 42, 89, 180, 2, 48, 4, 100, 181, 2, 48, 167] := ch_ckof (by decide +kernel)
theorem bX3_done_7 : ch_ck cX3_done 112 [0, 212, 42, 89, 180, 2, 48, 4, 100, 181, 2, 48, 42, 8, 42, 180] := ch_ckof (by decide +kernel)
theorem bX3_done_8 : ch_ck cX3_done 128 [0, 184, 28, 46, 182, 2, 84, 42, 6, 42, 180, 0, 198, 29, 46, 4] := ch_ckof (by decide +kernel)
theorem bX3_done_9 : ch_ck cX3_done 144 [160, 0, 12, 42, 180, 0, 70, 27, 46, 167, 0, 9, 42, 180, 0, 73] := ch_ckof (by decide +kernel)
theorem bX3_done_10 : ch_ck cX3_done 160 [27, 46, 182, 2, 84, 167, 0, 158, 42, 89, 180, 2, 48, 4, 100, 181] := ch_ckof (by decide +kernel)
theorem bX3_done_11 : ch_ck cX3_done 176 [2, 48, 42, 180, 0, 198, 29, 46, 154, 0, 6, 167, 0, 136, 42, 7] := ch_ckof (by decide +kernel)
theorem bX3_done_12 : ch_ck cX3_done 192 [27, 182, 2, 84, 42, 3, 42, 180, 0, 55, 27, 46, 182, 2, 84, 42] := ch_ckof (by decide +kernel)
theorem bX3_done_13 : ch_ck cX3_done 208 [8, 42, 180, 0, 184, 28, 46, 182, 2, 84, 42, 6, 42, 180, 0, 70] := ch_ckof (by decide +kernel)
theorem bX3_done_14 : ch_ck cX3_done 224 [27, 46, 182, 2, 84, 167, 0, 94, 42, 27, 182, 2, 142, 167, 0, 86] := ch_ckof (by decide +kernel)
theorem bX3_done_15 : ch_ck cX3_done 240 [42, 180, 0, 198, 29, 46, 156, 0, 11, 42, 3, 182, 2, 126, 167, 0] := ch_ckof (by decide +kernel)
theorem bX3_done_16 : ch_ck cX3_done 256 [69, 42, 42, 180, 0, 198, 29, 46, 182, 2, 96, 167, 0, 56, 42, 180] := ch_ckof (by decide +kernel)
theorem bX3_done_17 : ch_ck cX3_done 272 [2, 145, 17, 1, 244, 162, 0, 18, 42, 180, 0, 148, 42, 180, 2, 145] := ch_ckof (by decide +kernel)
theorem bX3_done_18 : ch_ck cX3_done 288 [42, 180, 0, 198, 29, 46, 79, 42, 89, 180, 2, 145, 4, 96, 181, 2] := ch_ckof (by decide +kernel)
theorem bX3_done_19 : ch_ck cX3_done 304 [145, 42, 89, 180, 2, 48, 4, 100, 181, 2, 48, 167, 0, 8, 42, 27] := ch_ckof (by decide +kernel)
theorem bX3_done_20 : ch_ck cX3_done 320 [182, 2, 148, 177] := ch_ckof (by decide +kernel)
theorem dX3_done_0 : decode cX3_done 0 = .ok (.aload_n 0, 1) := dz_42 (bX3_done_0 0 _ rfl)
theorem dX3_done_1 : decode cX3_done 1 = .ok (.getfield 554, 3) := dz_180 (bX3_done_0 1 _ rfl) (bX3_done_0 2 _ rfl) (bX3_done_0 3 _ rfl)
theorem dX3_done_4 : decode cX3_done 4 = .ok (.iconst 1, 1) := dz_4 (bX3_done_0 4 _ rfl)
theorem dX3_done_5 : decode cX3_done 5 = .ok (.isub, 1) := dz_100 (bX3_done_0 5 _ rfl)
theorem dX3_done_6 : decode cX3_done 6 = .ok (.istore_n 2, 1) := dz_61 (bX3_done_0 6 _ rfl)
theorem dX3_done_7 : decode cX3_done 7 = .ok (.aload_n 0, 1) := dz_42 (bX3_done_0 7 _ rfl)
theorem dX3_done_8 : decode cX3_done 8 = .ok (.getfield 560, 3) := dz_180 (bX3_done_0 8 _ rfl) (bX3_done_0 9 _ rfl) (bX3_done_0 10 _ rfl)
theorem dX3_done_11 : decode cX3_done 11 = .ok (.iconst 1, 1) := dz_4 (bX3_done_0 11 _ rfl)
theorem dX3_done_12 : decode cX3_done 12 = .ok (.isub, 1) := dz_100 (bX3_done_0 12 _ rfl)
theorem dX3_done_13 : decode cX3_done 13 = .ok (.istore_n 3, 1) := dz_62 (bX3_done_0 13 _ rfl)
theorem dX3_done_14 : decode cX3_done 14 = .ok (.aload_n 0, 1) := dz_42 (bX3_done_0 14 _ rfl)
theorem dX3_done_15 : decode cX3_done 15 = .ok (.getfield 46, 3) := dz_180 (bX3_done_0 15 _ rfl) (bX3_done_1 0 _ rfl) (bX3_done_1 1 _ rfl)
theorem dX3_done_18 : decode cX3_done 18 = .ok (.iload_n 1, 1) := dz_27 (bX3_done_1 2 _ rfl)
theorem dX3_done_19 : decode cX3_done 19 = .ok (.iaload, 1) := dz_46 (bX3_done_1 3 _ rfl)
theorem dX3_done_20 : decode cX3_done 20 = .ok (.tableswitch 298 0 6 #[44, 94, 148, 212, 220, 298, 250], 44) := by decide +kernel
theorem dX3_done_64 : decode cX3_done 64 = .ok (.aload_n 0, 1) := dz_42 (bX3_done_4 0 _ rfl)
theorem dX3_done_65 : decode cX3_done 65 = .ok (.iload_n 2, 1) := dz_28 (bX3_done_4 1 _ rfl)
theorem dX3_done_66 : decode cX3_done 66 = .ok (.aload_n 0, 1) := dz_42 (bX3_done_4 2 _ rfl)
theorem dX3_done_67 : decode cX3_done 67 = .ok (.getfield 67, 3) := dz_180 (bX3_done_4 3 _ rfl) (bX3_done_4 4 _ rfl) (bX3_done_4 5 _ rfl)
theorem dX3_done_70 : decode cX3_done 70 = .ok (.iload_n 1, 1) := dz_27 (bX3_done_4 6 _ rfl)
theorem dX3_done_71 : decode cX3_done 71 = .ok (.iaload, 1) := dz_46 (bX3_done_4 7 _ rfl)
theorem dX3_done_72 : decode cX3_done 72 = .ok (.aload_n 0, 1) := dz_42 (bX3_done_4 8 _ rfl)
theorem dX3_done_73 : decode cX3_done 73 = .ok (.getfield 198, 3) := dz_180 (bX3_done_4 9 _ rfl) (bX3_done_4 10 _ rfl) (bX3_done_4 11 _ rfl)
theorem dX3_done_76 : decode cX3_done 76 = .ok (.iload_n 3, 1) := dz_29 (bX3_done_4 12 _ rfl)
theorem dX3_done_77 : decode cX3_done 77 = .ok (.iaload, 1) := dz_46 (bX3_done_4 13 _ rfl)
theorem dX3_done_78 : decode cX3_done 78 = .ok (.aload_n 0, 1) := dz_42 (bX3_done_4 14 _ rfl)
theorem dX3_done_79 : decode cX3_done 79 = .ok (.getfield 201, 3) := dz_180 (bX3_done_4 15 _ rfl) (bX3_done_5 0 _ rfl) (bX3_done_5 1 _ rfl)
theorem dX3_done_82 : decode cX3_done 82 = .ok (.iload_n 3, 1) := dz_29 (bX3_done_5 2 _ rfl)
theorem dX3_done_83 : decode cX3_done 83 = .ok (.baload, 1) := dz_51 (bX3_done_5 3 _ rfl)
theorem dX3_done_84 : decode cX3_done 84 = .ok (.invokevirtual 598, 3) := dz_182 (bX3_done_5 4 _ rfl) (bX3_done_5 5 _ rfl) (bX3_done_5 6 _ rfl)
theorem dX3_done_87 : decode cX3_done 87 = .ok (.aload_n 0, 1) := dz_42 (bX3_done_5 7 _ rfl)
theorem dX3_done_88 : decode cX3_done 88 = .ok (.getfield 184, 3) := dz_180 (bX3_done_5 8 _ rfl) (bX3_done_5 9 _ rfl) (bX3_done_5 10 _ rfl)
theorem dX3_done_91 : decode cX3_done 91 = .ok (.iload_n 2, 1) := dz_28 (bX3_done_5 11 _ rfl)
theorem dX3_done_92 : decode cX3_done 92 = .ok (.aload_n 0, 1) := dz_42 (bX3_done_5 12 _ rfl)
theorem dX3_done_93 : decode cX3_done 93 = .ok (.getfield 67, 3) := dz_180 (bX3_done_5 13 _ rfl) (bX3_done_5 14 _ rfl) (bX3_done_5 15 _ rfl)
theorem dX3_done_96 : decode cX3_done 96 = .ok (.iload_n 1, 1) := dz_27 (bX3_done_6 0 _ rfl)
theorem dX3_done_97 : decode cX3_done 97 = .ok (.iaload, 1) := dz_46 (bX3_done_6 1 _ rfl)
theorem dX3_done_98 : decode cX3_done 98 = .ok (.iconst 1, 1) := dz_4 (bX3_done_6 2 _ rfl)
theorem dX3_done_99 : decode cX3_done 99 = .ok (.iadd, 1) := dz_96 (bX3_done_6 3 _ rfl)
theorem dX3_done_100 : decode cX3_done 100 = .ok (.iastore, 1) := dz_79 (bX3_done_6 4 _ rfl)
theorem dX3_done_101 : decode cX3_done 101 = .ok (.aload_n 0, 1) := dz_42 (bX3_done_6 5 _ rfl)
theorem dX3_done_102 : decode cX3_done 102 = .ok (.dup, 1) := dz_89 (bX3_done_6 6 _ rfl)
theorem dX3_done_103 : decode cX3_done 103 = .ok (.getfield 560, 3) := dz_180 (bX3_done_6 7 _ rfl) (bX3_done_6 8 _ rfl) (bX3_done_6 9 _ rfl)
theorem dX3_done_106 : decode cX3_done 106 = .ok (.iconst 1, 1) := dz_4 (bX3_done_6 10 _ rfl)
theorem dX3_done_107 : decode cX3_done 107 = .ok (.isub, 1) := dz_100 (bX3_done_6 11 _ rfl)
theorem dX3_done_108 : decode cX3_done 108 = .ok (.putfield 560, 3) := dz_181 (bX3_done_6 12 _ rfl) (bX3_done_6 13 _ rfl) (bX3_done_6 14 _ rfl)
theorem dX3_done_111 : decode cX3_done 111 = .ok (.goto 212, 3) := dz_167 (bX3_done_6 15 _ rfl) (bX3_done_7 0 _ rfl) (bX3_done_7 1 _ rfl)
theorem dX3_done_114 : decode cX3_done 114 = .ok (.aload_n 0, 1) := dz_42 (bX3_done_7 2 _ rfl)
theorem dX3_done_115 : decode cX3_done 115 = .ok (.dup, 1) := dz_89 (bX3_done_7 3 _ rfl)
theorem dX3_done_116 : decode cX3_done 116 = .ok (.getfield 560, 3) := dz_180 (bX3_done_7 4 _ rfl) (bX3_done_7 5 _ rfl) (bX3_done_7 6 _ rfl)
theorem dX3_done_119 : decode cX3_done 119 = .ok (.iconst 1, 1) := dz_4 (bX3_done_7 7 _ rfl)
theorem dX3_done_120 : decode cX3_done 120 = .ok (.isub, 1) := dz_100 (bX3_done_7 8 _ rfl)
theorem dX3_done_121 : decode cX3_done 121 = .ok (.putfield 560, 3) := dz_181 (bX3_done_7 9 _ rfl) (bX3_done_7 10 _ rfl) (bX3_done_7 11 _ rfl)
theorem dX3_done_124 : decode cX3_done 124 = .ok (.aload_n 0, 1) := dz_42 (bX3_done_7 12 _ rfl)
theorem dX3_done_125 : decode cX3_done 125 = .ok (.iconst 5, 1) := dz_8 (bX3_done_7 13 _ rfl)
theorem dX3_done_126 : decode cX3_done 126 = .ok (.aload_n 0, 1) := dz_42 (bX3_done_7 14 _ rfl)
theorem dX3_done_127 : decode cX3_done 127 = .ok (.getfield 184, 3) := dz_180 (bX3_done_7 15 _ rfl) (bX3_done_8 0 _ rfl) (bX3_done_8 1 _ rfl)
theorem dX3_done_130 : decode cX3_done 130 = .ok (.iload_n 2, 1) := dz_28 (bX3_done_8 2 _ rfl)
theorem dX3_done_131 : decode cX3_done 131 = .ok (.iaload, 1) := dz_46 (bX3_done_8 3 _ rfl)
theorem dX3_done_132 : decode cX3_done 132 = .ok (.invokevirtual 596, 3) := dz_182 (bX3_done_8 4 _ rfl) (bX3_done_8 5 _ rfl) (bX3_done_8 6 _ rfl)
theorem dX3_done_135 : decode cX3_done 135 = .ok (.aload_n 0, 1) := dz_42 (bX3_done_8 7 _ rfl)
theorem dX3_done_136 : decode cX3_done 136 = .ok (.iconst 3, 1) := dz_6 (bX3_done_8 8 _ rfl)
theorem dX3_done_137 : decode cX3_done 137 = .ok (.aload_n 0, 1) := dz_42 (bX3_done_8 9 _ rfl)
theorem dX3_done_138 : decode cX3_done 138 = .ok (.getfield 198, 3) := dz_180 (bX3_done_8 10 _ rfl) (bX3_done_8 11 _ rfl) (bX3_done_8 12 _ rfl)
theorem dX3_done_141 : decode cX3_done 141 = .ok (.iload_n 3, 1) := dz_29 (bX3_done_8 13 _ rfl)
theorem dX3_done_142 : decode cX3_done 142 = .ok (.iaload, 1) := dz_46 (bX3_done_8 14 _ rfl)
theorem dX3_done_143 : decode cX3_done 143 = .ok (.iconst 1, 1) := dz_4 (bX3_done_8 15 _ rfl)
theorem dX3_done_144 : decode cX3_done 144 = .ok (.if_icmp .ne 12, 3) := dz_160 (bX3_done_9 0 _ rfl) (bX3_done_9 1 _ rfl) (bX3_done_9 2 _ rfl)
theorem dX3_done_147 : decode cX3_done 147 = .ok (.aload_n 0, 1) := dz_42 (bX3_done_9 3 _ rfl)
theorem dX3_done_148 : decode cX3_done 148 = .ok (.getfield 70, 3) := dz_180 (bX3_done_9 4 _ rfl) (bX3_done_9 5 _ rfl) (bX3_done_9 6 _ rfl)
theorem dX3_done_151 : decode cX3_done 151 = .ok (.iload_n 1, 1) := dz_27 (bX3_done_9 7 _ rfl)
theorem dX3_done_152 : decode cX3_done 152 = .ok (.iaload, 1) := dz_46 (bX3_done_9 8 _ rfl)
theorem dX3_done_153 : decode cX3_done 153 = .ok (.goto 9, 3) := dz_167 (bX3_done_9 9 _ rfl) (bX3_done_9 10 _ rfl) (bX3_done_9 11 _ rfl)
theorem dX3_done_156 : decode cX3_done 156 = .ok (.aload_n 0, 1) := dz_42 (bX3_done_9 12 _ rfl)
theorem dX3_done_157 : decode cX3_done 157 = .ok (.getfield 73, 3) := dz_180 (bX3_done_9 13 _ rfl) (bX3_done_9 14 _ rfl) (bX3_done_9 15 _ rfl)
theorem dX3_done_160 : decode cX3_done 160 = .ok (.iload_n 1, 1) := dz_27 (bX3_done_10 0 _ rfl)
theorem dX3_done_161 : decode cX3_done 161 = .ok (.iaload, 1) := dz_46 (bX3_done_10 1 _ rfl)
theorem dX3_done_162 : decode cX3_done 162 = .ok (.invokevirtual 596, 3) := dz_182 (bX3_done_10 2 _ rfl) (bX3_done_10 3 _ rfl) (bX3_done_10 4 _ rfl)
theorem dX3_done_165 : decode cX3_done 165 = .ok (.goto 158, 3) := dz_167 (bX3_done_10 5 _ rfl) (bX3_done_10 6 _ rfl) (bX3_done_10 7 _ rfl)
theorem dX3_done_168 : decode cX3_done 168 = .ok (.aload_n 0, 1) := dz_42 (bX3_done_10 8 _ rfl)
theorem dX3_done_169 : decode cX3_done 169 = .ok (.dup, 1) := dz_89 (bX3_done_10 9 _ rfl)
theorem dX3_done_170 : decode cX3_done 170 = .ok (.getfield 560, 3) := dz_180 (bX3_done_10 10 _ rfl) (bX3_done_10 11 _ rfl) (bX3_done_10 12 _ rfl)
theorem dX3_done_173 : decode cX3_done 173 = .ok (.iconst 1, 1) := dz_4 (bX3_done_10 13 _ rfl)
theorem dX3_done_174 : decode cX3_done 174 = .ok (.isub, 1) := dz_100 (bX3_done_10 14 _ rfl)
theorem dX3_done_175 : decode cX3_done 175 = .ok (.putfield 560, 3) := dz_181 (bX3_done_10 15 _ rfl) (bX3_done_11 0 _ rfl) (bX3_done_11 1 _ rfl)
theorem dX3_done_178 : decode cX3_done 178 = .ok (.aload_n 0, 1) := dz_42 (bX3_done_11 2 _ rfl)
theorem dX3_done_179 : decode cX3_done 179 = .ok (.getfield 198, 3) := dz_180 (bX3_done_11 3 _ rfl) (bX3_done_11 4 _ rfl) (bX3_done_11 5 _ rfl)
theorem dX3_done_182 : decode cX3_done 182 = .ok (.iload_n 3, 1) := dz_29 (bX3_done_11 6 _ rfl)
theorem dX3_done_183 : decode cX3_done 183 = .ok (.iaload, 1) := dz_46 (bX3_done_11 7 _ rfl)
theorem dX3_done_184 : decode cX3_done 184 = .ok (.ifCond .ne 6, 3) := dz_154 (bX3_done_11 8 _ rfl) (bX3_done_11 9 _ rfl) (bX3_done_11 10 _ rfl)
theorem dX3_done_187 : decode cX3_done 187 = .ok (.goto 136, 3) := dz_167 (bX3_done_11 11 _ rfl) (bX3_done_11 12 _ rfl) (bX3_done_11 13 _ rfl)
theorem dX3_done_190 : decode cX3_done 190 = .ok (.aload_n 0, 1) := dz_42 (bX3_done_11 14 _ rfl)
theorem dX3_done_191 : decode cX3_done 191 = .ok (.iconst 4, 1) := dz_7 (bX3_done_11 15 _ rfl)
theorem dX3_done_192 : decode cX3_done 192 = .ok (.iload_n 1, 1) := dz_27 (bX3_done_12 0 _ rfl)
theorem dX3_done_193 : decode cX3_done 193 = .ok (.invokevirtual 596, 3) := dz_182 (bX3_done_12 1 _ rfl) (bX3_done_12 2 _ rfl) (bX3_done_12 3 _ rfl)
theorem dX3_done_196 : decode cX3_done 196 = .ok (.aload_n 0, 1) := dz_42 (bX3_done_12 4 _ rfl)
theorem dX3_done_197 : decode cX3_done 197 = .ok (.iconst 0, 1) := dz_3 (bX3_done_12 5 _ rfl)
theorem dX3_done_198 : decode cX3_done 198 = .ok (.aload_n 0, 1) := dz_42 (bX3_done_12 6 _ rfl)
theorem dX3_done_199 : decode cX3_done 199 = .ok (.getfield 55, 3) := dz_180 (bX3_done_12 7 _ rfl) (bX3_done_12 8 _ rfl) (bX3_done_12 9 _ rfl)
theorem dX3_done_202 : decode cX3_done 202 = .ok (.iload_n 1, 1) := dz_27 (bX3_done_12 10 _ rfl)
theorem dX3_done_203 : decode cX3_done 203 = .ok (.iaload, 1) := dz_46 (bX3_done_12 11 _ rfl)
theorem dX3_done_204 : decode cX3_done 204 = .ok (.invokevirtual 596, 3) := dz_182 (bX3_done_12 12 _ rfl) (bX3_done_12 13 _ rfl) (bX3_done_12 14 _ rfl)
theorem dX3_done_207 : decode cX3_done 207 = .ok (.aload_n 0, 1) := dz_42 (bX3_done_12 15 _ rfl)
theorem dX3_done_208 : decode cX3_done 208 = .ok (.iconst 5, 1) := dz_8 (bX3_done_13 0 _ rfl)
theorem dX3_done_209 : decode cX3_done 209 = .ok (.aload_n 0, 1) := dz_42 (bX3_done_13 1 _ rfl)
theorem dX3_done_210 : decode cX3_done 210 = .ok (.getfield 184, 3) := dz_180 (bX3_done_13 2 _ rfl) (bX3_done_13 3 _ rfl) (bX3_done_13 4 _ rfl)
theorem dX3_done_213 : decode cX3_done 213 = .ok (.iload_n 2, 1) := dz_28 (bX3_done_13 5 _ rfl)
theorem dX3_done_214 : decode cX3_done 214 = .ok (.iaload, 1) := dz_46 (bX3_done_13 6 _ rfl)
theorem dX3_done_215 : decode cX3_done 215 = .ok (.invokevirtual 596, 3) := dz_182 (bX3_done_13 7 _ rfl) (bX3_done_13 8 _ rfl) (bX3_done_13 9 _ rfl)
theorem dX3_done_218 : decode cX3_done 218 = .ok (.aload_n 0, 1) := dz_42 (bX3_done_13 10 _ rfl)
theorem dX3_done_219 : decode cX3_done 219 = .ok (.iconst 3, 1) := dz_6 (bX3_done_13 11 _ rfl)
theorem dX3_done_220 : decode cX3_done 220 = .ok (.aload_n 0, 1) := dz_42 (bX3_done_13 12 _ rfl)
theorem dX3_done_221 : decode cX3_done 221 = .ok (.getfield 70, 3) := dz_180 (bX3_done_13 13 _ rfl) (bX3_done_13 14 _ rfl) (bX3_done_13 15 _ rfl)
theorem dX3_done_224 : decode cX3_done 224 = .ok (.iload_n 1, 1) := dz_27 (bX3_done_14 0 _ rfl)
theorem dX3_done_225 : decode cX3_done 225 = .ok (.iaload, 1) := dz_46 (bX3_done_14 1 _ rfl)
theorem dX3_done_226 : decode cX3_done 226 = .ok (.invokevirtual 596, 3) := dz_182 (bX3_done_14 2 _ rfl) (bX3_done_14 3 _ rfl) (bX3_done_14 4 _ rfl)
theorem dX3_done_229 : decode cX3_done 229 = .ok (.goto 94, 3) := dz_167 (bX3_done_14 5 _ rfl) (bX3_done_14 6 _ rfl) (bX3_done_14 7 _ rfl)
theorem dX3_done_232 : decode cX3_done 232 = .ok (.aload_n 0, 1) := dz_42 (bX3_done_14 8 _ rfl)
theorem dX3_done_233 : decode cX3_done 233 = .ok (.iload_n 1, 1) := dz_27 (bX3_done_14 9 _ rfl)
theorem dX3_done_234 : decode cX3_done 234 = .ok (.invokevirtual 654, 3) := dz_182 (bX3_done_14 10 _ rfl) (bX3_done_14 11 _ rfl) (bX3_done_14 12 _ rfl)
theorem dX3_done_237 : decode cX3_done 237 = .ok (.goto 86, 3) := dz_167 (bX3_done_14 13 _ rfl) (bX3_done_14 14 _ rfl) (bX3_done_14 15 _ rfl)
theorem dX3_done_240 : decode cX3_done 240 = .ok (.aload_n 0, 1) := dz_42 (bX3_done_15 0 _ rfl)
theorem dX3_done_241 : decode cX3_done 241 = .ok (.getfield 198, 3) := dz_180 (bX3_done_15 1 _ rfl) (bX3_done_15 2 _ rfl) (bX3_done_15 3 _ rfl)
theorem dX3_done_244 : decode cX3_done 244 = .ok (.iload_n 3, 1) := dz_29 (bX3_done_15 4 _ rfl)
theorem dX3_done_245 : decode cX3_done 245 = .ok (.iaload, 1) := dz_46 (bX3_done_15 5 _ rfl)
theorem dX3_done_246 : decode cX3_done 246 = .ok (.ifCond .ge 11, 3) := dz_156 (bX3_done_15 6 _ rfl) (bX3_done_15 7 _ rfl) (bX3_done_15 8 _ rfl)
theorem dX3_done_249 : decode cX3_done 249 = .ok (.aload_n 0, 1) := dz_42 (bX3_done_15 9 _ rfl)
theorem dX3_done_250 : decode cX3_done 250 = .ok (.iconst 0, 1) := dz_3 (bX3_done_15 10 _ rfl)
theorem dX3_done_251 : decode cX3_done 251 = .ok (.invokevirtual 638, 3) := dz_182 (bX3_done_15 11 _ rfl) (bX3_done_15 12 _ rfl) (bX3_done_15 13 _ rfl)
theorem dX3_done_254 : decode cX3_done 254 = .ok (.goto 69, 3) := dz_167 (bX3_done_15 14 _ rfl) (bX3_done_15 15 _ rfl) (bX3_done_16 0 _ rfl)
theorem dX3_done_257 : decode cX3_done 257 = .ok (.aload_n 0, 1) := dz_42 (bX3_done_16 1 _ rfl)
theorem dX3_done_258 : decode cX3_done 258 = .ok (.aload_n 0, 1) := dz_42 (bX3_done_16 2 _ rfl)
theorem dX3_done_259 : decode cX3_done 259 = .ok (.getfield 198, 3) := dz_180 (bX3_done_16 3 _ rfl) (bX3_done_16 4 _ rfl) (bX3_done_16 5 _ rfl)
theorem dX3_done_262 : decode cX3_done 262 = .ok (.iload_n 3, 1) := dz_29 (bX3_done_16 6 _ rfl)
theorem dX3_done_263 : decode cX3_done 263 = .ok (.iaload, 1) := dz_46 (bX3_done_16 7 _ rfl)
theorem dX3_done_264 : decode cX3_done 264 = .ok (.invokevirtual 608, 3) := dz_182 (bX3_done_16 8 _ rfl) (bX3_done_16 9 _ rfl) (bX3_done_16 10 _ rfl)
theorem dX3_done_267 : decode cX3_done 267 = .ok (.goto 56, 3) := dz_167 (bX3_done_16 11 _ rfl) (bX3_done_16 12 _ rfl) (bX3_done_16 13 _ rfl)
theorem dX3_done_270 : decode cX3_done 270 = .ok (.aload_n 0, 1) := dz_42 (bX3_done_16 14 _ rfl)
theorem dX3_done_271 : decode cX3_done 271 = .ok (.getfield 657, 3) := dz_180 (bX3_done_16 15 _ rfl) (bX3_done_17 0 _ rfl) (bX3_done_17 1 _ rfl)
theorem dX3_done_274 : decode cX3_done 274 = .ok (.sipush 500, 3) := dz_17 (bX3_done_17 2 _ rfl) (bX3_done_17 3 _ rfl) (bX3_done_17 4 _ rfl)
theorem dX3_done_277 : decode cX3_done 277 = .ok (.if_icmp .ge 18, 3) := dz_162 (bX3_done_17 5 _ rfl) (bX3_done_17 6 _ rfl) (bX3_done_17 7 _ rfl)
theorem dX3_done_280 : decode cX3_done 280 = .ok (.aload_n 0, 1) := dz_42 (bX3_done_17 8 _ rfl)
theorem dX3_done_281 : decode cX3_done 281 = .ok (.getfield 148, 3) := dz_180 (bX3_done_17 9 _ rfl) (bX3_done_17 10 _ rfl) (bX3_done_17 11 _ rfl)
theorem dX3_done_284 : decode cX3_done 284 = .ok (.aload_n 0, 1) := dz_42 (bX3_done_17 12 _ rfl)
theorem dX3_done_285 : decode cX3_done 285 = .ok (.getfield 657, 3) := dz_180 (bX3_done_17 13 _ rfl) (bX3_done_17 14 _ rfl) (bX3_done_17 15 _ rfl)
theorem dX3_done_288 : decode cX3_done 288 = .ok (.aload_n 0, 1) := dz_42 (bX3_done_18 0 _ rfl)
theorem dX3_done_289 : decode cX3_done 289 = .ok (.getfield 198, 3) := dz_180 (bX3_done_18 1 _ rfl) (bX3_done_18 2 _ rfl) (bX3_done_18 3 _ rfl)
theorem dX3_done_292 : decode cX3_done 292 = .ok (.iload_n 3, 1) := dz_29 (bX3_done_18 4 _ rfl)
theorem dX3_done_293 : decode cX3_done 293 = .ok (.iaload, 1) := dz_46 (bX3_done_18 5 _ rfl)
theorem dX3_done_294 : decode cX3_done 294 = .ok (.iastore, 1) := dz_79 (bX3_done_18 6 _ rfl)
theorem dX3_done_295 : decode cX3_done 295 = .ok (.aload_n 0, 1) := dz_42 (bX3_done_18 7 _ rfl)
theorem dX3_done_296 : decode cX3_done 296 = .ok (.dup, 1) := dz_89 (bX3_done_18 8 _ rfl)
theorem dX3_done_297 : decode cX3_done 297 = .ok (.getfield 657, 3) := dz_180 (bX3_done_18 9 _ rfl) (bX3_done_18 10 _ rfl) (bX3_done_18 11 _ rfl)
theorem dX3_done_300 : decode cX3_done 300 = .ok (.iconst 1, 1) := dz_4 (bX3_done_18 12 _ rfl)
theorem dX3_done_301 : decode cX3_done 301 = .ok (.iadd, 1) := dz_96 (bX3_done_18 13 _ rfl)
theorem dX3_done_302 : decode cX3_done 302 = .ok (.putfield 657, 3) := dz_181 (bX3_done_18 14 _ rfl) (bX3_done_18 15 _ rfl) (bX3_done_19 0 _ rfl)
theorem dX3_done_305 : decode cX3_done 305 = .ok (.aload_n 0, 1) := dz_42 (bX3_done_19 1 _ rfl)
theorem dX3_done_306 : decode cX3_done 306 = .ok (.dup, 1) := dz_89 (bX3_done_19 2 _ rfl)
theorem dX3_done_307 : decode cX3_done 307 = .ok (.getfield 560, 3) := dz_180 (bX3_done_19 3 _ rfl) (bX3_done_19 4 _ rfl) (bX3_done_19 5 _ rfl)
theorem dX3_done_310 : decode cX3_done 310 = .ok (.iconst 1, 1) := dz_4 (bX3_done_19 6 _ rfl)
theorem dX3_done_311 : decode cX3_done 311 = .ok (.isub, 1) := dz_100 (bX3_done_19 7 _ rfl)
theorem dX3_done_312 : decode cX3_done 312 = .ok (.putfield 560, 3) := dz_181 (bX3_done_19 8 _ rfl) (bX3_done_19 9 _ rfl) (bX3_done_19 10 _ rfl)
theorem dX3_done_315 : decode cX3_done 315 = .ok (.goto 8, 3) := dz_167 (bX3_done_19 11 _ rfl) (bX3_done_19 12 _ rfl) (bX3_done_19 13 _ rfl)
theorem dX3_done_318 : decode cX3_done 318 = .ok (.aload_n 0, 1) := dz_42 (bX3_done_19 14 _ rfl)
theorem dX3_done_319 : decode cX3_done 319 = .ok (.iload_n 1, 1) := dz_27 (bX3_done_19 15 _ rfl)
theorem dX3_done_320 : decode cX3_done 320 = .ok (.invokevirtual 660, 3) := dz_182 (bX3_done_20 0 _ rfl) (bX3_done_20 1 _ rfl) (bX3_done_20 2 _ rfl)
theorem dX3_done_323 : decode cX3_done 323 = .ok (.return_, 1) := dz_177 (bX3_done_20 3 _ rfl)
def m_X3_done_162  (y0 : Int32) (y1 : Int32) (σ : ch_S) : Option (ch_S) := (m_X3_todo y1 y0 σ).bind fun p1 => some (p1)
theorem s_X3_done_162 {g : State} {m : Nat} {w : ch_W} {y0 : Int32} {y1 : Int32} {σ : ch_S} {res : ch_S} {Q : Outcome → ch_W → Prop} (h : m_X3_done_162 y0 y1 σ = some res) (hk : (fun r => ch_eV Q (ch_put m w r)) res) : ch_FT g false mX3_done 7 162 [none, none, none, none] [.int y0, .int y1, va_rf (some m)] (ch_put m w σ) Q := by
  unfold m_X3_done_162 at h
  obtain ⟨p1, hp2, h⟩ := ch_bd h
  refine ch_iv yX3_todo prog_14_method_83_code 3 none (ci := 3) (q := (RX3, TX3, 109)) (b := m) (d' := 2) (av := [.int y1, .int y0]) (rest := []) rfl dX3_done_162 q2206 q2208 rfl qs174 q2209 can_X3_todo (Nat.le_of_ble_eq_true rfl) (Nat.le_of_ble_eq_true rfl) ch_put_tag (cp_kV (w1 := ch_put m w p1) (fun Q' hq => s_X3_todo hp2 hq) ?_)
  obtain rfl := Option.some.inj h
  exact ch_goto 323 dX3_done_165 rfl (ch_return dX3_done_323 rfl hk)

def m_X3_done_295   (σ : ch_S) : Option (ch_S) := (ch_mI σ fX3_printed ((σ.1 fX3_printed) + 1)).bind fun σ1 => (ch_mI σ1 fX3_piled ((σ1.1 fX3_piled) - 1)).bind fun σ2 => some (σ2)
theorem s_X3_done_295 {g : State} {m : Nat} {w : ch_W} {σ : ch_S} {res : ch_S} {Q : Outcome → ch_W → Prop} (h : m_X3_done_295  σ = some res) (hk : (fun r => ch_eV Q (ch_put m w r)) res) : ch_FT g false mX3_done 7 295 [some (va_rf (some m)), none, none, none] [] (ch_put m w σ) Q := by
  unfold m_X3_done_295 at h
  refine ch_aload_n 0 (some m) dX3_done_295 rfl (ch_dup dX3_done_296 (ch_cat _) (mp_gI 78 dX3_done_297 fl_X3_657 rfl (ch_iconst _ 1 dX3_done_300 rfl (ch_iadd _ _ dX3_done_301 (mp_pI (k := 78) dX3_done_302 fl_X3_657 rfl rfl rfl h (fun σ1 h => ?_))))))
  refine ch_aload_n 0 (some m) dX3_done_305 rfl (ch_dup dX3_done_306 (ch_cat _) (mp_gI 100 dX3_done_307 fl_X3_560 rfl (ch_iconst _ 1 dX3_done_310 rfl (ch_isub _ _ dX3_done_311 (mp_pI (k := 100) dX3_done_312 fl_X3_560 rfl rfl rfl h (fun σ2 h => ?_))))))
  obtain rfl := Option.some.inj h
  exact ch_goto 323 dX3_done_315 rfl (ch_return dX3_done_323 rfl hk)

def m_X3_done (x1 : Int32) (σ : ch_S) : Option (ch_S) := (ch_ma σ fX3_statementIs x1).bind fun v1 => if v1 = 0 then ((ch_ma σ fX3_variable x1).bind fun v4 => (ch_ma σ fX3_pile ((σ.1 fX3_piled) - 1)).bind fun v5 => (ch_ma σ fX3_isPileObject ((σ.1 fX3_piled) - 1)).bind fun v6 => (m_X3_setLocal ((σ.1 fX3_open) - 1) v4 v5 v6 σ).bind fun p7 => (ch_ma p7 fX3_variable x1).bind fun v9 => (ch_mw p7 fX3_openMany ((σ.1 fX3_open) - 1) (v9 + 1)).bind fun σ10 => (ch_mI σ10 fX3_piled ((σ10.1 fX3_piled) - 1)).bind fun σ11 => some (σ11)) else (if v1 = 1 then ((ch_mI σ fX3_piled ((σ.1 fX3_piled) - 1)).bind fun σ12 => (ch_ma σ12 fX3_openMany ((σ.1 fX3_open) - 1)).bind fun v13 => (m_X3_todo 5 v13 σ12).bind fun p14 => (ch_ma p14 fX3_pile ((σ.1 fX3_piled) - 1)).bind fun v16 => if v16 = 1 then ((ch_ma p14 fX3_inner x1).bind fun v18 => m_X3_done_162 v18 3 p14) else ((ch_ma p14 fX3_other x1).bind fun v17 => m_X3_done_162 v17 3 p14)) else (if v1 = 2 then ((ch_mI σ fX3_piled ((σ.1 fX3_piled) - 1)).bind fun σ19 => (ch_ma σ19 fX3_pile ((σ.1 fX3_piled) - 1)).bind fun v20 => if v20 = 0 then (some (σ19)) else ((m_X3_todo 4 x1 σ19).bind fun p21 => (ch_ma p21 fX3_value x1).bind fun v23 => (m_X3_todo 0 v23 p21).bind fun p24 => (ch_ma p24 fX3_openMany ((σ.1 fX3_open) - 1)).bind fun v26 => (m_X3_todo 5 v26 p24).bind fun p27 => (ch_ma p27 fX3_inner x1).bind fun v29 => (m_X3_todo 3 v29 p27).bind fun p30 => some (p30))) else (if v1 = 3 then ((m_X3_returns x1 σ).bind fun p32 => some (p32)) else (if v1 = 4 then ((ch_ma σ fX3_pile ((σ.1 fX3_piled) - 1)).bind fun v34 => if v34 < 0 then ((m_X3_faults 0 σ).bind fun p38 => some (p38)) else ((ch_ma σ fX3_pile ((σ.1 fX3_piled) - 1)).bind fun v35 => (m_X3_throwsObject v35 σ).bind fun p36 => some (p36))) else (if v1 = 5 then ((m_X3_sets x1 σ).bind fun p40 => some (p40)) else (if v1 = 6 then (if (σ.1 fX3_printed) < 500 then ((ch_ma σ fX3_pile ((σ.1 fX3_piled) - 1)).bind fun v42 => (ch_mw σ fX3_output (σ.1 fX3_printed) v42).bind fun σ43 => m_X3_done_295 σ43) else (m_X3_done_295 σ)) else ((m_X3_sets x1 σ).bind fun p2 => some (p2))))))))
theorem s_X3_done {g : State} {m : Nat} {w : ch_W} {x1 : Int32} {σ : ch_S} {res : ch_S} {Q : Outcome → ch_W → Prop} (h : m_X3_done x1 σ = some res) (hk : (fun r => ch_eV Q (ch_put m w r)) res) : ch_CT g false yX3_done 7 [.ref m, .int x1] (ch_put m w σ) Q := by
  unfold m_X3_done at h
  refine ch_ctL mX3_done (ls := [some (va_rf (some m)), some (.int x1), none, none]) q2305 rfl (ch_lyr (r := some m) (ch_lyi ch_ly0)) (Nat.le_of_ble_eq_true rfl) rfl ?_
  refine ch_aload_n 0 (some m) dX3_done_0 rfl (mp_gI 93 dX3_done_1 fl_X3_554 rfl (ch_iconst _ 1 dX3_done_4 rfl (ch_isub _ _ dX3_done_5 (ch_istore_n 2 _ (ls1 := [some (va_rf (some m)), some (.int x1), some (.int ((σ.1 fX3_open) - 1)), none]) dX3_done_6 (Nat.le_of_ble_eq_true rfl) rfl (ch_aload_n 0 (some m) dX3_done_7 rfl (mp_gI 100 dX3_done_8 fl_X3_560 rfl (ch_iconst _ 1 dX3_done_11 rfl (?_))))))))
  refine ch_isub _ _ dX3_done_12 (ch_istore_n 3 _ (ls1 := [some (va_rf (some m)), some (.int x1), some (.int ((σ.1 fX3_open) - 1)), some (.int ((σ.1 fX3_piled) - 1))]) dX3_done_13 (Nat.le_of_ble_eq_true rfl) rfl (ch_aload_n 0 (some m) dX3_done_14 rfl (mp_gA 26 dX3_done_15 fl_X3_46 rfl (ch_iload_n 1 _ dX3_done_18 rfl (mp_iald dX3_done_19 mk_26 h (fun v1 h => ?_))))))
  by_cases e0 : v1 = 0
  · have h := ch_ifT e0 h
    refine ch_tableIn _ (off := 44) (tgt := 64) dX3_done_20 (by rw [e0]; decide) (by rw [e0]; decide) (by rw [e0]; rfl) rfl ?_
    refine ch_aload_n 0 (some m) dX3_done_64 rfl (ch_iload_n 2 _ dX3_done_65 rfl (ch_aload_n 0 (some m) dX3_done_66 rfl (mp_gA 33 dX3_done_67 fl_X3_67 rfl (ch_iload_n 1 _ dX3_done_70 rfl (mp_iald dX3_done_71 mk_33 h (fun v4 h => ?_))))))
    refine ch_aload_n 0 (some m) dX3_done_72 rfl (mp_gA 101 dX3_done_73 fl_X3_198 rfl (ch_iload_n 3 _ dX3_done_76 rfl (mp_iald dX3_done_77 mk_101 h (fun v5 h => ?_))))
    refine ch_aload_n 0 (some m) dX3_done_78 rfl (mp_gA 102 dX3_done_79 fl_X3_201 rfl (ch_iload_n 3 _ dX3_done_82 rfl (mp_zald dX3_done_83 mk_102 h (fun v6 h => ?_))))
    obtain ⟨p7, hp8, h⟩ := ch_bd h
    refine ch_iv yX3_setLocal prog_14_method_87_code 5 none (ci := 3) (q := (RX3, TX3, 109)) (b := m) (d' := 2) (av := [.int ((σ.1 fX3_open) - 1), .int v4, .int v5, .int v6]) (rest := []) rfl dX3_done_84 q2202 q2204 rfl qs173 q2205 can_X3_setLocal (Nat.le_of_ble_eq_true rfl) (Nat.le_of_ble_eq_true rfl) ch_put_tag (cp_kV (w1 := ch_put m w p7) (fun Q' hq => s_X3_setLocal hp8 hq) ?_)
    refine ch_aload_n 0 (some m) dX3_done_87 rfl (mp_gA 96 dX3_done_88 fl_X3_184 rfl (ch_iload_n 2 _ dX3_done_91 rfl (ch_aload_n 0 (some m) dX3_done_92 rfl (mp_gA 33 dX3_done_93 fl_X3_67 rfl (ch_iload_n 1 _ dX3_done_96 rfl (mp_iald dX3_done_97 mk_33 h (fun v9 h => ?_)))))))
    refine ch_iconst _ 1 dX3_done_98 rfl (ch_iadd _ _ dX3_done_99 (mp_iast dX3_done_100 mk_96 rfl h (fun σ10 h => ?_)))
    refine ch_aload_n 0 (some m) dX3_done_101 rfl (ch_dup dX3_done_102 (ch_cat _) (mp_gI 100 dX3_done_103 fl_X3_560 rfl (ch_iconst _ 1 dX3_done_106 rfl (ch_isub _ _ dX3_done_107 (mp_pI (k := 100) dX3_done_108 fl_X3_560 rfl rfl rfl h (fun σ11 h => ?_))))))
    obtain rfl := Option.some.inj h
    exact ch_goto 323 dX3_done_111 rfl (ch_return dX3_done_323 rfl hk)
  replace h := ch_ifF e0 h
  by_cases e1 : v1 = 1
  · have h := ch_ifT e1 h
    refine ch_tableIn _ (off := 94) (tgt := 114) dX3_done_20 (by rw [e1]; decide) (by rw [e1]; decide) (by rw [e1]; rfl) rfl ?_
    refine ch_aload_n 0 (some m) dX3_done_114 rfl (ch_dup dX3_done_115 (ch_cat _) (mp_gI 100 dX3_done_116 fl_X3_560 rfl (ch_iconst _ 1 dX3_done_119 rfl (ch_isub _ _ dX3_done_120 (mp_pI (k := 100) dX3_done_121 fl_X3_560 rfl rfl rfl h (fun σ12 h => ?_))))))
    refine ch_aload_n 0 (some m) dX3_done_124 rfl (ch_iconst _ 5 dX3_done_125 rfl (ch_aload_n 0 (some m) dX3_done_126 rfl (mp_gA 96 dX3_done_127 fl_X3_184 rfl (ch_iload_n 2 _ dX3_done_130 rfl (mp_iald dX3_done_131 mk_96 h (fun v13 h => ?_))))))
    obtain ⟨p14, hp15, h⟩ := ch_bd h
    refine ch_iv yX3_todo prog_14_method_83_code 3 none (ci := 3) (q := (RX3, TX3, 109)) (b := m) (d' := 2) (av := [.int 5, .int v13]) (rest := []) rfl dX3_done_132 q2206 q2208 rfl qs174 q2209 can_X3_todo (Nat.le_of_ble_eq_true rfl) (Nat.le_of_ble_eq_true rfl) ch_put_tag (cp_kV (w1 := ch_put m w p14) (fun Q' hq => s_X3_todo hp15 hq) ?_)
    refine ch_aload_n 0 (some m) dX3_done_135 rfl (ch_iconst _ 3 dX3_done_136 rfl (ch_aload_n 0 (some m) dX3_done_137 rfl (mp_gA 101 dX3_done_138 fl_X3_198 rfl (ch_iload_n 3 _ dX3_done_141 rfl (mp_iald dX3_done_142 mk_101 h (fun v16 h => ?_))))))
    refine ch_iconst _ 1 dX3_done_143 rfl (cp_icmp_ne _ _ (tgt := 156) dX3_done_144 rfl h (fun h => ?_) (fun h => ?_))
    · refine ch_aload_n 0 (some m) dX3_done_156 rfl (mp_gA 35 dX3_done_157 fl_X3_73 rfl (ch_iload_n 1 _ dX3_done_160 rfl (mp_iald dX3_done_161 mk_35 h (fun v17 h => ?_))))
      exact ch_FT.wk (ch_wN (ch_wN (ch_wN (ch_wN ch_w0)))) (s_X3_done_162  h hk)
    · refine ch_aload_n 0 (some m) dX3_done_147 rfl (mp_gA 34 dX3_done_148 fl_X3_70 rfl (ch_iload_n 1 _ dX3_done_151 rfl (mp_iald dX3_done_152 mk_34 h (fun v18 h => ?_))))
      exact ch_goto 162 dX3_done_153 rfl (ch_FT.wk (ch_wN (ch_wN (ch_wN (ch_wN ch_w0)))) (s_X3_done_162  h hk))
  replace h := ch_ifF e1 h
  by_cases e2 : v1 = 2
  · have h := ch_ifT e2 h
    refine ch_tableIn _ (off := 148) (tgt := 168) dX3_done_20 (by rw [e2]; decide) (by rw [e2]; decide) (by rw [e2]; rfl) rfl ?_
    refine ch_aload_n 0 (some m) dX3_done_168 rfl (ch_dup dX3_done_169 (ch_cat _) (mp_gI 100 dX3_done_170 fl_X3_560 rfl (ch_iconst _ 1 dX3_done_173 rfl (ch_isub _ _ dX3_done_174 (mp_pI (k := 100) dX3_done_175 fl_X3_560 rfl rfl rfl h (fun σ19 h => ?_))))))
    refine ch_aload_n 0 (some m) dX3_done_178 rfl (mp_gA 101 dX3_done_179 fl_X3_198 rfl (ch_iload_n 3 _ dX3_done_182 rfl (mp_iald dX3_done_183 mk_101 h (fun v20 h => ?_))))
    refine cp_if_ne _ (tgt := 190) dX3_done_184 rfl h (fun h => ?_) (fun h => ?_)
    · obtain ⟨p21, hp22, h⟩ := ch_bd h
      refine ch_aload_n 0 (some m) dX3_done_190 rfl (ch_iconst _ 4 dX3_done_191 rfl (ch_iload_n 1 _ dX3_done_192 rfl (ch_iv yX3_todo prog_14_method_83_code 3 none (ci := 3) (q := (RX3, TX3, 109)) (b := m) (d' := 2) (av := [.int 4, .int x1]) (rest := []) rfl dX3_done_193 q2206 q2208 rfl qs174 q2209 can_X3_todo (Nat.le_of_ble_eq_true rfl) (Nat.le_of_ble_eq_true rfl) ch_put_tag (cp_kV (w1 := ch_put m w p21) (fun Q' hq => s_X3_todo hp22 hq) ?_))))
      refine ch_aload_n 0 (some m) dX3_done_196 rfl (ch_iconst _ 0 dX3_done_197 rfl (ch_aload_n 0 (some m) dX3_done_198 rfl (mp_gA 29 dX3_done_199 fl_X3_55 rfl (ch_iload_n 1 _ dX3_done_202 rfl (mp_iald dX3_done_203 mk_29 h (fun v23 h => ?_))))))
      obtain ⟨p24, hp25, h⟩ := ch_bd h
      refine ch_iv yX3_todo prog_14_method_83_code 3 none (ci := 3) (q := (RX3, TX3, 109)) (b := m) (d' := 2) (av := [.int 0, .int v23]) (rest := []) rfl dX3_done_204 q2206 q2208 rfl qs174 q2209 can_X3_todo (Nat.le_of_ble_eq_true rfl) (Nat.le_of_ble_eq_true rfl) ch_put_tag (cp_kV (w1 := ch_put m w p24) (fun Q' hq => s_X3_todo hp25 hq) ?_)
      refine ch_aload_n 0 (some m) dX3_done_207 rfl (ch_iconst _ 5 dX3_done_208 rfl (ch_aload_n 0 (some m) dX3_done_209 rfl (mp_gA 96 dX3_done_210 fl_X3_184 rfl (ch_iload_n 2 _ dX3_done_213 rfl (mp_iald dX3_done_214 mk_96 h (fun v26 h => ?_))))))
      obtain ⟨p27, hp28, h⟩ := ch_bd h
      refine ch_iv yX3_todo prog_14_method_83_code 3 none (ci := 3) (q := (RX3, TX3, 109)) (b := m) (d' := 2) (av := [.int 5, .int v26]) (rest := []) rfl dX3_done_215 q2206 q2208 rfl qs174 q2209 can_X3_todo (Nat.le_of_ble_eq_true rfl) (Nat.le_of_ble_eq_true rfl) ch_put_tag (cp_kV (w1 := ch_put m w p27) (fun Q' hq => s_X3_todo hp28 hq) ?_)
      refine ch_aload_n 0 (some m) dX3_done_218 rfl (ch_iconst _ 3 dX3_done_219 rfl (ch_aload_n 0 (some m) dX3_done_220 rfl (mp_gA 34 dX3_done_221 fl_X3_70 rfl (ch_iload_n 1 _ dX3_done_224 rfl (mp_iald dX3_done_225 mk_34 h (fun v29 h => ?_))))))
      obtain ⟨p30, hp31, h⟩ := ch_bd h
      refine ch_iv yX3_todo prog_14_method_83_code 3 none (ci := 3) (q := (RX3, TX3, 109)) (b := m) (d' := 2) (av := [.int 3, .int v29]) (rest := []) rfl dX3_done_226 q2206 q2208 rfl qs174 q2209 can_X3_todo (Nat.le_of_ble_eq_true rfl) (Nat.le_of_ble_eq_true rfl) ch_put_tag (cp_kV (w1 := ch_put m w p30) (fun Q' hq => s_X3_todo hp31 hq) ?_)
      obtain rfl := Option.some.inj h
      exact ch_goto 323 dX3_done_229 rfl (ch_return dX3_done_323 rfl hk)
    · obtain rfl := Option.some.inj h
      exact ch_goto 323 dX3_done_187 rfl (ch_return dX3_done_323 rfl hk)
  replace h := ch_ifF e2 h
  by_cases e3 : v1 = 3
  · have h := ch_ifT e3 h
    refine ch_tableIn _ (off := 212) (tgt := 232) dX3_done_20 (by rw [e3]; decide) (by rw [e3]; decide) (by rw [e3]; rfl) rfl ?_
    obtain ⟨p32, hp33, h⟩ := ch_bd h
    refine ch_aload_n 0 (some m) dX3_done_232 rfl (ch_iload_n 1 _ dX3_done_233 rfl (ch_iv yX3_returns prog_14_method_102_code 5 none (ci := 3) (q := (RX3, TX3, 109)) (b := m) (d' := 3) (av := [.int x1]) (rest := []) rfl dX3_done_234 q2306 q2308 rfl qs197 q2309 can_X3_returns (Nat.le_of_ble_eq_true rfl) (Nat.le_of_ble_eq_true rfl) ch_put_tag (cp_kV (w1 := ch_put m w p32) (fun Q' hq => s_X3_returns hp33 hq) ?_)))
    obtain rfl := Option.some.inj h
    exact ch_goto 323 dX3_done_237 rfl (ch_return dX3_done_323 rfl hk)
  replace h := ch_ifF e3 h
  by_cases e4 : v1 = 4
  · have h := ch_ifT e4 h
    refine ch_tableIn _ (off := 220) (tgt := 240) dX3_done_20 (by rw [e4]; decide) (by rw [e4]; decide) (by rw [e4]; rfl) rfl ?_
    refine ch_aload_n 0 (some m) dX3_done_240 rfl (mp_gA 101 dX3_done_241 fl_X3_198 rfl (ch_iload_n 3 _ dX3_done_244 rfl (mp_iald dX3_done_245 mk_101 h (fun v34 h => ?_))))
    refine cp_if_ge _ (tgt := 257) dX3_done_246 rfl h (fun h => ?_) (fun h => ?_)
    · refine ch_aload_n 0 (some m) dX3_done_257 rfl (ch_aload_n 0 (some m) dX3_done_258 rfl (mp_gA 101 dX3_done_259 fl_X3_198 rfl (ch_iload_n 3 _ dX3_done_262 rfl (mp_iald dX3_done_263 mk_101 h (fun v35 h => ?_)))))
      obtain ⟨p36, hp37, h⟩ := ch_bd h
      refine ch_iv yX3_throwsObject prog_14_method_85_code 5 none (ci := 3) (q := (RX3, TX3, 109)) (b := m) (d' := 3) (av := [.int v35]) (rest := []) rfl dX3_done_264 q2283 q2285 rfl qs192 q2286 can_X3_throwsObject (Nat.le_of_ble_eq_true rfl) (Nat.le_of_ble_eq_true rfl) ch_put_tag (cp_kV (w1 := ch_put m w p36) (fun Q' hq => s_X3_throwsObject hp37 hq) ?_)
      obtain rfl := Option.some.inj h
      exact ch_goto 323 dX3_done_267 rfl (ch_return dX3_done_323 rfl hk)
    · obtain ⟨p38, hp39, h⟩ := ch_bd h
      refine ch_aload_n 0 (some m) dX3_done_249 rfl (ch_iconst _ 0 dX3_done_250 rfl (ch_iv yX3_faults prog_14_method_86_code 2 none (ci := 3) (q := (RX3, TX3, 109)) (b := m) (d' := 4) (av := [.int 0]) (rest := []) rfl dX3_done_251 q2279 q2281 rfl qs191 q2282 can_X3_faults (Nat.le_of_ble_eq_true rfl) (Nat.le_of_ble_eq_true rfl) ch_put_tag (cp_kV (w1 := ch_put m w p38) (fun Q' hq => s_X3_faults hp39 hq) ?_)))
      obtain rfl := Option.some.inj h
      exact ch_goto 323 dX3_done_254 rfl (ch_return dX3_done_323 rfl hk)
  replace h := ch_ifF e4 h
  by_cases e5 : v1 = 5
  · have h := ch_ifT e5 h
    refine ch_tableIn _ (off := 298) (tgt := 318) dX3_done_20 (by rw [e5]; decide) (by rw [e5]; decide) (by rw [e5]; rfl) rfl ?_
    obtain ⟨p40, hp41, h⟩ := ch_bd h
    refine ch_aload_n 0 (some m) dX3_done_318 rfl (ch_iload_n 1 _ dX3_done_319 rfl (ch_iv yX3_sets prog_14_method_103_code 8 none (ci := 3) (q := (RX3, TX3, 109)) (b := m) (d' := 6) (av := [.int x1]) (rest := []) rfl dX3_done_320 q2310 q2312 rfl qs198 q2313 can_X3_sets (Nat.le_of_ble_eq_true rfl) (Nat.le_of_ble_eq_true rfl) ch_put_tag (cp_kV (w1 := ch_put m w p40) (fun Q' hq => s_X3_sets hp41 hq) ?_)))
    obtain rfl := Option.some.inj h
    exact ch_return dX3_done_323 rfl hk
  replace h := ch_ifF e5 h
  by_cases e6 : v1 = 6
  · have h := ch_ifT e6 h
    refine ch_tableIn _ (off := 250) (tgt := 270) dX3_done_20 (by rw [e6]; decide) (by rw [e6]; decide) (by rw [e6]; rfl) rfl ?_
    refine ch_aload_n 0 (some m) dX3_done_270 rfl (mp_gI 78 dX3_done_271 fl_X3_657 rfl (ch_sipush _ 500 dX3_done_274 rfl (cp_icmp_ge _ _ (tgt := 295) dX3_done_277 rfl h (fun h => ?_) (fun h => ?_))))
    · exact ch_FT.wk (ch_wS (ch_wN (ch_wN (ch_wN ch_w0)))) (s_X3_done_295  h hk)
    · refine ch_aload_n 0 (some m) dX3_done_280 rfl (mp_gA 79 dX3_done_281 fl_X3_148 rfl (ch_aload_n 0 (some m) dX3_done_284 rfl (mp_gI 78 dX3_done_285 fl_X3_657 rfl (ch_aload_n 0 (some m) dX3_done_288 rfl (mp_gA 101 dX3_done_289 fl_X3_198 rfl (ch_iload_n 3 _ dX3_done_292 rfl (mp_iald dX3_done_293 mk_101 h (fun v42 h => ?_))))))))
      refine mp_iast dX3_done_294 mk_79 rfl h (fun σ43 h => ?_)
      exact ch_FT.wk (ch_wS (ch_wN (ch_wN (ch_wN ch_w0)))) (s_X3_done_295  h hk)
  replace h := ch_ifF e6 h
  refine ch_tableOut _ (tgt := 318) dX3_done_20 (by have t0 := ch_ne (n := 0) e0 rfl; have t1 := ch_ne (n := 1) e1 rfl; have t2 := ch_ne (n := 2) e2 rfl; have t3 := ch_ne (n := 3) e3 rfl; have t4 := ch_ne (n := 4) e4 rfl; have t5 := ch_ne (n := 5) e5 rfl; have t6 := ch_ne (n := 6) e6 rfl; omega) rfl ?_
  obtain ⟨p2, hp3, h⟩ := ch_bd h
  refine ch_aload_n 0 (some m) dX3_done_318 rfl (ch_iload_n 1 _ dX3_done_319 rfl (ch_iv yX3_sets prog_14_method_103_code 8 none (ci := 3) (q := (RX3, TX3, 109)) (b := m) (d' := 6) (av := [.int x1]) (rest := []) rfl dX3_done_320 q2310 q2312 rfl qs198 q2313 can_X3_sets (Nat.le_of_ble_eq_true rfl) (Nat.le_of_ble_eq_true rfl) ch_put_tag (cp_kV (w1 := ch_put m w p2) (fun Q' hq => s_X3_sets hp3 hq) ?_)))
  obtain rfl := Option.some.inj h
  exact ch_return dX3_done_323 rfl hk

