/-! printed by tools/dec.py -/
set_option maxRecDepth 100000
theorem bX11_isObject_0 : ch_ck cX11_isObject 0 [26, 155, 0, 7, 4, 167, 0, 4, 3, 172] := ch_ckof (by decide +kernel)
theorem dX11_isObject_0 : decode cX11_isObject 0 = .ok (.iload_n 0, 1) := dz_26 (bX11_isObject_0 0 _ rfl)
theorem dX11_isObject_1 : decode cX11_isObject 1 = .ok (.ifCond .lt 7, 3) := dz_155 (bX11_isObject_0 1 _ rfl) (bX11_isObject_0 2 _ rfl) (bX11_isObject_0 3 _ rfl)
theorem dX11_isObject_4 : decode cX11_isObject 4 = .ok (.iconst 1, 1) := dz_4 (bX11_isObject_0 4 _ rfl)
theorem dX11_isObject_5 : decode cX11_isObject 5 = .ok (.goto 4, 3) := dz_167 (bX11_isObject_0 5 _ rfl) (bX11_isObject_0 6 _ rfl) (bX11_isObject_0 7 _ rfl)
theorem dX11_isObject_8 : decode cX11_isObject 8 = .ok (.iconst 0, 1) := dz_3 (bX11_isObject_0 8 _ rfl)
theorem dX11_isObject_9 : decode cX11_isObject 9 = .ok (.ireturn, 1) := dz_172 (bX11_isObject_0 9 _ rfl)
def c_X11_isObject (x0 : Int32) (w : ch_W) : Option (Int32) := if x0 < 0 then (some (0)) else (some (1))
theorem s_X11_isObject {g : State} {kb : Bool} {x0 : Int32} {w : ch_W} {res : Int32} {Q : Outcome → ch_W → Prop} (h : c_X11_isObject x0 w = some res) (hk : (fun r => ch_eI Q (r, w)) res) : ch_CT g kb yX11_isObject 2 [.int x0] (w) Q := by
  unfold c_X11_isObject at h
  refine ch_ctL mX11_isObject (ls := [some (.int x0)]) q1285 rfl (ch_lyi ch_ly0) (Nat.le_of_ble_eq_true rfl) rfl ?_
  refine ch_iload_n 0 _ dX11_isObject_0 rfl (cp_if_lt _ (tgt := 8) dX11_isObject_1 rfl h (fun h => ?_) (fun h => ?_))
  · obtain rfl := Option.some.inj h
    exact ch_iconst _ 0 dX11_isObject_8 rfl (ch_ireturn _ dX11_isObject_9 rfl rfl hk)
  · obtain rfl := Option.some.inj h
    exact ch_iconst _ 1 dX11_isObject_4 rfl (ch_goto 9 dX11_isObject_5 rfl (ch_ireturn _ dX11_isObject_9 rfl rfl hk))

theorem bX11_held_0 : ch_ck cX11_held 0 [42, 180, 0, 21, 180, 0, 173, 188, 4, 76, 42, 180, 0, 28, 3, 43] := ch_ckof (by decide +kernel)
theorem bX11_held_1 : ch_ck cX11_held 16 [3, 42, 180, 0, 21, 180, 0, 173, 184, 0, 222, 43, 176] := ch_ckof (by decide +kernel)
theorem dX11_held_0 : decode cX11_held 0 = .ok (.aload_n 0, 1) := dz_42 (bX11_held_0 0 _ rfl)
theorem dX11_held_1 : decode cX11_held 1 = .ok (.getfield 21, 3) := dz_180 (bX11_held_0 1 _ rfl) (bX11_held_0 2 _ rfl) (bX11_held_0 3 _ rfl)
theorem dX11_held_4 : decode cX11_held 4 = .ok (.getfield 173, 3) := dz_180 (bX11_held_0 4 _ rfl) (bX11_held_0 5 _ rfl) (bX11_held_0 6 _ rfl)
theorem dX11_held_7 : decode cX11_held 7 = .ok (.newarray .boolean, 2) := dz_188_4 (bX11_held_0 7 _ rfl) (bX11_held_0 8 _ rfl)
theorem dX11_held_9 : decode cX11_held 9 = .ok (.astore_n 1, 1) := dz_76 (bX11_held_0 9 _ rfl)
theorem dX11_held_10 : decode cX11_held 10 = .ok (.aload_n 0, 1) := dz_42 (bX11_held_0 10 _ rfl)
theorem dX11_held_11 : decode cX11_held 11 = .ok (.getfield 28, 3) := dz_180 (bX11_held_0 11 _ rfl) (bX11_held_0 12 _ rfl) (bX11_held_0 13 _ rfl)
theorem dX11_held_14 : decode cX11_held 14 = .ok (.iconst 0, 1) := dz_3 (bX11_held_0 14 _ rfl)
theorem dX11_held_15 : decode cX11_held 15 = .ok (.aload_n 1, 1) := dz_43 (bX11_held_0 15 _ rfl)
theorem dX11_held_16 : decode cX11_held 16 = .ok (.iconst 0, 1) := dz_3 (bX11_held_1 0 _ rfl)
theorem dX11_held_17 : decode cX11_held 17 = .ok (.aload_n 0, 1) := dz_42 (bX11_held_1 1 _ rfl)
theorem dX11_held_18 : decode cX11_held 18 = .ok (.getfield 21, 3) := dz_180 (bX11_held_1 2 _ rfl) (bX11_held_1 3 _ rfl) (bX11_held_1 4 _ rfl)
theorem dX11_held_21 : decode cX11_held 21 = .ok (.getfield 173, 3) := dz_180 (bX11_held_1 5 _ rfl) (bX11_held_1 6 _ rfl) (bX11_held_1 7 _ rfl)
theorem dX11_held_24 : decode cX11_held 24 = .ok (.invokestatic 222, 3) := dz_184 (bX11_held_1 8 _ rfl) (bX11_held_1 9 _ rfl) (bX11_held_1 10 _ rfl)
theorem dX11_held_27 : decode cX11_held 27 = .ok (.aload_n 1, 1) := dz_43 (bX11_held_1 11 _ rfl)
theorem dX11_held_28 : decode cX11_held 28 = .ok (.areturn, 1) := dz_176 (bX11_held_1 12 _ rfl)
def c_X11_held (t0 : Nat)  (w : ch_W) : Option (Option Nat × ch_W) := (ch_gR w (some t0) 12 fX11_names).bind fun v1 => (ch_gI w v1 9 fX8_size).bind fun v2 => (ch_nA w 23 v2).bind fun w3 => (ch_gR w3 (some t0) 12 fX11_set).bind fun v4 => (ch_gR w3 (some t0) 12 fX11_names).bind fun v5 => (ch_gI w3 v5 9 fX8_size).bind fun v6 => (ch_cp w3 23 v4 0 (some (ch_nx w)) 0 v6).bind fun w7 => some ((some (ch_nx w), w7))
theorem s_X11_held {g : State} {t0 : Nat} {w : ch_W} {res : Option Nat × ch_W} {Q : Outcome → ch_W → Prop} (h : c_X11_held t0 w = some res) (hk : (ch_eR Q) res) : ch_CT g true yX11_held 2 [.ref t0] (w) Q := by
  unfold c_X11_held at h
  refine ch_ctL mX11_held (ls := [some (va_rf (some t0)), none]) q1274 rfl (ch_lyr (r := some t0) ch_ly0) (Nat.le_of_ble_eq_true rfl) rfl ?_
  refine ch_aload_n 0 (some t0) dX11_held_0 rfl (cp_gR (ci := 11) (k := 7) dX11_held_1 fl_X11_21 rfl h (fun v1 h => ?_))
  refine cp_gI (ci := 8) (k := 1) dX11_held_4 fl_X11_173 rfl h (fun v2 h => ?_)
  refine cp_newA (t := 23) (ty := .boolean) dX11_held_7 rfl rfl (Nat.le_of_ble_eq_true rfl) rfl (Nat.le_of_ble_eq_true rfl) q1110 h (fun w3 h => ?_)
  refine ch_astore_n 1 (some (ch_nx w)) (ls1 := [some (va_rf (some t0)), some (va_rf (some (ch_nx w)))]) dX11_held_9 (Nat.le_of_ble_eq_true rfl) rfl (ch_aload_n 0 (some t0) dX11_held_10 rfl (cp_gR (ci := 11) (k := 9) dX11_held_11 fl_X11_28 rfl h (fun v4 h => ?_)))
  refine ch_iconst _ 0 dX11_held_14 rfl (ch_aload_n 1 (some (ch_nx w)) dX11_held_15 rfl (ch_iconst _ 0 dX11_held_16 rfl (ch_aload_n 0 (some t0) dX11_held_17 rfl (cp_gR (ci := 11) (k := 7) dX11_held_18 fl_X11_21 rfl h (fun v5 h => ?_)))))
  refine cp_gI (ci := 8) (k := 1) dX11_held_21 fl_X11_173 rfl h (fun v6 h => ?_)
  refine cp_copy (t := 23) dX11_held_24 rfl (Nat.le_of_ble_eq_true rfl) ft_23 rfl rfl q1183 (Nat.le_of_ble_eq_true rfl) (Nat.le_of_ble_eq_true rfl) h (fun w7 h => ?_)
  obtain rfl := Option.some.inj h
  exact ch_aload_n 1 (some (ch_nx w)) dX11_held_27 rfl (ch_areturn (some (ch_nx w)) dX11_held_28 rfl (Or.inr ⟨_, rfl⟩) hk)

theorem bX11_join_0 : ch_ck cX11_join 0 [3, 62, 29, 43, 190, 162, 0, 61, 42, 180, 0, 28, 29, 28, 153, 0] := ch_ckof (by decide +kernel)
theorem bX11_join_1 : ch_ck cX11_join 16 [12, 42, 180, 0, 28, 29, 51, 167, 0, 36, 42, 180, 0, 204, 153, 0] := ch_ckof (by decide +kernel)
theorem bX11_join_2 : ch_ck cX11_join 32 [9, 43, 29, 51, 167, 0, 23, 42, 180, 0, 28, 29, 51, 153, 0, 13] := ch_ckof (by decide +kernel)
theorem bX11_join_3 : ch_ck cX11_join 48 [43, 29, 51, 153, 0, 7, 4, 167, 0, 4, 3, 84, 132, 3, 1, 167] := ch_ckof (by decide +kernel)
theorem bX11_join_4 : ch_ck cX11_join 64 [255, 195, 42, 42, 180, 0, 204, 153, 0, 11, 28, 153, 0, 7, 4, 167] := ch_ckof (by decide +kernel)
theorem bX11_join_5 : ch_ck cX11_join 80 [0, 4, 3, 181, 0, 204, 177] := ch_ckof (by decide +kernel)
theorem dX11_join_0 : decode cX11_join 0 = .ok (.iconst 0, 1) := dz_3 (bX11_join_0 0 _ rfl)
theorem dX11_join_1 : decode cX11_join 1 = .ok (.istore_n 3, 1) := dz_62 (bX11_join_0 1 _ rfl)
theorem dX11_join_2 : decode cX11_join 2 = .ok (.iload_n 3, 1) := dz_29 (bX11_join_0 2 _ rfl)
theorem dX11_join_3 : decode cX11_join 3 = .ok (.aload_n 1, 1) := dz_43 (bX11_join_0 3 _ rfl)
theorem dX11_join_4 : decode cX11_join 4 = .ok (.arraylength, 1) := dz_190 (bX11_join_0 4 _ rfl)
theorem dX11_join_5 : decode cX11_join 5 = .ok (.if_icmp .ge 61, 3) := dz_162 (bX11_join_0 5 _ rfl) (bX11_join_0 6 _ rfl) (bX11_join_0 7 _ rfl)
theorem dX11_join_8 : decode cX11_join 8 = .ok (.aload_n 0, 1) := dz_42 (bX11_join_0 8 _ rfl)
theorem dX11_join_9 : decode cX11_join 9 = .ok (.getfield 28, 3) := dz_180 (bX11_join_0 9 _ rfl) (bX11_join_0 10 _ rfl) (bX11_join_0 11 _ rfl)
theorem dX11_join_12 : decode cX11_join 12 = .ok (.iload_n 3, 1) := dz_29 (bX11_join_0 12 _ rfl)
theorem dX11_join_13 : decode cX11_join 13 = .ok (.iload_n 2, 1) := dz_28 (bX11_join_0 13 _ rfl)
theorem dX11_join_14 : decode cX11_join 14 = .ok (.ifCond .eq 12, 3) := dz_153 (bX11_join_0 14 _ rfl) (bX11_join_0 15 _ rfl) (bX11_join_1 0 _ rfl)
theorem dX11_join_17 : decode cX11_join 17 = .ok (.aload_n 0, 1) := dz_42 (bX11_join_1 1 _ rfl)
theorem dX11_join_18 : decode cX11_join 18 = .ok (.getfield 28, 3) := dz_180 (bX11_join_1 2 _ rfl) (bX11_join_1 3 _ rfl) (bX11_join_1 4 _ rfl)
theorem dX11_join_21 : decode cX11_join 21 = .ok (.iload_n 3, 1) := dz_29 (bX11_join_1 5 _ rfl)
theorem dX11_join_22 : decode cX11_join 22 = .ok (.baload, 1) := dz_51 (bX11_join_1 6 _ rfl)
theorem dX11_join_23 : decode cX11_join 23 = .ok (.goto 36, 3) := dz_167 (bX11_join_1 7 _ rfl) (bX11_join_1 8 _ rfl) (bX11_join_1 9 _ rfl)
theorem dX11_join_26 : decode cX11_join 26 = .ok (.aload_n 0, 1) := dz_42 (bX11_join_1 10 _ rfl)
theorem dX11_join_27 : decode cX11_join 27 = .ok (.getfield 204, 3) := dz_180 (bX11_join_1 11 _ rfl) (bX11_join_1 12 _ rfl) (bX11_join_1 13 _ rfl)
theorem dX11_join_30 : decode cX11_join 30 = .ok (.ifCond .eq 9, 3) := dz_153 (bX11_join_1 14 _ rfl) (bX11_join_1 15 _ rfl) (bX11_join_2 0 _ rfl)
theorem dX11_join_33 : decode cX11_join 33 = .ok (.aload_n 1, 1) := dz_43 (bX11_join_2 1 _ rfl)
theorem dX11_join_34 : decode cX11_join 34 = .ok (.iload_n 3, 1) := dz_29 (bX11_join_2 2 _ rfl)
theorem dX11_join_35 : decode cX11_join 35 = .ok (.baload, 1) := dz_51 (bX11_join_2 3 _ rfl)
theorem dX11_join_36 : decode cX11_join 36 = .ok (.goto 23, 3) := dz_167 (bX11_join_2 4 _ rfl) (bX11_join_2 5 _ rfl) (bX11_join_2 6 _ rfl)
theorem dX11_join_39 : decode cX11_join 39 = .ok (.aload_n 0, 1) := dz_42 (bX11_join_2 7 _ rfl)
theorem dX11_join_40 : decode cX11_join 40 = .ok (.getfield 28, 3) := dz_180 (bX11_join_2 8 _ rfl) (bX11_join_2 9 _ rfl) (bX11_join_2 10 _ rfl)
theorem dX11_join_43 : decode cX11_join 43 = .ok (.iload_n 3, 1) := dz_29 (bX11_join_2 11 _ rfl)
theorem dX11_join_44 : decode cX11_join 44 = .ok (.baload, 1) := dz_51 (bX11_join_2 12 _ rfl)
theorem dX11_join_45 : decode cX11_join 45 = .ok (.ifCond .eq 13, 3) := dz_153 (bX11_join_2 13 _ rfl) (bX11_join_2 14 _ rfl) (bX11_join_2 15 _ rfl)
theorem dX11_join_48 : decode cX11_join 48 = .ok (.aload_n 1, 1) := dz_43 (bX11_join_3 0 _ rfl)
theorem dX11_join_49 : decode cX11_join 49 = .ok (.iload_n 3, 1) := dz_29 (bX11_join_3 1 _ rfl)
theorem dX11_join_50 : decode cX11_join 50 = .ok (.baload, 1) := dz_51 (bX11_join_3 2 _ rfl)
theorem dX11_join_51 : decode cX11_join 51 = .ok (.ifCond .eq 7, 3) := dz_153 (bX11_join_3 3 _ rfl) (bX11_join_3 4 _ rfl) (bX11_join_3 5 _ rfl)
theorem dX11_join_54 : decode cX11_join 54 = .ok (.iconst 1, 1) := dz_4 (bX11_join_3 6 _ rfl)
theorem dX11_join_55 : decode cX11_join 55 = .ok (.goto 4, 3) := dz_167 (bX11_join_3 7 _ rfl) (bX11_join_3 8 _ rfl) (bX11_join_3 9 _ rfl)
theorem dX11_join_58 : decode cX11_join 58 = .ok (.iconst 0, 1) := dz_3 (bX11_join_3 10 _ rfl)
theorem dX11_join_59 : decode cX11_join 59 = .ok (.bastore, 1) := dz_84 (bX11_join_3 11 _ rfl)
theorem dX11_join_60 : decode cX11_join 60 = .ok (.iinc 3 1, 3) := dz_132 (bX11_join_3 12 _ rfl) (bX11_join_3 13 _ rfl) (bX11_join_3 14 _ rfl)
theorem dX11_join_63 : decode cX11_join 63 = .ok (.goto (-61), 3) := dz_167 (bX11_join_3 15 _ rfl) (bX11_join_4 0 _ rfl) (bX11_join_4 1 _ rfl)
theorem dX11_join_66 : decode cX11_join 66 = .ok (.aload_n 0, 1) := dz_42 (bX11_join_4 2 _ rfl)
theorem dX11_join_67 : decode cX11_join 67 = .ok (.aload_n 0, 1) := dz_42 (bX11_join_4 3 _ rfl)
theorem dX11_join_68 : decode cX11_join 68 = .ok (.getfield 204, 3) := dz_180 (bX11_join_4 4 _ rfl) (bX11_join_4 5 _ rfl) (bX11_join_4 6 _ rfl)
theorem dX11_join_71 : decode cX11_join 71 = .ok (.ifCond .eq 11, 3) := dz_153 (bX11_join_4 7 _ rfl) (bX11_join_4 8 _ rfl) (bX11_join_4 9 _ rfl)
theorem dX11_join_74 : decode cX11_join 74 = .ok (.iload_n 2, 1) := dz_28 (bX11_join_4 10 _ rfl)
theorem dX11_join_75 : decode cX11_join 75 = .ok (.ifCond .eq 7, 3) := dz_153 (bX11_join_4 11 _ rfl) (bX11_join_4 12 _ rfl) (bX11_join_4 13 _ rfl)
theorem dX11_join_78 : decode cX11_join 78 = .ok (.iconst 1, 1) := dz_4 (bX11_join_4 14 _ rfl)
theorem dX11_join_79 : decode cX11_join 79 = .ok (.goto 4, 3) := dz_167 (bX11_join_4 15 _ rfl) (bX11_join_5 0 _ rfl) (bX11_join_5 1 _ rfl)
theorem dX11_join_82 : decode cX11_join 82 = .ok (.iconst 0, 1) := dz_3 (bX11_join_5 2 _ rfl)
theorem dX11_join_83 : decode cX11_join 83 = .ok (.putfield 204, 3) := dz_181 (bX11_join_5 3 _ rfl) (bX11_join_5 4 _ rfl) (bX11_join_5 5 _ rfl)
theorem dX11_join_86 : decode cX11_join 86 = .ok (.return_, 1) := dz_177 (bX11_join_5 6 _ rfl)
def c_X11_join_2 (t0 : Nat) (x1 : Option Nat) (x2 : Int32) (x3 : Int32)  (w : ch_W) : Option ((Int32 × ch_W) ⊕ (ch_W)) := (ch_le w x1 23).bind fun v1 => if x3 < v1 then ((ch_gR w (some t0) 12 fX11_set).bind fun v6 => if x2 = 0 then ((ch_gI w (some t0) 12 fX11_isDead).bind fun v7 => if v7 = 0 then ((ch_gR w (some t0) 12 fX11_set).bind fun v8 => (ch_lI w v8 23 x3).bind fun v9 => if v9 = 0 then ((ch_bit 0).bind fun _ => (ch_wI w v6 23 x3 0).bind fun w10 => some (.inl (x3 + 1, w10))) else ((ch_lI w x1 23 x3).bind fun v11 => if v11 = 0 then ((ch_bit 0).bind fun _ => (ch_wI w v6 23 x3 0).bind fun w12 => some (.inl (x3 + 1, w12))) else ((ch_bit 1).bind fun _ => (ch_wI w v6 23 x3 1).bind fun w13 => some (.inl (x3 + 1, w13))))) else ((ch_lI w x1 23 x3).bind fun v14 => (ch_bit v14).bind fun _ => (ch_wI w v6 23 x3 v14).bind fun w15 => some (.inl (x3 + 1, w15)))) else ((ch_gR w (some t0) 12 fX11_set).bind fun v16 => (ch_lI w v16 23 x3).bind fun v17 => (ch_bit v17).bind fun _ => (ch_wI w v6 23 x3 v17).bind fun w18 => some (.inl (x3 + 1, w18)))) else ((ch_gI w (some t0) 12 fX11_isDead).bind fun v2 => if v2 = 0 then ((ch_bit 0).bind fun _ => (ch_pI w (some t0) 12 fX11_isDead 0).bind fun w3 => some (.inr (w3))) else (if x2 = 0 then ((ch_bit 0).bind fun _ => (ch_pI w (some t0) 12 fX11_isDead 0).bind fun w4 => some (.inr (w4))) else ((ch_bit 1).bind fun _ => (ch_pI w (some t0) 12 fX11_isDead 1).bind fun w5 => some (.inr (w5)))))
theorem s_X11_join_2 {g : State} {t0 : Nat} {x1 : Option Nat} {x2 : Int32} {x3 : Int32} {w : ch_W} {res : (Int32 × ch_W) ⊕ (ch_W)} {Q : Outcome → ch_W → Prop} (h : c_X11_join_2 t0 x1 x2 x3 w = some res) (hk : (ch_sm (fun s => ch_FT g true mX11_join 2 2 [some (va_rf (some t0)), some (va_rf x1), some (.int x2), some (.int s.1)] [] (s.2) Q) (ch_eV Q)) res) : ch_FT g true mX11_join 2 2 [some (va_rf (some t0)), some (va_rf x1), some (.int x2), some (.int x3)] [] (w) Q := by
  unfold c_X11_join_2 at h
  refine ch_iload_n 3 _ dX11_join_2 rfl (ch_aload_n 1 x1 dX11_join_3 rfl (cp_alen (t := 23) dX11_join_4 rfl rfl h (fun v1 h => ?_)))
  refine cp_icmp_ge _ _ (tgt := 66) dX11_join_5 rfl h (fun h => ?_) (fun h => ?_)
  · refine ch_aload_n 0 (some t0) dX11_join_66 rfl (ch_aload_n 0 (some t0) dX11_join_67 rfl (cp_gI (ci := 11) (k := 10) dX11_join_68 fl_X11_204 rfl h (fun v2 h => ?_)))
    refine cp_if_eq _ (tgt := 82) dX11_join_71 rfl h (fun h => ?_) (fun h => ?_)
    · refine ch_iconst _ 0 dX11_join_82 rfl (cp_pZ (ci := 11) (k := 10) dX11_join_83 fl_X11_204 rfl rfl rfl h (fun w3 h => ?_))
      obtain rfl := Option.some.inj h
      exact ch_return dX11_join_86 rfl hk
    · refine ch_iload_n 2 _ dX11_join_74 rfl (cp_if_eq _ (tgt := 82) dX11_join_75 rfl h (fun h => ?_) (fun h => ?_))
      · refine ch_iconst _ 0 dX11_join_82 rfl (cp_pZ (ci := 11) (k := 10) dX11_join_83 fl_X11_204 rfl rfl rfl h (fun w4 h => ?_))
        obtain rfl := Option.some.inj h
        exact ch_return dX11_join_86 rfl hk
      · refine ch_iconst _ 1 dX11_join_78 rfl (ch_goto 83 dX11_join_79 rfl (cp_pZ (ci := 11) (k := 10) dX11_join_83 fl_X11_204 rfl rfl rfl h (fun w5 h => ?_)))
        obtain rfl := Option.some.inj h
        exact ch_return dX11_join_86 rfl hk
  · refine ch_aload_n 0 (some t0) dX11_join_8 rfl (cp_gR (ci := 11) (k := 9) dX11_join_9 fl_X11_28 rfl h (fun v6 h => ?_))
    refine ch_iload_n 3 _ dX11_join_12 rfl (ch_iload_n 2 _ dX11_join_13 rfl (cp_if_eq _ (tgt := 26) dX11_join_14 rfl h (fun h => ?_) (fun h => ?_)))
    · refine ch_aload_n 0 (some t0) dX11_join_26 rfl (cp_gI (ci := 11) (k := 10) dX11_join_27 fl_X11_204 rfl h (fun v7 h => ?_))
      refine cp_if_eq _ (tgt := 39) dX11_join_30 rfl h (fun h => ?_) (fun h => ?_)
      · refine ch_aload_n 0 (some t0) dX11_join_39 rfl (cp_gR (ci := 11) (k := 9) dX11_join_40 fl_X11_28 rfl h (fun v8 h => ?_))
        refine ch_iload_n 3 _ dX11_join_43 rfl (cp_zald (t := 23) dX11_join_44 rfl rfl h (fun v9 h => ?_))
        refine cp_if_eq _ (tgt := 58) dX11_join_45 rfl h (fun h => ?_) (fun h => ?_)
        · refine ch_iconst _ 0 dX11_join_58 rfl (cp_zast (t := 23) dX11_join_59 rfl (Nat.le_of_ble_eq_true rfl) rfl h (fun w10 h => ?_))
          refine ch_iinc 3 _ _ (x3 + 1) (ls1 := [some (va_rf (some t0)), some (va_rf x1), some (.int x2), some (.int (x3 + 1))]) dX11_join_60 rfl rfl (Nat.le_of_ble_eq_true rfl) rfl (ch_goto 2 dX11_join_63 rfl (ch_FT.wk (ch_wS (ch_wS (ch_wS (ch_wS ch_w0)))) ?_))
          obtain rfl := Option.some.inj h
          exact hk
        · refine ch_aload_n 1 x1 dX11_join_48 rfl (ch_iload_n 3 _ dX11_join_49 rfl (cp_zald (t := 23) dX11_join_50 rfl rfl h (fun v11 h => ?_)))
          refine cp_if_eq _ (tgt := 58) dX11_join_51 rfl h (fun h => ?_) (fun h => ?_)
          · refine ch_iconst _ 0 dX11_join_58 rfl (cp_zast (t := 23) dX11_join_59 rfl (Nat.le_of_ble_eq_true rfl) rfl h (fun w12 h => ?_))
            refine ch_iinc 3 _ _ (x3 + 1) (ls1 := [some (va_rf (some t0)), some (va_rf x1), some (.int x2), some (.int (x3 + 1))]) dX11_join_60 rfl rfl (Nat.le_of_ble_eq_true rfl) rfl (ch_goto 2 dX11_join_63 rfl (ch_FT.wk (ch_wS (ch_wS (ch_wS (ch_wS ch_w0)))) ?_))
            obtain rfl := Option.some.inj h
            exact hk
          · refine ch_iconst _ 1 dX11_join_54 rfl (ch_goto 59 dX11_join_55 rfl (cp_zast (t := 23) dX11_join_59 rfl (Nat.le_of_ble_eq_true rfl) rfl h (fun w13 h => ?_)))
            refine ch_iinc 3 _ _ (x3 + 1) (ls1 := [some (va_rf (some t0)), some (va_rf x1), some (.int x2), some (.int (x3 + 1))]) dX11_join_60 rfl rfl (Nat.le_of_ble_eq_true rfl) rfl (ch_goto 2 dX11_join_63 rfl (ch_FT.wk (ch_wS (ch_wS (ch_wS (ch_wS ch_w0)))) ?_))
            obtain rfl := Option.some.inj h
            exact hk
      · refine ch_aload_n 1 x1 dX11_join_33 rfl (ch_iload_n 3 _ dX11_join_34 rfl (cp_zald (t := 23) dX11_join_35 rfl rfl h (fun v14 h => ?_)))
        refine ch_goto 59 dX11_join_36 rfl (cp_zast (t := 23) dX11_join_59 rfl (Nat.le_of_ble_eq_true rfl) rfl h (fun w15 h => ?_))
        refine ch_iinc 3 _ _ (x3 + 1) (ls1 := [some (va_rf (some t0)), some (va_rf x1), some (.int x2), some (.int (x3 + 1))]) dX11_join_60 rfl rfl (Nat.le_of_ble_eq_true rfl) rfl (ch_goto 2 dX11_join_63 rfl (ch_FT.wk (ch_wS (ch_wS (ch_wS (ch_wS ch_w0)))) ?_))
        obtain rfl := Option.some.inj h
        exact hk
    · refine ch_aload_n 0 (some t0) dX11_join_17 rfl (cp_gR (ci := 11) (k := 9) dX11_join_18 fl_X11_28 rfl h (fun v16 h => ?_))
      refine ch_iload_n 3 _ dX11_join_21 rfl (cp_zald (t := 23) dX11_join_22 rfl rfl h (fun v17 h => ?_))
      refine ch_goto 59 dX11_join_23 rfl (cp_zast (t := 23) dX11_join_59 rfl (Nat.le_of_ble_eq_true rfl) rfl h (fun w18 h => ?_))
      refine ch_iinc 3 _ _ (x3 + 1) (ls1 := [some (va_rf (some t0)), some (va_rf x1), some (.int x2), some (.int (x3 + 1))]) dX11_join_60 rfl rfl (Nat.le_of_ble_eq_true rfl) rfl (ch_goto 2 dX11_join_63 rfl (ch_FT.wk (ch_wS (ch_wS (ch_wS (ch_wS ch_w0)))) ?_))
      obtain rfl := Option.some.inj h
      exact hk
theorem sl_X11_join_2 {g : State} {t0 : Nat} {x1 : Option Nat} {x2 : Int32} {a : Int32 × ch_W} {res : ch_W} {Q : Outcome → ch_W → Prop} (h : ch_loop (fun (s : Int32 × ch_W) => c_X11_join_2 t0 x1 x2 s.1 s.2) a = some res) (hk : (ch_eV Q) res) : ch_FT g true mX11_join 2 2 [some (va_rf (some t0)), some (va_rf x1), some (.int x2), some (.int a.1)] [] (a.2) Q := by
  refine ch_loop_ind (fun (a : Int32 × ch_W) (r : ch_W) => (ch_eV Q) r → ch_FT g true mX11_join 2 2 [some (va_rf (some t0)), some (va_rf x1), some (.int x2), some (.int a.1)] [] (a.2) Q) ?_ ?_ a res h hk
  · intro a a2 b h1 ih hk
    exact s_X11_join_2  h1 (ih hk)
  · intro a b h1 hk
    exact s_X11_join_2  h1 hk

def c_X11_join (t0 : Nat) (x1 : Option Nat) (x2 : Int32) (w : ch_W) : Option (ch_W) := ch_loop (fun (s : Int32 × ch_W) => c_X11_join_2 t0 x1 x2 s.1 s.2) (0, w)
theorem s_X11_join {g : State} {t0 : Nat} {x1 : Option Nat} {x2 : Int32} {w : ch_W} {res : ch_W} {Q : Outcome → ch_W → Prop} (h : c_X11_join t0 x1 x2 w = some res) (hk : (ch_eV Q) res) : ch_CT g true yX11_join 2 [.ref t0, va_rf x1, .int x2] (w) Q := by
  unfold c_X11_join at h
  refine ch_ctL mX11_join (ls := [some (va_rf (some t0)), some (va_rf x1), some (.int x2), none]) q1278 rfl (ch_lyr (r := some t0) (ch_lyr (r := x1) (ch_lyi ch_ly0))) (Nat.le_of_ble_eq_true rfl) rfl ?_
  exact ch_iconst _ 0 dX11_join_0 rfl (ch_istore_n 3 _ (ls1 := [some (va_rf (some t0)), some (va_rf x1), some (.int x2), some (.int 0)]) dX11_join_1 (Nat.le_of_ble_eq_true rfl) rfl (ch_FT.wk (ch_wS (ch_wS (ch_wS (ch_wS ch_w0)))) (sl_X11_join_2  h hk)))

theorem bX11_block_0 : ch_ck cX11_block 0 [42, 180, 0, 21, 180, 0, 173, 61, 3, 62, 29, 43, 190, 162, 0, 26] := ch_ckof (by decide +kernel)
theorem bX11_block_1 : ch_ck cX11_block 16 [42, 43, 29, 50, 180, 0, 237, 181, 0, 88, 42, 43, 29, 50, 182, 0] := ch_ckof (by decide +kernel)
theorem bX11_block_2 : ch_ck cX11_block 32 [240, 132, 3, 1, 167, 255, 230, 42, 28, 182, 0, 244, 177] := ch_ckof (by decide +kernel)
theorem dX11_block_0 : decode cX11_block 0 = .ok (.aload_n 0, 1) := dz_42 (bX11_block_0 0 _ rfl)
theorem dX11_block_1 : decode cX11_block 1 = .ok (.getfield 21, 3) := dz_180 (bX11_block_0 1 _ rfl) (bX11_block_0 2 _ rfl) (bX11_block_0 3 _ rfl)
theorem dX11_block_4 : decode cX11_block 4 = .ok (.getfield 173, 3) := dz_180 (bX11_block_0 4 _ rfl) (bX11_block_0 5 _ rfl) (bX11_block_0 6 _ rfl)
theorem dX11_block_7 : decode cX11_block 7 = .ok (.istore_n 2, 1) := dz_61 (bX11_block_0 7 _ rfl)
theorem dX11_block_8 : decode cX11_block 8 = .ok (.iconst 0, 1) := dz_3 (bX11_block_0 8 _ rfl)
theorem dX11_block_9 : decode cX11_block 9 = .ok (.istore_n 3, 1) := dz_62 (bX11_block_0 9 _ rfl)
theorem dX11_block_10 : decode cX11_block 10 = .ok (.iload_n 3, 1) := dz_29 (bX11_block_0 10 _ rfl)
theorem dX11_block_11 : decode cX11_block 11 = .ok (.aload_n 1, 1) := dz_43 (bX11_block_0 11 _ rfl)
theorem dX11_block_12 : decode cX11_block 12 = .ok (.arraylength, 1) := dz_190 (bX11_block_0 12 _ rfl)
theorem dX11_block_13 : decode cX11_block 13 = .ok (.if_icmp .ge 26, 3) := dz_162 (bX11_block_0 13 _ rfl) (bX11_block_0 14 _ rfl) (bX11_block_0 15 _ rfl)
theorem dX11_block_16 : decode cX11_block 16 = .ok (.aload_n 0, 1) := dz_42 (bX11_block_1 0 _ rfl)
theorem dX11_block_17 : decode cX11_block 17 = .ok (.aload_n 1, 1) := dz_43 (bX11_block_1 1 _ rfl)
theorem dX11_block_18 : decode cX11_block 18 = .ok (.iload_n 3, 1) := dz_29 (bX11_block_1 2 _ rfl)
theorem dX11_block_19 : decode cX11_block 19 = .ok (.aaload, 1) := dz_50 (bX11_block_1 3 _ rfl)
theorem dX11_block_20 : decode cX11_block 20 = .ok (.getfield 237, 3) := dz_180 (bX11_block_1 4 _ rfl) (bX11_block_1 5 _ rfl) (bX11_block_1 6 _ rfl)
theorem dX11_block_23 : decode cX11_block 23 = .ok (.putfield 88, 3) := dz_181 (bX11_block_1 7 _ rfl) (bX11_block_1 8 _ rfl) (bX11_block_1 9 _ rfl)
theorem dX11_block_26 : decode cX11_block 26 = .ok (.aload_n 0, 1) := dz_42 (bX11_block_1 10 _ rfl)
theorem dX11_block_27 : decode cX11_block 27 = .ok (.aload_n 1, 1) := dz_43 (bX11_block_1 11 _ rfl)
theorem dX11_block_28 : decode cX11_block 28 = .ok (.iload_n 3, 1) := dz_29 (bX11_block_1 12 _ rfl)
theorem dX11_block_29 : decode cX11_block 29 = .ok (.aaload, 1) := dz_50 (bX11_block_1 13 _ rfl)
theorem dX11_block_30 : decode cX11_block 30 = .ok (.invokevirtual 240, 3) := dz_182 (bX11_block_1 14 _ rfl) (bX11_block_1 15 _ rfl) (bX11_block_2 0 _ rfl)
theorem dX11_block_33 : decode cX11_block 33 = .ok (.iinc 3 1, 3) := dz_132 (bX11_block_2 1 _ rfl) (bX11_block_2 2 _ rfl) (bX11_block_2 3 _ rfl)
theorem dX11_block_36 : decode cX11_block 36 = .ok (.goto (-26), 3) := dz_167 (bX11_block_2 4 _ rfl) (bX11_block_2 5 _ rfl) (bX11_block_2 6 _ rfl)
theorem dX11_block_39 : decode cX11_block 39 = .ok (.aload_n 0, 1) := dz_42 (bX11_block_2 7 _ rfl)
theorem dX11_block_40 : decode cX11_block 40 = .ok (.iload_n 2, 1) := dz_28 (bX11_block_2 8 _ rfl)
theorem dX11_block_41 : decode cX11_block 41 = .ok (.invokevirtual 244, 3) := dz_182 (bX11_block_2 9 _ rfl) (bX11_block_2 10 _ rfl) (bX11_block_2 11 _ rfl)
theorem dX11_block_44 : decode cX11_block 44 = .ok (.return_, 1) := dz_177 (bX11_block_2 12 _ rfl)
def c_X11_block_10 (rc : Nat → Nat → (Option Nat) → ch_W → Option (Except Nat Unit × ch_W)) (g : State) (t0 : Nat) (x1 : Option Nat) (x2 : Int32) (x3 : Int32)  (w : ch_W) : Option ((Int32 × ch_W) ⊕ (Except Nat Unit × ch_W)) := (ch_le w x1 28).bind fun v1 => if x3 < v1 then ((ch_lR w x1 28 x3).bind fun v5 => (ch_gI w v5 10 fX9_place).bind fun v6 => (ch_pI w (some t0) 12 fX11_here v6).bind fun w7 => (ch_lR w7 x1 28 x3).bind fun v8 => (ch_rc w7 (some t0) 12).bind fun _ => ch_tb (rc 1 t0 v8 w7) (fun a w => .inr ((.error a, w))) fun _ w11 => some (.inl (x3 + 1, w11))) else ((ch_rc w (some t0) 12).bind fun _ => (c_X11_drop t0 x2 w).bind fun p3 => some (.inr ((.ok (), p3))))
theorem s_X11_block_10 {g : State} {d : Nat} {rc : Nat → Nat → (Option Nat) → ch_W → Option (Except Nat Unit × ch_W)} (hr1 : ∀ {t0 : Nat} {z0 : Option Nat} {w : ch_W} {p : Except Nat Unit × ch_W} {Q : Outcome → ch_W → Prop}, rc 1 t0 z0 w = some p → ch_xV Q p → ch_CT g true yX11_statement (d + 712) [.ref t0, va_rf z0] (w) Q)  {t0 : Nat} {x1 : Option Nat} {x2 : Int32} {x3 : Int32} {w : ch_W} {res : (Int32 × ch_W) ⊕ (Except Nat Unit × ch_W)} {Q : Outcome → ch_W → Prop} (h : c_X11_block_10 rc g t0 x1 x2 x3 w = some res) (hk : (ch_sm (fun s => ch_FT g true mX11_block (d + 713) 10 [some (va_rf (some t0)), some (va_rf x1), some (.int x2), some (.int s.1)] [] (s.2) Q) (ch_xV Q)) res) : ch_FT g true mX11_block (d + 713) 10 [some (va_rf (some t0)), some (va_rf x1), some (.int x2), some (.int x3)] [] (w) Q := by
  unfold c_X11_block_10 at h
  refine ch_iload_n 3 _ dX11_block_10 rfl (ch_aload_n 1 x1 dX11_block_11 rfl (cp_alen (t := 28) dX11_block_12 rfl rfl h (fun v1 h => ?_)))
  refine cp_icmp_ge _ _ (tgt := 39) dX11_block_13 rfl h (fun h => ?_) (fun h => ?_)
  · obtain ⟨_, hb2, h⟩ := ch_bd h
    obtain ⟨p3, hp4, h⟩ := ch_bd h
    refine ch_aload_n 0 (some t0) dX11_block_39 rfl (ch_iload_n 2 _ dX11_block_40 rfl (ch_iv yX11_drop prog_2_method_18_code 2 none (ci := 11) (q := (RX11, TX11, 14)) (b := t0) (d' := 4) (av := [.int x2]) (rest := []) rfl dX11_block_41 q1290 q1292 rfl qs64 q1293 can_X11_drop (Nat.le_trans (Nat.le_of_ble_eq_true rfl) (Nat.le_add_left 713 d)) (Nat.le_of_ble_eq_true rfl) (ch_rts hb2) (cp_kV (w1 := p3) (fun Q' hq => s_X11_drop hp4 hq) ?_)))
    obtain rfl := Option.some.inj h
    exact ch_return dX11_block_44 rfl hk
  · refine ch_aload_n 0 (some t0) dX11_block_16 rfl (ch_aload_n 1 x1 dX11_block_17 rfl (ch_iload_n 3 _ dX11_block_18 rfl (cp_aald (t := 28) dX11_block_19 rfl rfl h (fun v5 h => ?_))))
    refine cp_gI (ci := 9) (k := 1) dX11_block_20 fl_X11_237 rfl h (fun v6 h => ?_)
    refine cp_pI (ci := 11) (k := 6) dX11_block_23 fl_X11_88 rfl rfl rfl h (fun w7 h => ?_)
    refine ch_aload_n 0 (some t0) dX11_block_26 rfl (ch_aload_n 1 x1 dX11_block_27 rfl (ch_iload_n 3 _ dX11_block_28 rfl (cp_aald (t := 28) dX11_block_29 rfl rfl h (fun v8 h => ?_))))
    obtain ⟨_, hb9, h⟩ := ch_bd h
    refine ch_iv yX11_statement prog_2_method_19_code 3 none (ci := 11) (q := (RX11, TX11, 14)) (b := t0) (d' := (d + 712)) (av := [va_rf v8]) (rest := []) rfl dX11_block_30 q1189 q1191 rfl qs45 q1192 can_X11_statement (Nat.le_refl _) (Nat.le_of_ble_eq_true rfl) (ch_rts hb9) (cp_tV h (fun p hp Q' hq => hr1 hp hq) (fun w11 h => ?_) (fun a w1 h => ?_))
    · refine ch_iinc 3 _ _ (x3 + 1) (ls1 := [some (va_rf (some t0)), some (va_rf x1), some (.int x2), some (.int (x3 + 1))]) dX11_block_33 rfl rfl (Nat.le_of_ble_eq_true rfl) rfl (ch_goto 10 dX11_block_36 rfl (ch_FT.wk (ch_wS (ch_wS (ch_wS (ch_wS ch_w0)))) ?_))
      obtain rfl := Option.some.inj h
      exact hk
    · subst h
      exact ch_th rfl hk
theorem sl_X11_block_10 {g : State} {d : Nat} {rc : Nat → Nat → (Option Nat) → ch_W → Option (Except Nat Unit × ch_W)} (hr1 : ∀ {t0 : Nat} {z0 : Option Nat} {w : ch_W} {p : Except Nat Unit × ch_W} {Q : Outcome → ch_W → Prop}, rc 1 t0 z0 w = some p → ch_xV Q p → ch_CT g true yX11_statement (d + 712) [.ref t0, va_rf z0] (w) Q)  {t0 : Nat} {x1 : Option Nat} {x2 : Int32} {a : Int32 × ch_W} {res : Except Nat Unit × ch_W} {Q : Outcome → ch_W → Prop} (h : ch_loop (fun (s : Int32 × ch_W) => c_X11_block_10 rc g t0 x1 x2 s.1 s.2) a = some res) (hk : (ch_xV Q) res) : ch_FT g true mX11_block (d + 713) 10 [some (va_rf (some t0)), some (va_rf x1), some (.int x2), some (.int a.1)] [] (a.2) Q := by
  refine ch_loop_ind (fun (a : Int32 × ch_W) (r : Except Nat Unit × ch_W) => (ch_xV Q) r → ch_FT g true mX11_block (d + 713) 10 [some (va_rf (some t0)), some (va_rf x1), some (.int x2), some (.int a.1)] [] (a.2) Q) ?_ ?_ a res h hk
  · intro a a2 b h1 ih hk
    exact s_X11_block_10 hr1 h1 (ih hk)
  · intro a b h1 hk
    exact s_X11_block_10 hr1 h1 hk

def c_X11_block (rc : Nat → Nat → (Option Nat) → ch_W → Option (Except Nat Unit × ch_W)) (g : State) (t0 : Nat) (x1 : Option Nat) (w : ch_W) : Option (Except Nat Unit × ch_W) := (ch_gR w (some t0) 12 fX11_names).bind fun v1 => (ch_gI w v1 9 fX8_size).bind fun v2 => ch_loop (fun (s : Int32 × ch_W) => c_X11_block_10 rc g t0 x1 v2 s.1 s.2) (0, w)
theorem s_X11_block {g : State} {d : Nat} {rc : Nat → Nat → (Option Nat) → ch_W → Option (Except Nat Unit × ch_W)} (hr1 : ∀ {t0 : Nat} {z0 : Option Nat} {w : ch_W} {p : Except Nat Unit × ch_W} {Q : Outcome → ch_W → Prop}, rc 1 t0 z0 w = some p → ch_xV Q p → ch_CT g true yX11_statement (d + 712) [.ref t0, va_rf z0] (w) Q)  {t0 : Nat} {x1 : Option Nat} {w : ch_W} {res : Except Nat Unit × ch_W} {Q : Outcome → ch_W → Prop} (h : c_X11_block rc g t0 x1 w = some res) (hk : (ch_xV Q) res) : ch_CT g true yX11_block (d + 713) [.ref t0, va_rf x1] (w) Q := by
  unfold c_X11_block at h
  refine ch_ctL mX11_block (ls := [some (va_rf (some t0)), some (va_rf x1), none, none]) q1188 rfl (ch_lyr (r := some t0) (ch_lyr (r := x1) ch_ly0)) (Nat.le_of_ble_eq_true rfl) rfl ?_
  refine ch_aload_n 0 (some t0) dX11_block_0 rfl (cp_gR (ci := 11) (k := 7) dX11_block_1 fl_X11_21 rfl h (fun v1 h => ?_))
  refine cp_gI (ci := 8) (k := 1) dX11_block_4 fl_X11_173 rfl h (fun v2 h => ?_)
  exact ch_istore_n 2 _ (ls1 := [some (va_rf (some t0)), some (va_rf x1), some (.int v2), none]) dX11_block_7 (Nat.le_of_ble_eq_true rfl) (ch_s1o rfl rfl) (ch_iconst _ 0 dX11_block_8 rfl (ch_istore_n 3 _ (ls1 := [some (va_rf (some t0)), some (va_rf x1), some (.int v2), some (.int 0)]) dX11_block_9 (Nat.le_of_ble_eq_true rfl) rfl (ch_FT.wk (ch_wS (ch_wS (ch_wS (ch_wS ch_w0)))) (sl_X11_block_10 hr1 h hk))))

theorem bX11_statement_0 : ch_ck cX11_statement 0 [43, 180, 0, 249, 170, 0, 0, 0, 0, 0, 0, 235, 0, 0, 0, 0] := ch_ckof (by decide +kernel)
theorem bX11_statement_1 : ch_ck cX11_statement 16 [0, 0, 0, 7, 0, 0, 0, 48, 0, 0, 0, 56, 0, 0, 0, 64] := ch_ckof (by decide +kernel)
theorem bX11_statement_2 : ch_ck cX11_statement 32 [0, 0, 0, 86, 0, 0, 0, 94, 0, 0, 0, 102, 0, 0, 0, 198] := ch_ckof (by decide +kernel)
theorem bX11_statement_3 : ch_ck cX11_statement 48 [0, 0, 0, 227, 42, 43, 182, 0, 252, 167, 0, 217, 42, 43, 182, 0] := ch_ckof (by decide +kernel)
theorem bX11_statement_4 : ch_ck cX11_statement 64 [255, 167, 0, 209, 42, 43, 180, 1, 2, 182, 1, 6, 16, 252, 159, 0] := ch_ckof (by decide +kernel)
theorem bX11_statement_5 : ch_ck cX11_statement 80 [196, 42, 16, 31, 182, 0, 221, 167, 0, 187, 42, 43, 182, 1, 9, 167] := ch_ckof (by decide +kernel)
theorem bX11_statement_6 : ch_ck cX11_statement 96 [0, 179, 42, 43, 182, 1, 12, 167, 0, 171, 42, 43, 180, 1, 2, 199] := ch_ckof (by decide +kernel)
theorem bX11_statement_7 : ch_ck cX11_statement 112 [0, 23, 42, 180, 0, 201, 180, 0, 156, 16, 252, 160, 0, 7, 4, 167] := ch_ckof (by decide +kernel)
theorem bX11_statement_8 : ch_ck cX11_statement 128 [0, 46, 3, 167, 0, 42, 42, 180, 0, 201, 180, 0, 156, 16, 252, 159] := ch_ckof (by decide +kernel)
theorem bX11_statement_9 : ch_ck cX11_statement 144 [0, 29, 42, 42, 43, 180, 1, 2, 182, 1, 6, 42, 180, 0, 201, 180] := ch_ckof (by decide +kernel)
theorem bX11_statement_10 : ch_ck cX11_statement 160 [0, 156, 182, 1, 15, 153, 0, 7, 4, 167, 0, 4, 3, 182, 1, 18] := ch_ckof (by decide +kernel)
theorem bX11_statement_11 : ch_ck cX11_statement 176 [42, 43, 180, 1, 2, 199, 0, 8, 16, 25, 167, 0, 5, 16, 24, 182] := ch_ckof (by decide +kernel)
theorem bX11_statement_12 : ch_ck cX11_statement 192 [0, 221, 42, 4, 181, 0, 204, 167, 0, 75, 42, 42, 43, 180, 1, 2] := ch_ckof (by decide +kernel)
theorem bX11_statement_13 : ch_ck cX11_statement 208 [182, 1, 6, 184, 1, 21, 182, 1, 18, 42, 16, 26, 182, 0, 221, 42] := ch_ckof (by decide +kernel)
theorem bX11_statement_14 : ch_ck cX11_statement 224 [4, 181, 0, 204, 167, 0, 46, 42, 43, 182, 1, 25, 167, 0, 38, 42] := ch_ckof (by decide +kernel)
theorem bX11_statement_15 : ch_ck cX11_statement 240 [43, 180, 1, 2, 182, 1, 6, 61, 42, 28, 2, 159, 0, 9, 28, 16] := ch_ckof (by decide +kernel)
theorem bX11_statement_16 : ch_ck cX11_statement 256 [254, 160, 0, 7, 4, 167, 0, 4, 3, 182, 1, 18, 42, 16, 27, 182] := ch_ckof (by decide +kernel)
theorem bX11_statement_17 : ch_ck cX11_statement 272 [0, 221, 177] := ch_ckof (by decide +kernel)
theorem dX11_statement_0 : decode cX11_statement 0 = .ok (.aload_n 1, 1) := dz_43 (bX11_statement_0 0 _ rfl)
theorem dX11_statement_1 : decode cX11_statement 1 = .ok (.getfield 249, 3) := dz_180 (bX11_statement_0 1 _ rfl) (bX11_statement_0 2 _ rfl) (bX11_statement_0 3 _ rfl)
theorem dX11_statement_4 : decode cX11_statement 4 = .ok (.tableswitch 235 0 7 #[48, 56, 64, 86, 94, 102, 198, 227], 48) := by decide +kernel
theorem dX11_statement_52 : decode cX11_statement 52 = .ok (.aload_n 0, 1) := dz_42 (bX11_statement_3 4 _ rfl)
theorem dX11_statement_53 : decode cX11_statement 53 = .ok (.aload_n 1, 1) := dz_43 (bX11_statement_3 5 _ rfl)
theorem dX11_statement_54 : decode cX11_statement 54 = .ok (.invokevirtual 252, 3) := dz_182 (bX11_statement_3 6 _ rfl) (bX11_statement_3 7 _ rfl) (bX11_statement_3 8 _ rfl)
theorem dX11_statement_57 : decode cX11_statement 57 = .ok (.goto 217, 3) := dz_167 (bX11_statement_3 9 _ rfl) (bX11_statement_3 10 _ rfl) (bX11_statement_3 11 _ rfl)
theorem dX11_statement_60 : decode cX11_statement 60 = .ok (.aload_n 0, 1) := dz_42 (bX11_statement_3 12 _ rfl)
theorem dX11_statement_61 : decode cX11_statement 61 = .ok (.aload_n 1, 1) := dz_43 (bX11_statement_3 13 _ rfl)
theorem dX11_statement_62 : decode cX11_statement 62 = .ok (.invokevirtual 255, 3) := dz_182 (bX11_statement_3 14 _ rfl) (bX11_statement_3 15 _ rfl) (bX11_statement_4 0 _ rfl)
theorem dX11_statement_65 : decode cX11_statement 65 = .ok (.goto 209, 3) := dz_167 (bX11_statement_4 1 _ rfl) (bX11_statement_4 2 _ rfl) (bX11_statement_4 3 _ rfl)
theorem dX11_statement_68 : decode cX11_statement 68 = .ok (.aload_n 0, 1) := dz_42 (bX11_statement_4 4 _ rfl)
theorem dX11_statement_69 : decode cX11_statement 69 = .ok (.aload_n 1, 1) := dz_43 (bX11_statement_4 5 _ rfl)
theorem dX11_statement_70 : decode cX11_statement 70 = .ok (.getfield 258, 3) := dz_180 (bX11_statement_4 6 _ rfl) (bX11_statement_4 7 _ rfl) (bX11_statement_4 8 _ rfl)
theorem dX11_statement_73 : decode cX11_statement 73 = .ok (.invokevirtual 262, 3) := dz_182 (bX11_statement_4 9 _ rfl) (bX11_statement_4 10 _ rfl) (bX11_statement_4 11 _ rfl)
theorem dX11_statement_76 : decode cX11_statement 76 = .ok (.bipush (-4), 2) := dz_16 (bX11_statement_4 12 _ rfl) (bX11_statement_4 13 _ rfl)
theorem dX11_statement_78 : decode cX11_statement 78 = .ok (.if_icmp .eq 196, 3) := dz_159 (bX11_statement_4 14 _ rfl) (bX11_statement_4 15 _ rfl) (bX11_statement_5 0 _ rfl)
theorem dX11_statement_81 : decode cX11_statement 81 = .ok (.aload_n 0, 1) := dz_42 (bX11_statement_5 1 _ rfl)
theorem dX11_statement_82 : decode cX11_statement 82 = .ok (.bipush 31, 2) := dz_16 (bX11_statement_5 2 _ rfl) (bX11_statement_5 3 _ rfl)
theorem dX11_statement_84 : decode cX11_statement 84 = .ok (.invokevirtual 221, 3) := dz_182 (bX11_statement_5 4 _ rfl) (bX11_statement_5 5 _ rfl) (bX11_statement_5 6 _ rfl)
theorem dX11_statement_87 : decode cX11_statement 87 = .ok (.goto 187, 3) := dz_167 (bX11_statement_5 7 _ rfl) (bX11_statement_5 8 _ rfl) (bX11_statement_5 9 _ rfl)
theorem dX11_statement_90 : decode cX11_statement 90 = .ok (.aload_n 0, 1) := dz_42 (bX11_statement_5 10 _ rfl)
theorem dX11_statement_91 : decode cX11_statement 91 = .ok (.aload_n 1, 1) := dz_43 (bX11_statement_5 11 _ rfl)
theorem dX11_statement_92 : decode cX11_statement 92 = .ok (.invokevirtual 265, 3) := dz_182 (bX11_statement_5 12 _ rfl) (bX11_statement_5 13 _ rfl) (bX11_statement_5 14 _ rfl)
theorem dX11_statement_95 : decode cX11_statement 95 = .ok (.goto 179, 3) := dz_167 (bX11_statement_5 15 _ rfl) (bX11_statement_6 0 _ rfl) (bX11_statement_6 1 _ rfl)
theorem dX11_statement_98 : decode cX11_statement 98 = .ok (.aload_n 0, 1) := dz_42 (bX11_statement_6 2 _ rfl)
theorem dX11_statement_99 : decode cX11_statement 99 = .ok (.aload_n 1, 1) := dz_43 (bX11_statement_6 3 _ rfl)
theorem dX11_statement_100 : decode cX11_statement 100 = .ok (.invokevirtual 268, 3) := dz_182 (bX11_statement_6 4 _ rfl) (bX11_statement_6 5 _ rfl) (bX11_statement_6 6 _ rfl)
theorem dX11_statement_103 : decode cX11_statement 103 = .ok (.goto 171, 3) := dz_167 (bX11_statement_6 7 _ rfl) (bX11_statement_6 8 _ rfl) (bX11_statement_6 9 _ rfl)
theorem dX11_statement_106 : decode cX11_statement 106 = .ok (.aload_n 0, 1) := dz_42 (bX11_statement_6 10 _ rfl)
theorem dX11_statement_107 : decode cX11_statement 107 = .ok (.aload_n 1, 1) := dz_43 (bX11_statement_6 11 _ rfl)
theorem dX11_statement_108 : decode cX11_statement 108 = .ok (.getfield 258, 3) := dz_180 (bX11_statement_6 12 _ rfl) (bX11_statement_6 13 _ rfl) (bX11_statement_6 14 _ rfl)
theorem dX11_statement_111 : decode cX11_statement 111 = .ok (.ifnonnull 23, 3) := dz_199 (bX11_statement_6 15 _ rfl) (bX11_statement_7 0 _ rfl) (bX11_statement_7 1 _ rfl)
theorem dX11_statement_114 : decode cX11_statement 114 = .ok (.aload_n 0, 1) := dz_42 (bX11_statement_7 2 _ rfl)
theorem dX11_statement_115 : decode cX11_statement 115 = .ok (.getfield 201, 3) := dz_180 (bX11_statement_7 3 _ rfl) (bX11_statement_7 4 _ rfl) (bX11_statement_7 5 _ rfl)
theorem dX11_statement_118 : decode cX11_statement 118 = .ok (.getfield 156, 3) := dz_180 (bX11_statement_7 6 _ rfl) (bX11_statement_7 7 _ rfl) (bX11_statement_7 8 _ rfl)
theorem dX11_statement_121 : decode cX11_statement 121 = .ok (.bipush (-4), 2) := dz_16 (bX11_statement_7 9 _ rfl) (bX11_statement_7 10 _ rfl)
theorem dX11_statement_123 : decode cX11_statement 123 = .ok (.if_icmp .ne 7, 3) := dz_160 (bX11_statement_7 11 _ rfl) (bX11_statement_7 12 _ rfl) (bX11_statement_7 13 _ rfl)
theorem dX11_statement_126 : decode cX11_statement 126 = .ok (.iconst 1, 1) := dz_4 (bX11_statement_7 14 _ rfl)
theorem dX11_statement_127 : decode cX11_statement 127 = .ok (.goto 46, 3) := dz_167 (bX11_statement_7 15 _ rfl) (bX11_statement_8 0 _ rfl) (bX11_statement_8 1 _ rfl)
theorem dX11_statement_130 : decode cX11_statement 130 = .ok (.iconst 0, 1) := dz_3 (bX11_statement_8 2 _ rfl)
theorem dX11_statement_131 : decode cX11_statement 131 = .ok (.goto 42, 3) := dz_167 (bX11_statement_8 3 _ rfl) (bX11_statement_8 4 _ rfl) (bX11_statement_8 5 _ rfl)
theorem dX11_statement_134 : decode cX11_statement 134 = .ok (.aload_n 0, 1) := dz_42 (bX11_statement_8 6 _ rfl)
theorem dX11_statement_135 : decode cX11_statement 135 = .ok (.getfield 201, 3) := dz_180 (bX11_statement_8 7 _ rfl) (bX11_statement_8 8 _ rfl) (bX11_statement_8 9 _ rfl)
theorem dX11_statement_138 : decode cX11_statement 138 = .ok (.getfield 156, 3) := dz_180 (bX11_statement_8 10 _ rfl) (bX11_statement_8 11 _ rfl) (bX11_statement_8 12 _ rfl)
theorem dX11_statement_141 : decode cX11_statement 141 = .ok (.bipush (-4), 2) := dz_16 (bX11_statement_8 13 _ rfl) (bX11_statement_8 14 _ rfl)
theorem dX11_statement_143 : decode cX11_statement 143 = .ok (.if_icmp .eq 29, 3) := dz_159 (bX11_statement_8 15 _ rfl) (bX11_statement_9 0 _ rfl) (bX11_statement_9 1 _ rfl)
theorem dX11_statement_146 : decode cX11_statement 146 = .ok (.aload_n 0, 1) := dz_42 (bX11_statement_9 2 _ rfl)
theorem dX11_statement_147 : decode cX11_statement 147 = .ok (.aload_n 0, 1) := dz_42 (bX11_statement_9 3 _ rfl)
theorem dX11_statement_148 : decode cX11_statement 148 = .ok (.aload_n 1, 1) := dz_43 (bX11_statement_9 4 _ rfl)
theorem dX11_statement_149 : decode cX11_statement 149 = .ok (.getfield 258, 3) := dz_180 (bX11_statement_9 5 _ rfl) (bX11_statement_9 6 _ rfl) (bX11_statement_9 7 _ rfl)
theorem dX11_statement_152 : decode cX11_statement 152 = .ok (.invokevirtual 262, 3) := dz_182 (bX11_statement_9 8 _ rfl) (bX11_statement_9 9 _ rfl) (bX11_statement_9 10 _ rfl)
theorem dX11_statement_155 : decode cX11_statement 155 = .ok (.aload_n 0, 1) := dz_42 (bX11_statement_9 11 _ rfl)
theorem dX11_statement_156 : decode cX11_statement 156 = .ok (.getfield 201, 3) := dz_180 (bX11_statement_9 12 _ rfl) (bX11_statement_9 13 _ rfl) (bX11_statement_9 14 _ rfl)
theorem dX11_statement_159 : decode cX11_statement 159 = .ok (.getfield 156, 3) := dz_180 (bX11_statement_9 15 _ rfl) (bX11_statement_10 0 _ rfl) (bX11_statement_10 1 _ rfl)
theorem dX11_statement_162 : decode cX11_statement 162 = .ok (.invokevirtual 271, 3) := dz_182 (bX11_statement_10 2 _ rfl) (bX11_statement_10 3 _ rfl) (bX11_statement_10 4 _ rfl)
theorem dX11_statement_165 : decode cX11_statement 165 = .ok (.ifCond .eq 7, 3) := dz_153 (bX11_statement_10 5 _ rfl) (bX11_statement_10 6 _ rfl) (bX11_statement_10 7 _ rfl)
theorem dX11_statement_168 : decode cX11_statement 168 = .ok (.iconst 1, 1) := dz_4 (bX11_statement_10 8 _ rfl)
theorem dX11_statement_169 : decode cX11_statement 169 = .ok (.goto 4, 3) := dz_167 (bX11_statement_10 9 _ rfl) (bX11_statement_10 10 _ rfl) (bX11_statement_10 11 _ rfl)
theorem dX11_statement_172 : decode cX11_statement 172 = .ok (.iconst 0, 1) := dz_3 (bX11_statement_10 12 _ rfl)
theorem dX11_statement_173 : decode cX11_statement 173 = .ok (.invokevirtual 274, 3) := dz_182 (bX11_statement_10 13 _ rfl) (bX11_statement_10 14 _ rfl) (bX11_statement_10 15 _ rfl)
theorem dX11_statement_176 : decode cX11_statement 176 = .ok (.aload_n 0, 1) := dz_42 (bX11_statement_11 0 _ rfl)
theorem dX11_statement_177 : decode cX11_statement 177 = .ok (.aload_n 1, 1) := dz_43 (bX11_statement_11 1 _ rfl)
theorem dX11_statement_178 : decode cX11_statement 178 = .ok (.getfield 258, 3) := dz_180 (bX11_statement_11 2 _ rfl) (bX11_statement_11 3 _ rfl) (bX11_statement_11 4 _ rfl)
theorem dX11_statement_181 : decode cX11_statement 181 = .ok (.ifnonnull 8, 3) := dz_199 (bX11_statement_11 5 _ rfl) (bX11_statement_11 6 _ rfl) (bX11_statement_11 7 _ rfl)
theorem dX11_statement_184 : decode cX11_statement 184 = .ok (.bipush 25, 2) := dz_16 (bX11_statement_11 8 _ rfl) (bX11_statement_11 9 _ rfl)
theorem dX11_statement_186 : decode cX11_statement 186 = .ok (.goto 5, 3) := dz_167 (bX11_statement_11 10 _ rfl) (bX11_statement_11 11 _ rfl) (bX11_statement_11 12 _ rfl)
theorem dX11_statement_189 : decode cX11_statement 189 = .ok (.bipush 24, 2) := dz_16 (bX11_statement_11 13 _ rfl) (bX11_statement_11 14 _ rfl)
theorem dX11_statement_191 : decode cX11_statement 191 = .ok (.invokevirtual 221, 3) := dz_182 (bX11_statement_11 15 _ rfl) (bX11_statement_12 0 _ rfl) (bX11_statement_12 1 _ rfl)
theorem dX11_statement_194 : decode cX11_statement 194 = .ok (.aload_n 0, 1) := dz_42 (bX11_statement_12 2 _ rfl)
theorem dX11_statement_195 : decode cX11_statement 195 = .ok (.iconst 1, 1) := dz_4 (bX11_statement_12 3 _ rfl)
theorem dX11_statement_196 : decode cX11_statement 196 = .ok (.putfield 204, 3) := dz_181 (bX11_statement_12 4 _ rfl) (bX11_statement_12 5 _ rfl) (bX11_statement_12 6 _ rfl)
theorem dX11_statement_199 : decode cX11_statement 199 = .ok (.goto 75, 3) := dz_167 (bX11_statement_12 7 _ rfl) (bX11_statement_12 8 _ rfl) (bX11_statement_12 9 _ rfl)
theorem dX11_statement_202 : decode cX11_statement 202 = .ok (.aload_n 0, 1) := dz_42 (bX11_statement_12 10 _ rfl)
theorem dX11_statement_203 : decode cX11_statement 203 = .ok (.aload_n 0, 1) := dz_42 (bX11_statement_12 11 _ rfl)
theorem dX11_statement_204 : decode cX11_statement 204 = .ok (.aload_n 1, 1) := dz_43 (bX11_statement_12 12 _ rfl)
theorem dX11_statement_205 : decode cX11_statement 205 = .ok (.getfield 258, 3) := dz_180 (bX11_statement_12 13 _ rfl) (bX11_statement_12 14 _ rfl) (bX11_statement_12 15 _ rfl)
theorem dX11_statement_208 : decode cX11_statement 208 = .ok (.invokevirtual 262, 3) := dz_182 (bX11_statement_13 0 _ rfl) (bX11_statement_13 1 _ rfl) (bX11_statement_13 2 _ rfl)
theorem dX11_statement_211 : decode cX11_statement 211 = .ok (.invokestatic 277, 3) := dz_184 (bX11_statement_13 3 _ rfl) (bX11_statement_13 4 _ rfl) (bX11_statement_13 5 _ rfl)
theorem dX11_statement_214 : decode cX11_statement 214 = .ok (.invokevirtual 274, 3) := dz_182 (bX11_statement_13 6 _ rfl) (bX11_statement_13 7 _ rfl) (bX11_statement_13 8 _ rfl)
theorem dX11_statement_217 : decode cX11_statement 217 = .ok (.aload_n 0, 1) := dz_42 (bX11_statement_13 9 _ rfl)
theorem dX11_statement_218 : decode cX11_statement 218 = .ok (.bipush 26, 2) := dz_16 (bX11_statement_13 10 _ rfl) (bX11_statement_13 11 _ rfl)
theorem dX11_statement_220 : decode cX11_statement 220 = .ok (.invokevirtual 221, 3) := dz_182 (bX11_statement_13 12 _ rfl) (bX11_statement_13 13 _ rfl) (bX11_statement_13 14 _ rfl)
theorem dX11_statement_223 : decode cX11_statement 223 = .ok (.aload_n 0, 1) := dz_42 (bX11_statement_13 15 _ rfl)
theorem dX11_statement_224 : decode cX11_statement 224 = .ok (.iconst 1, 1) := dz_4 (bX11_statement_14 0 _ rfl)
theorem dX11_statement_225 : decode cX11_statement 225 = .ok (.putfield 204, 3) := dz_181 (bX11_statement_14 1 _ rfl) (bX11_statement_14 2 _ rfl) (bX11_statement_14 3 _ rfl)
theorem dX11_statement_228 : decode cX11_statement 228 = .ok (.goto 46, 3) := dz_167 (bX11_statement_14 4 _ rfl) (bX11_statement_14 5 _ rfl) (bX11_statement_14 6 _ rfl)
theorem dX11_statement_231 : decode cX11_statement 231 = .ok (.aload_n 0, 1) := dz_42 (bX11_statement_14 7 _ rfl)
theorem dX11_statement_232 : decode cX11_statement 232 = .ok (.aload_n 1, 1) := dz_43 (bX11_statement_14 8 _ rfl)
theorem dX11_statement_233 : decode cX11_statement 233 = .ok (.invokevirtual 281, 3) := dz_182 (bX11_statement_14 9 _ rfl) (bX11_statement_14 10 _ rfl) (bX11_statement_14 11 _ rfl)
theorem dX11_statement_236 : decode cX11_statement 236 = .ok (.goto 38, 3) := dz_167 (bX11_statement_14 12 _ rfl) (bX11_statement_14 13 _ rfl) (bX11_statement_14 14 _ rfl)
theorem dX11_statement_239 : decode cX11_statement 239 = .ok (.aload_n 0, 1) := dz_42 (bX11_statement_14 15 _ rfl)
theorem dX11_statement_240 : decode cX11_statement 240 = .ok (.aload_n 1, 1) := dz_43 (bX11_statement_15 0 _ rfl)
theorem dX11_statement_241 : decode cX11_statement 241 = .ok (.getfield 258, 3) := dz_180 (bX11_statement_15 1 _ rfl) (bX11_statement_15 2 _ rfl) (bX11_statement_15 3 _ rfl)
theorem dX11_statement_244 : decode cX11_statement 244 = .ok (.invokevirtual 262, 3) := dz_182 (bX11_statement_15 4 _ rfl) (bX11_statement_15 5 _ rfl) (bX11_statement_15 6 _ rfl)
theorem dX11_statement_247 : decode cX11_statement 247 = .ok (.istore_n 2, 1) := dz_61 (bX11_statement_15 7 _ rfl)
theorem dX11_statement_248 : decode cX11_statement 248 = .ok (.aload_n 0, 1) := dz_42 (bX11_statement_15 8 _ rfl)
theorem dX11_statement_249 : decode cX11_statement 249 = .ok (.iload_n 2, 1) := dz_28 (bX11_statement_15 9 _ rfl)
theorem dX11_statement_250 : decode cX11_statement 250 = .ok (.iconst (-1), 1) := dz_2 (bX11_statement_15 10 _ rfl)
theorem dX11_statement_251 : decode cX11_statement 251 = .ok (.if_icmp .eq 9, 3) := dz_159 (bX11_statement_15 11 _ rfl) (bX11_statement_15 12 _ rfl) (bX11_statement_15 13 _ rfl)
theorem dX11_statement_254 : decode cX11_statement 254 = .ok (.iload_n 2, 1) := dz_28 (bX11_statement_15 14 _ rfl)
theorem dX11_statement_255 : decode cX11_statement 255 = .ok (.bipush (-2), 2) := dz_16 (bX11_statement_15 15 _ rfl) (bX11_statement_16 0 _ rfl)
theorem dX11_statement_257 : decode cX11_statement 257 = .ok (.if_icmp .ne 7, 3) := dz_160 (bX11_statement_16 1 _ rfl) (bX11_statement_16 2 _ rfl) (bX11_statement_16 3 _ rfl)
theorem dX11_statement_260 : decode cX11_statement 260 = .ok (.iconst 1, 1) := dz_4 (bX11_statement_16 4 _ rfl)
theorem dX11_statement_261 : decode cX11_statement 261 = .ok (.goto 4, 3) := dz_167 (bX11_statement_16 5 _ rfl) (bX11_statement_16 6 _ rfl) (bX11_statement_16 7 _ rfl)
theorem dX11_statement_264 : decode cX11_statement 264 = .ok (.iconst 0, 1) := dz_3 (bX11_statement_16 8 _ rfl)
theorem dX11_statement_265 : decode cX11_statement 265 = .ok (.invokevirtual 274, 3) := dz_182 (bX11_statement_16 9 _ rfl) (bX11_statement_16 10 _ rfl) (bX11_statement_16 11 _ rfl)
theorem dX11_statement_268 : decode cX11_statement 268 = .ok (.aload_n 0, 1) := dz_42 (bX11_statement_16 12 _ rfl)
theorem dX11_statement_269 : decode cX11_statement 269 = .ok (.bipush 27, 2) := dz_16 (bX11_statement_16 13 _ rfl) (bX11_statement_16 14 _ rfl)
theorem dX11_statement_271 : decode cX11_statement 271 = .ok (.invokevirtual 221, 3) := dz_182 (bX11_statement_16 15 _ rfl) (bX11_statement_17 0 _ rfl) (bX11_statement_17 1 _ rfl)
theorem dX11_statement_274 : decode cX11_statement 274 = .ok (.return_, 1) := dz_177 (bX11_statement_17 2 _ rfl)
def c_X11_statement_265 (rc : Nat → Nat → (Option Nat) → ch_W → Option (Except Nat Unit × ch_W)) (g : State) (t0 : Nat)  (y0 : Int32) (y1 : Nat) (w : ch_W) : Option (Except Nat Unit × ch_W) := (ch_rc w (some y1) 12).bind fun _ => ch_tb (c_X11_must_2 g y1 y0 w) (fun a w => (.error a, w)) fun _ w3 => (ch_rc w3 (some t0) 12).bind fun _ => (c_X11_add_2 t0 27 w3).bind fun p5 => some ((.ok (), p5))
theorem s_X11_statement_265 {g : State} {d : Nat} {rc : Nat → Nat → (Option Nat) → ch_W → Option (Except Nat Unit × ch_W)} (hr2 : ∀ {t0 : Nat} {z0 : Option Nat} {w : ch_W} {p : Except Nat Unit × ch_W} {Q : Outcome → ch_W → Prop}, rc 2 t0 z0 w = some p → ch_xV Q p → ch_CT g true yX11_either (d + 712) [.ref t0, va_rf z0] (w) Q) (hr3 : ∀ {t0 : Nat} {z0 : Option Nat} {w : ch_W} {p : Except Nat Unit × ch_W} {Q : Outcome → ch_W → Prop}, rc 3 t0 z0 w = some p → ch_xV Q p → ch_CT g true yX11_loop (d + 712) [.ref t0, va_rf z0] (w) Q) (hr4 : ∀ {t0 : Nat} {z0 : Option Nat} {w : ch_W} {p : Except Nat Unit × ch_W} {Q : Outcome → ch_W → Prop}, rc 4 t0 z0 w = some p → ch_xV Q p → ch_CT g true yX11_tries (d + 712) [.ref t0, va_rf z0] (w) Q)  {t0 : Nat} {y0 : Int32} {y1 : Nat} {w : ch_W} {res : Except Nat Unit × ch_W} {Q : Outcome → ch_W → Prop} (h : c_X11_statement_265 rc g t0 y0 y1 w = some res) (hk : (ch_xV Q) res) : ch_FT g true mX11_statement (d + 713) 265 [some (va_rf (some t0)), none, none] [.int y0, va_rf (some y1)] (w) Q := by
  unfold c_X11_statement_265 at h
  obtain ⟨_, hb1, h⟩ := ch_bd h
  refine ch_iv yX11_must_2 prog_2_method_3_code 2 none (ci := 11) (q := (RX11, TX11, 14)) (b := y1) (d' := 8) (av := [.int y0]) (rest := []) rfl dX11_statement_265 q1202 q1204 rfl qs47 q1205 can_X11_must_2 (Nat.le_trans (Nat.le_of_ble_eq_true rfl) (Nat.le_add_left 713 d)) (Nat.le_of_ble_eq_true rfl) (ch_rts hb1) (cp_tV h (fun p hp Q' hq => s_X11_must_2 hp hq) (fun w3 h => ?_) (fun a w1 h => ?_))
  · obtain ⟨_, hb4, h⟩ := ch_bd h
    obtain ⟨p5, hp6, h⟩ := ch_bd h
    refine ch_aload_n 0 (some t0) dX11_statement_268 rfl (ch_bipush _ 27 dX11_statement_269 rfl (ch_iv yX11_add_2 prog_2_method_13_code 2 none (ci := 11) (q := (RX11, TX11, 14)) (b := t0) (d' := 3) (av := [.int 27]) (rest := []) rfl dX11_statement_271 q1218 q1220 rfl qs51 q1221 can_X11_add_2 (Nat.le_trans (Nat.le_of_ble_eq_true rfl) (Nat.le_add_left 713 d)) (Nat.le_of_ble_eq_true rfl) (ch_rts hb4) (cp_kV (w1 := p5) (fun Q' hq => s_X11_add_2 hp6 hq) ?_)))
    obtain rfl := Option.some.inj h
    exact ch_return dX11_statement_274 rfl hk
  · subst h
    exact ch_th rfl hk

def c_X11_statement_260 (rc : Nat → Nat → (Option Nat) → ch_W → Option (Except Nat Unit × ch_W)) (g : State) (t0 : Nat)  (y0 : Nat) (w : ch_W) : Option (Except Nat Unit × ch_W) := c_X11_statement_265 rc g t0 1 y0 w
theorem s_X11_statement_260 {g : State} {d : Nat} {rc : Nat → Nat → (Option Nat) → ch_W → Option (Except Nat Unit × ch_W)} (hr2 : ∀ {t0 : Nat} {z0 : Option Nat} {w : ch_W} {p : Except Nat Unit × ch_W} {Q : Outcome → ch_W → Prop}, rc 2 t0 z0 w = some p → ch_xV Q p → ch_CT g true yX11_either (d + 712) [.ref t0, va_rf z0] (w) Q) (hr3 : ∀ {t0 : Nat} {z0 : Option Nat} {w : ch_W} {p : Except Nat Unit × ch_W} {Q : Outcome → ch_W → Prop}, rc 3 t0 z0 w = some p → ch_xV Q p → ch_CT g true yX11_loop (d + 712) [.ref t0, va_rf z0] (w) Q) (hr4 : ∀ {t0 : Nat} {z0 : Option Nat} {w : ch_W} {p : Except Nat Unit × ch_W} {Q : Outcome → ch_W → Prop}, rc 4 t0 z0 w = some p → ch_xV Q p → ch_CT g true yX11_tries (d + 712) [.ref t0, va_rf z0] (w) Q)  {t0 : Nat} {y0 : Nat} {w : ch_W} {res : Except Nat Unit × ch_W} {Q : Outcome → ch_W → Prop} (h : c_X11_statement_260 rc g t0 y0 w = some res) (hk : (ch_xV Q) res) : ch_FT g true mX11_statement (d + 713) 260 [some (va_rf (some t0)), none, none] [va_rf (some y0)] (w) Q := by
  unfold c_X11_statement_260 at h
  exact ch_iconst _ 1 dX11_statement_260 rfl (ch_goto 265 dX11_statement_261 rfl (ch_FT.wk (ch_wS (ch_wN (ch_wN ch_w0))) (s_X11_statement_265 hr2 hr3 hr4 h hk)))

def c_X11_statement_191 (rc : Nat → Nat → (Option Nat) → ch_W → Option (Except Nat Unit × ch_W)) (g : State) (t0 : Nat)  (y0 : Int32) (y1 : Nat) (w : ch_W) : Option (Except Nat Unit × ch_W) := (ch_rc w (some y1) 12).bind fun _ => (c_X11_add_2 y1 y0 w).bind fun p2 => (ch_bit 1).bind fun _ => (ch_pI p2 (some t0) 12 fX11_isDead 1).bind fun w4 => some ((.ok (), w4))
theorem s_X11_statement_191 {g : State} {d : Nat} {rc : Nat → Nat → (Option Nat) → ch_W → Option (Except Nat Unit × ch_W)} (hr2 : ∀ {t0 : Nat} {z0 : Option Nat} {w : ch_W} {p : Except Nat Unit × ch_W} {Q : Outcome → ch_W → Prop}, rc 2 t0 z0 w = some p → ch_xV Q p → ch_CT g true yX11_either (d + 712) [.ref t0, va_rf z0] (w) Q) (hr3 : ∀ {t0 : Nat} {z0 : Option Nat} {w : ch_W} {p : Except Nat Unit × ch_W} {Q : Outcome → ch_W → Prop}, rc 3 t0 z0 w = some p → ch_xV Q p → ch_CT g true yX11_loop (d + 712) [.ref t0, va_rf z0] (w) Q) (hr4 : ∀ {t0 : Nat} {z0 : Option Nat} {w : ch_W} {p : Except Nat Unit × ch_W} {Q : Outcome → ch_W → Prop}, rc 4 t0 z0 w = some p → ch_xV Q p → ch_CT g true yX11_tries (d + 712) [.ref t0, va_rf z0] (w) Q)  {t0 : Nat} {y0 : Int32} {y1 : Nat} {w : ch_W} {res : Except Nat Unit × ch_W} {Q : Outcome → ch_W → Prop} (h : c_X11_statement_191 rc g t0 y0 y1 w = some res) (hk : (ch_xV Q) res) : ch_FT g true mX11_statement (d + 713) 191 [some (va_rf (some t0)), none, none] [.int y0, va_rf (some y1)] (w) Q := by
  unfold c_X11_statement_191 at h
  obtain ⟨_, hb1, h⟩ := ch_bd h
  obtain ⟨p2, hp3, h⟩ := ch_bd h
  refine ch_iv yX11_add_2 prog_2_method_13_code 2 none (ci := 11) (q := (RX11, TX11, 14)) (b := y1) (d' := 3) (av := [.int y0]) (rest := []) rfl dX11_statement_191 q1218 q1220 rfl qs51 q1221 can_X11_add_2 (Nat.le_trans (Nat.le_of_ble_eq_true rfl) (Nat.le_add_left 713 d)) (Nat.le_of_ble_eq_true rfl) (ch_rts hb1) (cp_kV (w1 := p2) (fun Q' hq => s_X11_add_2 hp3 hq) ?_)
  refine ch_aload_n 0 (some t0) dX11_statement_194 rfl (ch_iconst _ 1 dX11_statement_195 rfl (cp_pZ (ci := 11) (k := 10) dX11_statement_196 fl_X11_204 rfl rfl rfl h (fun w4 h => ?_)))
  obtain rfl := Option.some.inj h
  exact ch_goto 274 dX11_statement_199 rfl (ch_return dX11_statement_274 rfl hk)

def c_X11_statement_173 (rc : Nat → Nat → (Option Nat) → ch_W → Option (Except Nat Unit × ch_W)) (g : State) (t0 : Nat) (x1 : Option Nat) (y0 : Int32) (y1 : Nat) (w : ch_W) : Option (Except Nat Unit × ch_W) := (ch_rc w (some y1) 12).bind fun _ => ch_tb (c_X11_must_2 g y1 y0 w) (fun a w => (.error a, w)) fun _ w3 => (ch_gR w3 x1 10 fX9_value).bind fun v4 => if v4 = none then (c_X11_statement_191 rc g t0 25 t0 w3) else (c_X11_statement_191 rc g t0 24 t0 w3)
theorem s_X11_statement_173 {g : State} {d : Nat} {rc : Nat → Nat → (Option Nat) → ch_W → Option (Except Nat Unit × ch_W)} (hr2 : ∀ {t0 : Nat} {z0 : Option Nat} {w : ch_W} {p : Except Nat Unit × ch_W} {Q : Outcome → ch_W → Prop}, rc 2 t0 z0 w = some p → ch_xV Q p → ch_CT g true yX11_either (d + 712) [.ref t0, va_rf z0] (w) Q) (hr3 : ∀ {t0 : Nat} {z0 : Option Nat} {w : ch_W} {p : Except Nat Unit × ch_W} {Q : Outcome → ch_W → Prop}, rc 3 t0 z0 w = some p → ch_xV Q p → ch_CT g true yX11_loop (d + 712) [.ref t0, va_rf z0] (w) Q) (hr4 : ∀ {t0 : Nat} {z0 : Option Nat} {w : ch_W} {p : Except Nat Unit × ch_W} {Q : Outcome → ch_W → Prop}, rc 4 t0 z0 w = some p → ch_xV Q p → ch_CT g true yX11_tries (d + 712) [.ref t0, va_rf z0] (w) Q)  {t0 : Nat} {x1 : Option Nat} {y0 : Int32} {y1 : Nat} {w : ch_W} {res : Except Nat Unit × ch_W} {Q : Outcome → ch_W → Prop} (h : c_X11_statement_173 rc g t0 x1 y0 y1 w = some res) (hk : (ch_xV Q) res) : ch_FT g true mX11_statement (d + 713) 173 [some (va_rf (some t0)), some (va_rf x1), none] [.int y0, va_rf (some y1)] (w) Q := by
  unfold c_X11_statement_173 at h
  obtain ⟨_, hb1, h⟩ := ch_bd h
  refine ch_iv yX11_must_2 prog_2_method_3_code 2 none (ci := 11) (q := (RX11, TX11, 14)) (b := y1) (d' := 8) (av := [.int y0]) (rest := []) rfl dX11_statement_173 q1202 q1204 rfl qs47 q1205 can_X11_must_2 (Nat.le_trans (Nat.le_of_ble_eq_true rfl) (Nat.le_add_left 713 d)) (Nat.le_of_ble_eq_true rfl) (ch_rts hb1) (cp_tV h (fun p hp Q' hq => s_X11_must_2 hp hq) (fun w3 h => ?_) (fun a w1 h => ?_))
  · refine ch_aload_n 0 (some t0) dX11_statement_176 rfl (ch_aload_n 1 x1 dX11_statement_177 rfl (cp_gR (ci := 9) (k := 5) dX11_statement_178 fl_X11_258 rfl h (fun v4 h => ?_)))
    refine cp_ifnonnull v4 (tgt := 189) dX11_statement_181 rfl h (fun h => ?_) (fun h => ?_)
    · exact ch_bipush _ 24 dX11_statement_189 rfl (ch_FT.wk (ch_wS (ch_wN (ch_wN ch_w0))) (s_X11_statement_191 hr2 hr3 hr4 h hk))
    · exact ch_bipush _ 25 dX11_statement_184 rfl (ch_goto 191 dX11_statement_186 rfl (ch_FT.wk (ch_wS (ch_wN (ch_wN ch_w0))) (s_X11_statement_191 hr2 hr3 hr4 h hk)))
  · subst h
    exact ch_th rfl hk

def c_X11_statement_172 (rc : Nat → Nat → (Option Nat) → ch_W → Option (Except Nat Unit × ch_W)) (g : State) (t0 : Nat) (x1 : Option Nat) (y0 : Nat) (w : ch_W) : Option (Except Nat Unit × ch_W) := c_X11_statement_173 rc g t0 x1 0 y0 w
theorem s_X11_statement_172 {g : State} {d : Nat} {rc : Nat → Nat → (Option Nat) → ch_W → Option (Except Nat Unit × ch_W)} (hr2 : ∀ {t0 : Nat} {z0 : Option Nat} {w : ch_W} {p : Except Nat Unit × ch_W} {Q : Outcome → ch_W → Prop}, rc 2 t0 z0 w = some p → ch_xV Q p → ch_CT g true yX11_either (d + 712) [.ref t0, va_rf z0] (w) Q) (hr3 : ∀ {t0 : Nat} {z0 : Option Nat} {w : ch_W} {p : Except Nat Unit × ch_W} {Q : Outcome → ch_W → Prop}, rc 3 t0 z0 w = some p → ch_xV Q p → ch_CT g true yX11_loop (d + 712) [.ref t0, va_rf z0] (w) Q) (hr4 : ∀ {t0 : Nat} {z0 : Option Nat} {w : ch_W} {p : Except Nat Unit × ch_W} {Q : Outcome → ch_W → Prop}, rc 4 t0 z0 w = some p → ch_xV Q p → ch_CT g true yX11_tries (d + 712) [.ref t0, va_rf z0] (w) Q)  {t0 : Nat} {x1 : Option Nat} {y0 : Nat} {w : ch_W} {res : Except Nat Unit × ch_W} {Q : Outcome → ch_W → Prop} (h : c_X11_statement_172 rc g t0 x1 y0 w = some res) (hk : (ch_xV Q) res) : ch_FT g true mX11_statement (d + 713) 172 [some (va_rf (some t0)), some (va_rf x1), none] [va_rf (some y0)] (w) Q := by
  unfold c_X11_statement_172 at h
  exact ch_iconst _ 0 dX11_statement_172 rfl (ch_FT.wk (ch_wS (ch_wS (ch_wN ch_w0))) (s_X11_statement_173 hr2 hr3 hr4 h hk))

def c_X11_statement (rc : Nat → Nat → (Option Nat) → ch_W → Option (Except Nat Unit × ch_W)) (g : State) (t0 : Nat) (x1 : Option Nat) (w : ch_W) : Option (Except Nat Unit × ch_W) := (ch_gI w x1 10 fX9_kind).bind fun v1 => if v1 = 0 then ((ch_rc w (some t0) 12).bind fun _ => ch_tb (c_X11_tell g t0 x1 w) (fun a w => (.error a, w)) fun _ w8 => some ((.ok (), w8))) else (if v1 = 1 then ((ch_rc w (some t0) 12).bind fun _ => ch_tb (c_X11_put g t0 x1 w) (fun a w => (.error a, w)) fun _ w11 => some ((.ok (), w11))) else (if v1 = 2 then ((ch_gR w x1 10 fX9_value).bind fun v12 => (ch_rc w (some t0) 12).bind fun _ => ch_tb (cr_CE g 700 0 t0 v12 none 0 w) (fun a w => (.error a, w)) fun v14 w15 => if v14 = (-4) then (some ((.ok (), w15))) else ((ch_rc w15 (some t0) 12).bind fun _ => (c_X11_add_2 t0 31 w15).bind fun p17 => some ((.ok (), p17)))) else (if v1 = 3 then ((ch_rc w (some t0) 12).bind fun _ => ch_tb (rc 2 t0 x1 w) (fun a w => (.error a, w)) fun _ w21 => some ((.ok (), w21))) else (if v1 = 4 then ((ch_rc w (some t0) 12).bind fun _ => ch_tb (rc 3 t0 x1 w) (fun a w => (.error a, w)) fun _ w24 => some ((.ok (), w24))) else (if v1 = 5 then ((ch_gR w x1 10 fX9_value).bind fun v25 => if v25 = none then ((ch_gR w (some t0) 12 fX11_method).bind fun v37 => (ch_gI w v37 8 fX7_result).bind fun v38 => if v38 = (-4) then (c_X11_statement_173 rc g t0 x1 1 t0 w) else (c_X11_statement_173 rc g t0 x1 0 t0 w)) else ((ch_gR w (some t0) 12 fX11_method).bind fun v26 => (ch_gI w v26 8 fX7_result).bind fun v27 => if v27 = (-4) then (c_X11_statement_172 rc g t0 x1 t0 w) else ((ch_gR w x1 10 fX9_value).bind fun v28 => (ch_rc w (some t0) 12).bind fun _ => ch_tb (cr_CE g 700 0 t0 v28 none 0 w) (fun a w => (.error a, w)) fun v30 w31 => (ch_gR w31 (some t0) 12 fX11_method).bind fun v32 => (ch_gI w31 v32 8 fX7_result).bind fun v33 => (ch_rc w31 (some t0) 12).bind fun _ => (c_X11_isSub t0 v30 v33 w31).bind fun v35 => if v35 = 0 then (c_X11_statement_172 rc g t0 x1 t0 w31) else (c_X11_statement_173 rc g t0 x1 1 t0 w31)))) else (if v1 = 6 then ((ch_gR w x1 10 fX9_value).bind fun v39 => (ch_rc w (some t0) 12).bind fun _ => ch_tb (cr_CE g 700 0 t0 v39 none 0 w) (fun a w => (.error a, w)) fun v41 w42 => (c_X11_isObject v41 w42).bind fun v43 => (ch_rc w42 (some t0) 12).bind fun _ => ch_tb (c_X11_must_2 g t0 v43 w42) (fun a w => (.error a, w)) fun _ w47 => (ch_rc w47 (some t0) 12).bind fun _ => (c_X11_add_2 t0 26 w47).bind fun p49 => (ch_bit 1).bind fun _ => (ch_pI p49 (some t0) 12 fX11_isDead 1).bind fun w51 => some ((.ok (), w51))) else (if v1 = 7 then ((ch_rc w (some t0) 12).bind fun _ => ch_tb (rc 4 t0 x1 w) (fun a w => (.error a, w)) fun _ w54 => some ((.ok (), w54))) else ((ch_gR w x1 10 fX9_value).bind fun v2 => (ch_rc w (some t0) 12).bind fun _ => ch_tb (cr_CE g 700 0 t0 v2 none 0 w) (fun a w => (.error a, w)) fun v4 w5 => if v4 = (-1) then (c_X11_statement_260 rc g t0 t0 w5) else (if v4 = (-2) then (c_X11_statement_260 rc g t0 t0 w5) else (c_X11_statement_265 rc g t0 0 t0 w5))))))))))
theorem s_X11_statement {g : State} {d : Nat} {rc : Nat → Nat → (Option Nat) → ch_W → Option (Except Nat Unit × ch_W)} (hr2 : ∀ {t0 : Nat} {z0 : Option Nat} {w : ch_W} {p : Except Nat Unit × ch_W} {Q : Outcome → ch_W → Prop}, rc 2 t0 z0 w = some p → ch_xV Q p → ch_CT g true yX11_either (d + 712) [.ref t0, va_rf z0] (w) Q) (hr3 : ∀ {t0 : Nat} {z0 : Option Nat} {w : ch_W} {p : Except Nat Unit × ch_W} {Q : Outcome → ch_W → Prop}, rc 3 t0 z0 w = some p → ch_xV Q p → ch_CT g true yX11_loop (d + 712) [.ref t0, va_rf z0] (w) Q) (hr4 : ∀ {t0 : Nat} {z0 : Option Nat} {w : ch_W} {p : Except Nat Unit × ch_W} {Q : Outcome → ch_W → Prop}, rc 4 t0 z0 w = some p → ch_xV Q p → ch_CT g true yX11_tries (d + 712) [.ref t0, va_rf z0] (w) Q)  {t0 : Nat} {x1 : Option Nat} {w : ch_W} {res : Except Nat Unit × ch_W} {Q : Outcome → ch_W → Prop} (h : c_X11_statement rc g t0 x1 w = some res) (hk : (ch_xV Q) res) : ch_CT g true yX11_statement (d + 713) [.ref t0, va_rf x1] (w) Q := by
  unfold c_X11_statement at h
  refine ch_ctL mX11_statement (ls := [some (va_rf (some t0)), some (va_rf x1), none]) q1192 rfl (ch_lyr (r := some t0) (ch_lyr (r := x1) ch_ly0)) (Nat.le_of_ble_eq_true rfl) rfl ?_
  refine ch_aload_n 1 x1 dX11_statement_0 rfl (cp_gI (ci := 9) (k := 0) dX11_statement_1 fl_X11_249 rfl h (fun v1 h => ?_))
  by_cases e0 : v1 = 0
  · have h := ch_ifT e0 h
    refine ch_tableIn _ (off := 48) (tgt := 52) dX11_statement_4 (by rw [e0]; decide) (by rw [e0]; decide) (by rw [e0]; rfl) rfl ?_
    obtain ⟨_, hb6, h⟩ := ch_bd h
    refine ch_aload_n 0 (some t0) dX11_statement_52 rfl (ch_aload_n 1 x1 dX11_statement_53 rfl (ch_iv yX11_tell prog_2_method_21_code 3 none (ci := 11) (q := (RX11, TX11, 14)) (b := t0) (d' := 711) (av := [va_rf x1]) (rest := []) rfl dX11_statement_54 q1193 q1195 rfl qs46 q1196 can_X11_tell (Nat.le_trans (Nat.le_of_ble_eq_true rfl) (Nat.le_add_left 713 d)) (Nat.le_of_ble_eq_true rfl) (ch_rts hb6) (cp_tV h (fun p hp Q' hq => s_X11_tell hp hq) (fun w8 h => ?_) (fun a w1 h => ?_))))
    · obtain rfl := Option.some.inj h
      exact ch_goto 274 dX11_statement_57 rfl (ch_return dX11_statement_274 rfl hk)
    · subst h
      exact ch_th rfl hk
  replace h := ch_ifF e0 h
  by_cases e1 : v1 = 1
  · have h := ch_ifT e1 h
    refine ch_tableIn _ (off := 56) (tgt := 60) dX11_statement_4 (by rw [e1]; decide) (by rw [e1]; decide) (by rw [e1]; rfl) rfl ?_
    obtain ⟨_, hb9, h⟩ := ch_bd h
    refine ch_aload_n 0 (some t0) dX11_statement_60 rfl (ch_aload_n 1 x1 dX11_statement_61 rfl (ch_iv yX11_put prog_2_method_22_code 8 none (ci := 11) (q := (RX11, TX11, 14)) (b := t0) (d' := 711) (av := [va_rf x1]) (rest := []) rfl dX11_statement_62 q1263 q1265 rfl qs58 q1266 can_X11_put (Nat.le_trans (Nat.le_of_ble_eq_true rfl) (Nat.le_add_left 713 d)) (Nat.le_of_ble_eq_true rfl) (ch_rts hb9) (cp_tV h (fun p hp Q' hq => s_X11_put hp hq) (fun w11 h => ?_) (fun a w1 h => ?_))))
    · obtain rfl := Option.some.inj h
      exact ch_goto 274 dX11_statement_65 rfl (ch_return dX11_statement_274 rfl hk)
    · subst h
      exact ch_th rfl hk
  replace h := ch_ifF e1 h
  by_cases e2 : v1 = 2
  · have h := ch_ifT e2 h
    refine ch_tableIn _ (off := 64) (tgt := 68) dX11_statement_4 (by rw [e2]; decide) (by rw [e2]; decide) (by rw [e2]; rfl) rfl ?_
    refine ch_aload_n 0 (some t0) dX11_statement_68 rfl (ch_aload_n 1 x1 dX11_statement_69 rfl (cp_gR (ci := 9) (k := 5) dX11_statement_70 fl_X11_258 rfl h (fun v12 h => ?_)))
    obtain ⟨_, hb13, h⟩ := ch_bd h
    refine ch_iv yX11_value prog_2_method_28_code 5 (some .int) (ci := 11) (q := (RX11, TX11, 14)) (b := t0) (d' := 710) (av := [va_rf v12]) (rest := []) rfl dX11_statement_73 q1206 q1208 rfl qs48 q1209 can_X11_value (Nat.le_trans (Nat.le_of_ble_eq_true rfl) (Nat.le_add_left 713 d)) (Nat.le_of_ble_eq_true rfl) (ch_rts hb13) (cp_tI h (fun p hp Q' hq => sr_X11_value hp hq) (fun v14 w15 h => ?_) (fun a w1 h => ?_))
    · refine ch_bipush _ (-4) dX11_statement_76 rfl (cp_icmp_eq _ _ (tgt := 274) dX11_statement_78 rfl h (fun h => ?_) (fun h => ?_))
      · obtain rfl := Option.some.inj h
        exact ch_return dX11_statement_274 rfl hk
      · obtain ⟨_, hb16, h⟩ := ch_bd h
        obtain ⟨p17, hp18, h⟩ := ch_bd h
        refine ch_aload_n 0 (some t0) dX11_statement_81 rfl (ch_bipush _ 31 dX11_statement_82 rfl (ch_iv yX11_add_2 prog_2_method_13_code 2 none (ci := 11) (q := (RX11, TX11, 14)) (b := t0) (d' := 3) (av := [.int 31]) (rest := []) rfl dX11_statement_84 q1218 q1220 rfl qs51 q1221 can_X11_add_2 (Nat.le_trans (Nat.le_of_ble_eq_true rfl) (Nat.le_add_left 713 d)) (Nat.le_of_ble_eq_true rfl) (ch_rts hb16) (cp_kV (w1 := p17) (fun Q' hq => s_X11_add_2 hp18 hq) ?_)))
        obtain rfl := Option.some.inj h
        exact ch_goto 274 dX11_statement_87 rfl (ch_return dX11_statement_274 rfl hk)
    · subst h
      exact ch_th rfl hk
  replace h := ch_ifF e2 h
  by_cases e3 : v1 = 3
  · have h := ch_ifT e3 h
    refine ch_tableIn _ (off := 86) (tgt := 90) dX11_statement_4 (by rw [e3]; decide) (by rw [e3]; decide) (by rw [e3]; rfl) rfl ?_
    obtain ⟨_, hb19, h⟩ := ch_bd h
    refine ch_aload_n 0 (some t0) dX11_statement_90 rfl (ch_aload_n 1 x1 dX11_statement_91 rfl (ch_iv yX11_either prog_2_method_25_code 8 none (ci := 11) (q := (RX11, TX11, 14)) (b := t0) (d' := (d + 712)) (av := [va_rf x1]) (rest := []) rfl dX11_statement_92 q1267 q1269 rfl qs59 q1270 can_X11_either (Nat.le_refl _) (Nat.le_of_ble_eq_true rfl) (ch_rts hb19) (cp_tV h (fun p hp Q' hq => hr2 hp hq) (fun w21 h => ?_) (fun a w1 h => ?_))))
    · obtain rfl := Option.some.inj h
      exact ch_goto 274 dX11_statement_95 rfl (ch_return dX11_statement_274 rfl hk)
    · subst h
      exact ch_th rfl hk
  replace h := ch_ifF e3 h
  by_cases e4 : v1 = 4
  · have h := ch_ifT e4 h
    refine ch_tableIn _ (off := 94) (tgt := 98) dX11_statement_4 (by rw [e4]; decide) (by rw [e4]; decide) (by rw [e4]; rfl) rfl ?_
    obtain ⟨_, hb22, h⟩ := ch_bd h
    refine ch_aload_n 0 (some t0) dX11_statement_98 rfl (ch_aload_n 1 x1 dX11_statement_99 rfl (ch_iv yX11_loop prog_2_method_26_code 6 none (ci := 11) (q := (RX11, TX11, 14)) (b := t0) (d' := (d + 712)) (av := [va_rf x1]) (rest := []) rfl dX11_statement_100 q1279 q1281 rfl qs62 q1282 can_X11_loop (Nat.le_refl _) (Nat.le_of_ble_eq_true rfl) (ch_rts hb22) (cp_tV h (fun p hp Q' hq => hr3 hp hq) (fun w24 h => ?_) (fun a w1 h => ?_))))
    · obtain rfl := Option.some.inj h
      exact ch_goto 274 dX11_statement_103 rfl (ch_return dX11_statement_274 rfl hk)
    · subst h
      exact ch_th rfl hk
  replace h := ch_ifF e4 h
  by_cases e5 : v1 = 5
  · have h := ch_ifT e5 h
    refine ch_tableIn _ (off := 102) (tgt := 106) dX11_statement_4 (by rw [e5]; decide) (by rw [e5]; decide) (by rw [e5]; rfl) rfl ?_
    refine ch_aload_n 0 (some t0) dX11_statement_106 rfl (ch_aload_n 1 x1 dX11_statement_107 rfl (cp_gR (ci := 9) (k := 5) dX11_statement_108 fl_X11_258 rfl h (fun v25 h => ?_)))
    refine cp_ifnonnull v25 (tgt := 134) dX11_statement_111 rfl h (fun h => ?_) (fun h => ?_)
    · refine ch_aload_n 0 (some t0) dX11_statement_134 rfl (cp_gR (ci := 11) (k := 4) dX11_statement_135 fl_X11_201 rfl h (fun v26 h => ?_))
      refine cp_gI (ci := 7) (k := 11) dX11_statement_138 fl_X11_156 rfl h (fun v27 h => ?_)
      refine ch_bipush _ (-4) dX11_statement_141 rfl (cp_icmp_eq _ _ (tgt := 172) dX11_statement_143 rfl h (fun h => ?_) (fun h => ?_))
      · exact ch_FT.wk (ch_wS (ch_wS (ch_wN ch_w0))) (s_X11_statement_172 hr2 hr3 hr4 h hk)
      · refine ch_aload_n 0 (some t0) dX11_statement_146 rfl (ch_aload_n 0 (some t0) dX11_statement_147 rfl (ch_aload_n 1 x1 dX11_statement_148 rfl (cp_gR (ci := 9) (k := 5) dX11_statement_149 fl_X11_258 rfl h (fun v28 h => ?_))))
        obtain ⟨_, hb29, h⟩ := ch_bd h
        refine ch_iv yX11_value prog_2_method_28_code 5 (some .int) (ci := 11) (q := (RX11, TX11, 14)) (b := t0) (d' := 710) (av := [va_rf v28]) (rest := [va_rf (some t0), va_rf (some t0)]) rfl dX11_statement_152 q1206 q1208 rfl qs48 q1209 can_X11_value (Nat.le_trans (Nat.le_of_ble_eq_true rfl) (Nat.le_add_left 713 d)) (ch_hw (Nat.le_of_ble_eq_true rfl)) (ch_rts hb29) (cp_tI h (fun p hp Q' hq => sr_X11_value hp hq) (fun v30 w31 h => ?_) (fun a w1 h => ?_))
        · refine ch_aload_n 0 (some t0) dX11_statement_155 rfl (cp_gR (ci := 11) (k := 4) dX11_statement_156 fl_X11_201 rfl h (fun v32 h => ?_))
          refine cp_gI (ci := 7) (k := 11) dX11_statement_159 fl_X11_156 rfl h (fun v33 h => ?_)
          obtain ⟨_, hb34, h⟩ := ch_bd h
          obtain ⟨v35, hp36, h⟩ := ch_bd h
          refine ch_iv yX11_isSub prog_2_method_6_code 3 (some .boolean) (ci := 11) (q := (RX11, TX11, 14)) (b := t0) (d' := 5) (av := [.int v30, .int v33]) (rest := [va_rf (some t0)]) rfl dX11_statement_162 q1234 q1236 rfl qs54 q1237 can_X11_isSub (Nat.le_trans (Nat.le_of_ble_eq_true rfl) (Nat.le_add_left 713 d)) (ch_hw (Nat.le_of_ble_eq_true rfl)) (ch_rts hb34) (cp_kI (v := v35) (w1 := w31) (fun Q' hq => s_X11_isSub hp36 hq) ?_)
          refine cp_if_eq _ (tgt := 172) dX11_statement_165 rfl h (fun h => ?_) (fun h => ?_)
          · exact ch_FT.wk (ch_wS (ch_wS (ch_wN ch_w0))) (s_X11_statement_172 hr2 hr3 hr4 h hk)
          · exact ch_iconst _ 1 dX11_statement_168 rfl (ch_goto 173 dX11_statement_169 rfl (ch_FT.wk (ch_wS (ch_wS (ch_wN ch_w0))) (s_X11_statement_173 hr2 hr3 hr4 h hk)))
        · subst h
          exact ch_th rfl hk
    · refine ch_aload_n 0 (some t0) dX11_statement_114 rfl (cp_gR (ci := 11) (k := 4) dX11_statement_115 fl_X11_201 rfl h (fun v37 h => ?_))
      refine cp_gI (ci := 7) (k := 11) dX11_statement_118 fl_X11_156 rfl h (fun v38 h => ?_)
      refine ch_bipush _ (-4) dX11_statement_121 rfl (cp_icmp_ne _ _ (tgt := 130) dX11_statement_123 rfl h (fun h => ?_) (fun h => ?_))
      · exact ch_iconst _ 0 dX11_statement_130 rfl (ch_goto 173 dX11_statement_131 rfl (ch_FT.wk (ch_wS (ch_wS (ch_wN ch_w0))) (s_X11_statement_173 hr2 hr3 hr4 h hk)))
      · exact ch_iconst _ 1 dX11_statement_126 rfl (ch_goto 173 dX11_statement_127 rfl (ch_FT.wk (ch_wS (ch_wS (ch_wN ch_w0))) (s_X11_statement_173 hr2 hr3 hr4 h hk)))
  replace h := ch_ifF e5 h
  by_cases e6 : v1 = 6
  · have h := ch_ifT e6 h
    refine ch_tableIn _ (off := 198) (tgt := 202) dX11_statement_4 (by rw [e6]; decide) (by rw [e6]; decide) (by rw [e6]; rfl) rfl ?_
    refine ch_aload_n 0 (some t0) dX11_statement_202 rfl (ch_aload_n 0 (some t0) dX11_statement_203 rfl (ch_aload_n 1 x1 dX11_statement_204 rfl (cp_gR (ci := 9) (k := 5) dX11_statement_205 fl_X11_258 rfl h (fun v39 h => ?_))))
    obtain ⟨_, hb40, h⟩ := ch_bd h
    refine ch_iv yX11_value prog_2_method_28_code 5 (some .int) (ci := 11) (q := (RX11, TX11, 14)) (b := t0) (d' := 710) (av := [va_rf v39]) (rest := [va_rf (some t0)]) rfl dX11_statement_208 q1206 q1208 rfl qs48 q1209 can_X11_value (Nat.le_trans (Nat.le_of_ble_eq_true rfl) (Nat.le_add_left 713 d)) (ch_hw (Nat.le_of_ble_eq_true rfl)) (ch_rts hb40) (cp_tI h (fun p hp Q' hq => sr_X11_value hp hq) (fun v41 w42 h => ?_) (fun a w1 h => ?_))
    · obtain ⟨v43, hp44, h⟩ := ch_bd h
      refine ch_is yX11_isObject prog_2_method_20_code 1 (some .boolean) (d' := 2) (av := [.int v41]) (rest := [va_rf (some t0)]) rfl dX11_statement_211 q1283 q1284 q226 q1285 can_X11_isObject (Nat.le_trans (Nat.le_of_ble_eq_true rfl) (Nat.le_add_left 713 d)) (ch_hw (Nat.le_of_ble_eq_true rfl)) (cp_kI (v := v43) (w1 := w42) (fun Q' hq => s_X11_isObject hp44 hq) ?_)
      obtain ⟨_, hb45, h⟩ := ch_bd h
      refine ch_iv yX11_must_2 prog_2_method_3_code 2 none (ci := 11) (q := (RX11, TX11, 14)) (b := t0) (d' := 8) (av := [.int v43]) (rest := []) rfl dX11_statement_214 q1202 q1204 rfl qs47 q1205 can_X11_must_2 (Nat.le_trans (Nat.le_of_ble_eq_true rfl) (Nat.le_add_left 713 d)) (Nat.le_of_ble_eq_true rfl) (ch_rts hb45) (cp_tV h (fun p hp Q' hq => s_X11_must_2 hp hq) (fun w47 h => ?_) (fun a w1 h => ?_))
      · obtain ⟨_, hb48, h⟩ := ch_bd h
        obtain ⟨p49, hp50, h⟩ := ch_bd h
        refine ch_aload_n 0 (some t0) dX11_statement_217 rfl (ch_bipush _ 26 dX11_statement_218 rfl (ch_iv yX11_add_2 prog_2_method_13_code 2 none (ci := 11) (q := (RX11, TX11, 14)) (b := t0) (d' := 3) (av := [.int 26]) (rest := []) rfl dX11_statement_220 q1218 q1220 rfl qs51 q1221 can_X11_add_2 (Nat.le_trans (Nat.le_of_ble_eq_true rfl) (Nat.le_add_left 713 d)) (Nat.le_of_ble_eq_true rfl) (ch_rts hb48) (cp_kV (w1 := p49) (fun Q' hq => s_X11_add_2 hp50 hq) ?_)))
        refine ch_aload_n 0 (some t0) dX11_statement_223 rfl (ch_iconst _ 1 dX11_statement_224 rfl (cp_pZ (ci := 11) (k := 10) dX11_statement_225 fl_X11_204 rfl rfl rfl h (fun w51 h => ?_)))
        obtain rfl := Option.some.inj h
        exact ch_goto 274 dX11_statement_228 rfl (ch_return dX11_statement_274 rfl hk)
      · subst h
        exact ch_th rfl hk
    · subst h
      exact ch_th rfl hk
  replace h := ch_ifF e6 h
  by_cases e7 : v1 = 7
  · have h := ch_ifT e7 h
    refine ch_tableIn _ (off := 227) (tgt := 231) dX11_statement_4 (by rw [e7]; decide) (by rw [e7]; decide) (by rw [e7]; rfl) rfl ?_
    obtain ⟨_, hb52, h⟩ := ch_bd h
    refine ch_aload_n 0 (some t0) dX11_statement_231 rfl (ch_aload_n 1 x1 dX11_statement_232 rfl (ch_iv yX11_tries prog_2_method_27_code 13 none (ci := 11) (q := (RX11, TX11, 14)) (b := t0) (d' := (d + 712)) (av := [va_rf x1]) (rest := []) rfl dX11_statement_233 q1286 q1288 rfl qs63 q1289 can_X11_tries (Nat.le_refl _) (Nat.le_of_ble_eq_true rfl) (ch_rts hb52) (cp_tV h (fun p hp Q' hq => hr4 hp hq) (fun w54 h => ?_) (fun a w1 h => ?_))))
    · obtain rfl := Option.some.inj h
      exact ch_goto 274 dX11_statement_236 rfl (ch_return dX11_statement_274 rfl hk)
    · subst h
      exact ch_th rfl hk
  replace h := ch_ifF e7 h
  refine ch_tableOut _ (tgt := 239) dX11_statement_4 (by have t0 := ch_ne (n := 0) e0 rfl; have t1 := ch_ne (n := 1) e1 rfl; have t2 := ch_ne (n := 2) e2 rfl; have t3 := ch_ne (n := 3) e3 rfl; have t4 := ch_ne (n := 4) e4 rfl; have t5 := ch_ne (n := 5) e5 rfl; have t6 := ch_ne (n := 6) e6 rfl; have t7 := ch_ne (n := 7) e7 rfl; omega) rfl ?_
  refine ch_aload_n 0 (some t0) dX11_statement_239 rfl (ch_aload_n 1 x1 dX11_statement_240 rfl (cp_gR (ci := 9) (k := 5) dX11_statement_241 fl_X11_258 rfl h (fun v2 h => ?_)))
  obtain ⟨_, hb3, h⟩ := ch_bd h
  refine ch_iv yX11_value prog_2_method_28_code 5 (some .int) (ci := 11) (q := (RX11, TX11, 14)) (b := t0) (d' := 710) (av := [va_rf v2]) (rest := []) rfl dX11_statement_244 q1206 q1208 rfl qs48 q1209 can_X11_value (Nat.le_trans (Nat.le_of_ble_eq_true rfl) (Nat.le_add_left 713 d)) (Nat.le_of_ble_eq_true rfl) (ch_rts hb3) (cp_tI h (fun p hp Q' hq => sr_X11_value hp hq) (fun v4 w5 h => ?_) (fun a w1 h => ?_))
  · refine ch_istore_n 2 _ (ls1 := [some (va_rf (some t0)), some (va_rf x1), some (.int v4)]) dX11_statement_247 (Nat.le_of_ble_eq_true rfl) (ch_s1o rfl rfl) (ch_aload_n 0 (some t0) dX11_statement_248 rfl (ch_iload_n 2 _ dX11_statement_249 rfl (ch_iconst _ (-1) dX11_statement_250 rfl (cp_icmp_eq _ _ (tgt := 260) dX11_statement_251 rfl h (fun h => ?_) (fun h => ?_)))))
    · exact ch_FT.wk (ch_wS (ch_wN (ch_wN ch_w0))) (s_X11_statement_260 hr2 hr3 hr4 h hk)
    · refine ch_iload_n 2 _ dX11_statement_254 rfl (ch_bipush _ (-2) dX11_statement_255 rfl (cp_icmp_ne _ _ (tgt := 264) dX11_statement_257 rfl h (fun h => ?_) (fun h => ?_)))
      · exact ch_iconst _ 0 dX11_statement_264 rfl (ch_FT.wk (ch_wS (ch_wN (ch_wN ch_w0))) (s_X11_statement_265 hr2 hr3 hr4 h hk))
      · exact ch_FT.wk (ch_wS (ch_wN (ch_wN ch_w0))) (s_X11_statement_260 hr2 hr3 hr4 h hk)
  · subst h
    exact ch_th rfl hk

theorem bX11_either_0 : ch_ck cX11_either 0 [42, 42, 43, 180, 1, 2, 182, 1, 6, 16, 254, 160, 0, 7, 4, 167] := ch_ckof (by decide +kernel)
theorem bX11_either_1 : ch_ck cX11_either 16 [0, 4, 3, 182, 1, 18, 42, 16, 23, 3, 182, 0, 247, 42, 180, 0] := ch_ckof (by decide +kernel)
theorem bX11_either_2 : ch_ck cX11_either 32 [194, 180, 0, 173, 4, 100, 61, 42, 182, 1, 52, 78, 42, 180, 0, 204] := ch_ckof (by decide +kernel)
theorem bX11_either_3 : ch_ck cX11_either 48 [54, 4, 42, 43, 180, 1, 56, 182, 0, 215, 43, 180, 1, 59, 199, 0] := ch_ckof (by decide +kernel)
theorem bX11_either_4 : ch_ck cX11_either 64 [38, 42, 180, 0, 194, 180, 1, 62, 28, 42, 180, 0, 194, 180, 0, 173] := ch_ckof (by decide +kernel)
theorem bX11_either_5 : ch_ck cX11_either 80 [79, 45, 3, 42, 180, 0, 28, 3, 45, 190, 184, 0, 222, 42, 21, 4] := ch_ckof (by decide +kernel)
theorem bX11_either_6 : ch_ck cX11_either 96 [181, 0, 204, 177, 42, 16, 28, 3, 182, 0, 247, 42, 180, 0, 194, 180] := ch_ckof (by decide +kernel)
theorem bX11_either_7 : ch_ck cX11_either 112 [0, 173, 4, 100, 54, 5, 42, 180, 0, 194, 180, 1, 62, 28, 42, 180] := ch_ckof (by decide +kernel)
theorem bX11_either_8 : ch_ck cX11_either 128 [0, 194, 180, 0, 173, 79, 42, 182, 1, 52, 58, 6, 42, 180, 0, 204] := ch_ckof (by decide +kernel)
theorem bX11_either_9 : ch_ck cX11_either 144 [54, 7, 45, 3, 42, 180, 0, 28, 3, 45, 190, 184, 0, 222, 42, 21] := ch_ckof (by decide +kernel)
theorem bX11_either_10 : ch_ck cX11_either 160 [4, 181, 0, 204, 42, 43, 180, 1, 59, 182, 0, 215, 42, 180, 0, 194] := ch_ckof (by decide +kernel)
theorem bX11_either_11 : ch_ck cX11_either 176 [180, 1, 62, 21, 5, 42, 180, 0, 194, 180, 0, 173, 79, 42, 25, 6] := ch_ckof (by decide +kernel)
theorem bX11_either_12 : ch_ck cX11_either 192 [21, 7, 182, 1, 66, 177] := ch_ckof (by decide +kernel)
theorem dX11_either_0 : decode cX11_either 0 = .ok (.aload_n 0, 1) := dz_42 (bX11_either_0 0 _ rfl)
theorem dX11_either_1 : decode cX11_either 1 = .ok (.aload_n 0, 1) := dz_42 (bX11_either_0 1 _ rfl)
theorem dX11_either_2 : decode cX11_either 2 = .ok (.aload_n 1, 1) := dz_43 (bX11_either_0 2 _ rfl)
theorem dX11_either_3 : decode cX11_either 3 = .ok (.getfield 258, 3) := dz_180 (bX11_either_0 3 _ rfl) (bX11_either_0 4 _ rfl) (bX11_either_0 5 _ rfl)
theorem dX11_either_6 : decode cX11_either 6 = .ok (.invokevirtual 262, 3) := dz_182 (bX11_either_0 6 _ rfl) (bX11_either_0 7 _ rfl) (bX11_either_0 8 _ rfl)
theorem dX11_either_9 : decode cX11_either 9 = .ok (.bipush (-2), 2) := dz_16 (bX11_either_0 9 _ rfl) (bX11_either_0 10 _ rfl)
theorem dX11_either_11 : decode cX11_either 11 = .ok (.if_icmp .ne 7, 3) := dz_160 (bX11_either_0 11 _ rfl) (bX11_either_0 12 _ rfl) (bX11_either_0 13 _ rfl)
theorem dX11_either_14 : decode cX11_either 14 = .ok (.iconst 1, 1) := dz_4 (bX11_either_0 14 _ rfl)
theorem dX11_either_15 : decode cX11_either 15 = .ok (.goto 4, 3) := dz_167 (bX11_either_0 15 _ rfl) (bX11_either_1 0 _ rfl) (bX11_either_1 1 _ rfl)
theorem dX11_either_18 : decode cX11_either 18 = .ok (.iconst 0, 1) := dz_3 (bX11_either_1 2 _ rfl)
theorem dX11_either_19 : decode cX11_either 19 = .ok (.invokevirtual 274, 3) := dz_182 (bX11_either_1 3 _ rfl) (bX11_either_1 4 _ rfl) (bX11_either_1 5 _ rfl)
theorem dX11_either_22 : decode cX11_either 22 = .ok (.aload_n 0, 1) := dz_42 (bX11_either_1 6 _ rfl)
theorem dX11_either_23 : decode cX11_either 23 = .ok (.bipush 23, 2) := dz_16 (bX11_either_1 7 _ rfl) (bX11_either_1 8 _ rfl)
theorem dX11_either_25 : decode cX11_either 25 = .ok (.iconst 0, 1) := dz_3 (bX11_either_1 9 _ rfl)
theorem dX11_either_26 : decode cX11_either 26 = .ok (.invokevirtual 247, 3) := dz_182 (bX11_either_1 10 _ rfl) (bX11_either_1 11 _ rfl) (bX11_either_1 12 _ rfl)
theorem dX11_either_29 : decode cX11_either 29 = .ok (.aload_n 0, 1) := dz_42 (bX11_either_1 13 _ rfl)
theorem dX11_either_30 : decode cX11_either 30 = .ok (.getfield 194, 3) := dz_180 (bX11_either_1 14 _ rfl) (bX11_either_1 15 _ rfl) (bX11_either_2 0 _ rfl)
theorem dX11_either_33 : decode cX11_either 33 = .ok (.getfield 173, 3) := dz_180 (bX11_either_2 1 _ rfl) (bX11_either_2 2 _ rfl) (bX11_either_2 3 _ rfl)
theorem dX11_either_36 : decode cX11_either 36 = .ok (.iconst 1, 1) := dz_4 (bX11_either_2 4 _ rfl)
theorem dX11_either_37 : decode cX11_either 37 = .ok (.isub, 1) := dz_100 (bX11_either_2 5 _ rfl)
theorem dX11_either_38 : decode cX11_either 38 = .ok (.istore_n 2, 1) := dz_61 (bX11_either_2 6 _ rfl)
theorem dX11_either_39 : decode cX11_either 39 = .ok (.aload_n 0, 1) := dz_42 (bX11_either_2 7 _ rfl)
theorem dX11_either_40 : decode cX11_either 40 = .ok (.invokevirtual 308, 3) := dz_182 (bX11_either_2 8 _ rfl) (bX11_either_2 9 _ rfl) (bX11_either_2 10 _ rfl)
theorem dX11_either_43 : decode cX11_either 43 = .ok (.astore_n 3, 1) := dz_78 (bX11_either_2 11 _ rfl)
theorem dX11_either_44 : decode cX11_either 44 = .ok (.aload_n 0, 1) := dz_42 (bX11_either_2 12 _ rfl)
theorem dX11_either_45 : decode cX11_either 45 = .ok (.getfield 204, 3) := dz_180 (bX11_either_2 13 _ rfl) (bX11_either_2 14 _ rfl) (bX11_either_2 15 _ rfl)
theorem dX11_either_48 : decode cX11_either 48 = .ok (.istore 4, 2) := dz_54 (bX11_either_3 0 _ rfl) (bX11_either_3 1 _ rfl)
theorem dX11_either_50 : decode cX11_either 50 = .ok (.aload_n 0, 1) := dz_42 (bX11_either_3 2 _ rfl)
theorem dX11_either_51 : decode cX11_either 51 = .ok (.aload_n 1, 1) := dz_43 (bX11_either_3 3 _ rfl)
theorem dX11_either_52 : decode cX11_either 52 = .ok (.getfield 312, 3) := dz_180 (bX11_either_3 4 _ rfl) (bX11_either_3 5 _ rfl) (bX11_either_3 6 _ rfl)
theorem dX11_either_55 : decode cX11_either 55 = .ok (.invokevirtual 215, 3) := dz_182 (bX11_either_3 7 _ rfl) (bX11_either_3 8 _ rfl) (bX11_either_3 9 _ rfl)
theorem dX11_either_58 : decode cX11_either 58 = .ok (.aload_n 1, 1) := dz_43 (bX11_either_3 10 _ rfl)
theorem dX11_either_59 : decode cX11_either 59 = .ok (.getfield 315, 3) := dz_180 (bX11_either_3 11 _ rfl) (bX11_either_3 12 _ rfl) (bX11_either_3 13 _ rfl)
theorem dX11_either_62 : decode cX11_either 62 = .ok (.ifnonnull 38, 3) := dz_199 (bX11_either_3 14 _ rfl) (bX11_either_3 15 _ rfl) (bX11_either_4 0 _ rfl)
theorem dX11_either_65 : decode cX11_either 65 = .ok (.aload_n 0, 1) := dz_42 (bX11_either_4 1 _ rfl)
theorem dX11_either_66 : decode cX11_either 66 = .ok (.getfield 194, 3) := dz_180 (bX11_either_4 2 _ rfl) (bX11_either_4 3 _ rfl) (bX11_either_4 4 _ rfl)
theorem dX11_either_69 : decode cX11_either 69 = .ok (.getfield 318, 3) := dz_180 (bX11_either_4 5 _ rfl) (bX11_either_4 6 _ rfl) (bX11_either_4 7 _ rfl)
theorem dX11_either_72 : decode cX11_either 72 = .ok (.iload_n 2, 1) := dz_28 (bX11_either_4 8 _ rfl)
theorem dX11_either_73 : decode cX11_either 73 = .ok (.aload_n 0, 1) := dz_42 (bX11_either_4 9 _ rfl)
theorem dX11_either_74 : decode cX11_either 74 = .ok (.getfield 194, 3) := dz_180 (bX11_either_4 10 _ rfl) (bX11_either_4 11 _ rfl) (bX11_either_4 12 _ rfl)
theorem dX11_either_77 : decode cX11_either 77 = .ok (.getfield 173, 3) := dz_180 (bX11_either_4 13 _ rfl) (bX11_either_4 14 _ rfl) (bX11_either_4 15 _ rfl)
theorem dX11_either_80 : decode cX11_either 80 = .ok (.iastore, 1) := dz_79 (bX11_either_5 0 _ rfl)
theorem dX11_either_81 : decode cX11_either 81 = .ok (.aload_n 3, 1) := dz_45 (bX11_either_5 1 _ rfl)
theorem dX11_either_82 : decode cX11_either 82 = .ok (.iconst 0, 1) := dz_3 (bX11_either_5 2 _ rfl)
theorem dX11_either_83 : decode cX11_either 83 = .ok (.aload_n 0, 1) := dz_42 (bX11_either_5 3 _ rfl)
theorem dX11_either_84 : decode cX11_either 84 = .ok (.getfield 28, 3) := dz_180 (bX11_either_5 4 _ rfl) (bX11_either_5 5 _ rfl) (bX11_either_5 6 _ rfl)
theorem dX11_either_87 : decode cX11_either 87 = .ok (.iconst 0, 1) := dz_3 (bX11_either_5 7 _ rfl)
theorem dX11_either_88 : decode cX11_either 88 = .ok (.aload_n 3, 1) := dz_45 (bX11_either_5 8 _ rfl)
theorem dX11_either_89 : decode cX11_either 89 = .ok (.arraylength, 1) := dz_190 (bX11_either_5 9 _ rfl)
theorem dX11_either_90 : decode cX11_either 90 = .ok (.invokestatic 222, 3) := dz_184 (bX11_either_5 10 _ rfl) (bX11_either_5 11 _ rfl) (bX11_either_5 12 _ rfl)
theorem dX11_either_93 : decode cX11_either 93 = .ok (.aload_n 0, 1) := dz_42 (bX11_either_5 13 _ rfl)
theorem dX11_either_94 : decode cX11_either 94 = .ok (.iload 4, 2) := dz_21 (bX11_either_5 14 _ rfl) (bX11_either_5 15 _ rfl)
theorem dX11_either_96 : decode cX11_either 96 = .ok (.putfield 204, 3) := dz_181 (bX11_either_6 0 _ rfl) (bX11_either_6 1 _ rfl) (bX11_either_6 2 _ rfl)
theorem dX11_either_99 : decode cX11_either 99 = .ok (.return_, 1) := dz_177 (bX11_either_6 3 _ rfl)
theorem dX11_either_100 : decode cX11_either 100 = .ok (.aload_n 0, 1) := dz_42 (bX11_either_6 4 _ rfl)
theorem dX11_either_101 : decode cX11_either 101 = .ok (.bipush 28, 2) := dz_16 (bX11_either_6 5 _ rfl) (bX11_either_6 6 _ rfl)
theorem dX11_either_103 : decode cX11_either 103 = .ok (.iconst 0, 1) := dz_3 (bX11_either_6 7 _ rfl)
theorem dX11_either_104 : decode cX11_either 104 = .ok (.invokevirtual 247, 3) := dz_182 (bX11_either_6 8 _ rfl) (bX11_either_6 9 _ rfl) (bX11_either_6 10 _ rfl)
theorem dX11_either_107 : decode cX11_either 107 = .ok (.aload_n 0, 1) := dz_42 (bX11_either_6 11 _ rfl)
theorem dX11_either_108 : decode cX11_either 108 = .ok (.getfield 194, 3) := dz_180 (bX11_either_6 12 _ rfl) (bX11_either_6 13 _ rfl) (bX11_either_6 14 _ rfl)
theorem dX11_either_111 : decode cX11_either 111 = .ok (.getfield 173, 3) := dz_180 (bX11_either_6 15 _ rfl) (bX11_either_7 0 _ rfl) (bX11_either_7 1 _ rfl)
theorem dX11_either_114 : decode cX11_either 114 = .ok (.iconst 1, 1) := dz_4 (bX11_either_7 2 _ rfl)
theorem dX11_either_115 : decode cX11_either 115 = .ok (.isub, 1) := dz_100 (bX11_either_7 3 _ rfl)
theorem dX11_either_116 : decode cX11_either 116 = .ok (.istore 5, 2) := dz_54 (bX11_either_7 4 _ rfl) (bX11_either_7 5 _ rfl)
theorem dX11_either_118 : decode cX11_either 118 = .ok (.aload_n 0, 1) := dz_42 (bX11_either_7 6 _ rfl)
theorem dX11_either_119 : decode cX11_either 119 = .ok (.getfield 194, 3) := dz_180 (bX11_either_7 7 _ rfl) (bX11_either_7 8 _ rfl) (bX11_either_7 9 _ rfl)
theorem dX11_either_122 : decode cX11_either 122 = .ok (.getfield 318, 3) := dz_180 (bX11_either_7 10 _ rfl) (bX11_either_7 11 _ rfl) (bX11_either_7 12 _ rfl)
theorem dX11_either_125 : decode cX11_either 125 = .ok (.iload_n 2, 1) := dz_28 (bX11_either_7 13 _ rfl)
theorem dX11_either_126 : decode cX11_either 126 = .ok (.aload_n 0, 1) := dz_42 (bX11_either_7 14 _ rfl)
theorem dX11_either_127 : decode cX11_either 127 = .ok (.getfield 194, 3) := dz_180 (bX11_either_7 15 _ rfl) (bX11_either_8 0 _ rfl) (bX11_either_8 1 _ rfl)
theorem dX11_either_130 : decode cX11_either 130 = .ok (.getfield 173, 3) := dz_180 (bX11_either_8 2 _ rfl) (bX11_either_8 3 _ rfl) (bX11_either_8 4 _ rfl)
theorem dX11_either_133 : decode cX11_either 133 = .ok (.iastore, 1) := dz_79 (bX11_either_8 5 _ rfl)
theorem dX11_either_134 : decode cX11_either 134 = .ok (.aload_n 0, 1) := dz_42 (bX11_either_8 6 _ rfl)
theorem dX11_either_135 : decode cX11_either 135 = .ok (.invokevirtual 308, 3) := dz_182 (bX11_either_8 7 _ rfl) (bX11_either_8 8 _ rfl) (bX11_either_8 9 _ rfl)
theorem dX11_either_138 : decode cX11_either 138 = .ok (.astore 6, 2) := dz_58 (bX11_either_8 10 _ rfl) (bX11_either_8 11 _ rfl)
theorem dX11_either_140 : decode cX11_either 140 = .ok (.aload_n 0, 1) := dz_42 (bX11_either_8 12 _ rfl)
theorem dX11_either_141 : decode cX11_either 141 = .ok (.getfield 204, 3) := dz_180 (bX11_either_8 13 _ rfl) (bX11_either_8 14 _ rfl) (bX11_either_8 15 _ rfl)
theorem dX11_either_144 : decode cX11_either 144 = .ok (.istore 7, 2) := dz_54 (bX11_either_9 0 _ rfl) (bX11_either_9 1 _ rfl)
theorem dX11_either_146 : decode cX11_either 146 = .ok (.aload_n 3, 1) := dz_45 (bX11_either_9 2 _ rfl)
theorem dX11_either_147 : decode cX11_either 147 = .ok (.iconst 0, 1) := dz_3 (bX11_either_9 3 _ rfl)
theorem dX11_either_148 : decode cX11_either 148 = .ok (.aload_n 0, 1) := dz_42 (bX11_either_9 4 _ rfl)
theorem dX11_either_149 : decode cX11_either 149 = .ok (.getfield 28, 3) := dz_180 (bX11_either_9 5 _ rfl) (bX11_either_9 6 _ rfl) (bX11_either_9 7 _ rfl)
theorem dX11_either_152 : decode cX11_either 152 = .ok (.iconst 0, 1) := dz_3 (bX11_either_9 8 _ rfl)
theorem dX11_either_153 : decode cX11_either 153 = .ok (.aload_n 3, 1) := dz_45 (bX11_either_9 9 _ rfl)
theorem dX11_either_154 : decode cX11_either 154 = .ok (.arraylength, 1) := dz_190 (bX11_either_9 10 _ rfl)
theorem dX11_either_155 : decode cX11_either 155 = .ok (.invokestatic 222, 3) := dz_184 (bX11_either_9 11 _ rfl) (bX11_either_9 12 _ rfl) (bX11_either_9 13 _ rfl)
theorem dX11_either_158 : decode cX11_either 158 = .ok (.aload_n 0, 1) := dz_42 (bX11_either_9 14 _ rfl)
theorem dX11_either_159 : decode cX11_either 159 = .ok (.iload 4, 2) := dz_21 (bX11_either_9 15 _ rfl) (bX11_either_10 0 _ rfl)
theorem dX11_either_161 : decode cX11_either 161 = .ok (.putfield 204, 3) := dz_181 (bX11_either_10 1 _ rfl) (bX11_either_10 2 _ rfl) (bX11_either_10 3 _ rfl)
theorem dX11_either_164 : decode cX11_either 164 = .ok (.aload_n 0, 1) := dz_42 (bX11_either_10 4 _ rfl)
theorem dX11_either_165 : decode cX11_either 165 = .ok (.aload_n 1, 1) := dz_43 (bX11_either_10 5 _ rfl)
theorem dX11_either_166 : decode cX11_either 166 = .ok (.getfield 315, 3) := dz_180 (bX11_either_10 6 _ rfl) (bX11_either_10 7 _ rfl) (bX11_either_10 8 _ rfl)
theorem dX11_either_169 : decode cX11_either 169 = .ok (.invokevirtual 215, 3) := dz_182 (bX11_either_10 9 _ rfl) (bX11_either_10 10 _ rfl) (bX11_either_10 11 _ rfl)
theorem dX11_either_172 : decode cX11_either 172 = .ok (.aload_n 0, 1) := dz_42 (bX11_either_10 12 _ rfl)
theorem dX11_either_173 : decode cX11_either 173 = .ok (.getfield 194, 3) := dz_180 (bX11_either_10 13 _ rfl) (bX11_either_10 14 _ rfl) (bX11_either_10 15 _ rfl)
theorem dX11_either_176 : decode cX11_either 176 = .ok (.getfield 318, 3) := dz_180 (bX11_either_11 0 _ rfl) (bX11_either_11 1 _ rfl) (bX11_either_11 2 _ rfl)
theorem dX11_either_179 : decode cX11_either 179 = .ok (.iload 5, 2) := dz_21 (bX11_either_11 3 _ rfl) (bX11_either_11 4 _ rfl)
theorem dX11_either_181 : decode cX11_either 181 = .ok (.aload_n 0, 1) := dz_42 (bX11_either_11 5 _ rfl)
theorem dX11_either_182 : decode cX11_either 182 = .ok (.getfield 194, 3) := dz_180 (bX11_either_11 6 _ rfl) (bX11_either_11 7 _ rfl) (bX11_either_11 8 _ rfl)
theorem dX11_either_185 : decode cX11_either 185 = .ok (.getfield 173, 3) := dz_180 (bX11_either_11 9 _ rfl) (bX11_either_11 10 _ rfl) (bX11_either_11 11 _ rfl)
theorem dX11_either_188 : decode cX11_either 188 = .ok (.iastore, 1) := dz_79 (bX11_either_11 12 _ rfl)
theorem dX11_either_189 : decode cX11_either 189 = .ok (.aload_n 0, 1) := dz_42 (bX11_either_11 13 _ rfl)
theorem dX11_either_190 : decode cX11_either 190 = .ok (.aload 6, 2) := dz_25 (bX11_either_11 14 _ rfl) (bX11_either_11 15 _ rfl)
theorem dX11_either_192 : decode cX11_either 192 = .ok (.iload 7, 2) := dz_21 (bX11_either_12 0 _ rfl) (bX11_either_12 1 _ rfl)
theorem dX11_either_194 : decode cX11_either 194 = .ok (.invokevirtual 322, 3) := dz_182 (bX11_either_12 2 _ rfl) (bX11_either_12 3 _ rfl) (bX11_either_12 4 _ rfl)
theorem dX11_either_197 : decode cX11_either 197 = .ok (.return_, 1) := dz_177 (bX11_either_12 5 _ rfl)
def c_X11_either_19 (rc : Nat → Nat → (Option Nat) → ch_W → Option (Except Nat Unit × ch_W)) (g : State) (t0 : Nat) (x1 : Option Nat) (y0 : Int32) (y1 : Nat) (w : ch_W) : Option (Except Nat Unit × ch_W) := (ch_rc w (some y1) 12).bind fun _ => ch_tb (c_X11_must_2 g y1 y0 w) (fun a w => (.error a, w)) fun _ w3 => (ch_rc w3 (some t0) 12).bind fun _ => (c_X11_add t0 23 0 w3).bind fun p5 => (ch_gR p5 (some t0) 12 fX11_code).bind fun v7 => (ch_gI p5 v7 9 fX8_size).bind fun v8 => (ch_rc p5 (some t0) 12).bind fun _ => (c_X11_held t0 p5).bind fun p10 => (ch_gI p10.2 (some t0) 12 fX11_isDead).bind fun v12 => (ch_gR p10.2 x1 10 fX9_first).bind fun v13 => (ch_rc p10.2 (some t0) 12).bind fun _ => ch_tb (rc 0 t0 v13 p10.2) (fun a w => (.error a, w)) fun _ w16 => (ch_gR w16 x1 10 fX9_second).bind fun v17 => if v17 = none then ((ch_gR w16 (some t0) 12 fX11_code).bind fun v48 => (ch_gR w16 v48 9 fX8_all).bind fun v49 => (ch_gR w16 (some t0) 12 fX11_code).bind fun v50 => (ch_gI w16 v50 9 fX8_size).bind fun v51 => (ch_wI w16 v49 21 (v8 - 1) v51).bind fun w52 => (ch_gR w52 (some t0) 12 fX11_set).bind fun v53 => (ch_le w52 p10.1 23).bind fun v54 => (ch_cp w52 23 p10.1 0 v53 0 v54).bind fun w55 => (ch_bit v12).bind fun _ => (ch_pI w55 (some t0) 12 fX11_isDead v12).bind fun w56 => some ((.ok (), w56))) else ((ch_rc w16 (some t0) 12).bind fun _ => (c_X11_add t0 28 0 w16).bind fun p19 => (ch_gR p19 (some t0) 12 fX11_code).bind fun v21 => (ch_gI p19 v21 9 fX8_size).bind fun v22 => (ch_gR p19 (some t0) 12 fX11_code).bind fun v23 => (ch_gR p19 v23 9 fX8_all).bind fun v24 => (ch_gR p19 (some t0) 12 fX11_code).bind fun v25 => (ch_gI p19 v25 9 fX8_size).bind fun v26 => (ch_wI p19 v24 21 (v8 - 1) v26).bind fun w27 => (ch_rc w27 (some t0) 12).bind fun _ => (c_X11_held t0 w27).bind fun p29 => (ch_gI p29.2 (some t0) 12 fX11_isDead).bind fun v31 => (ch_gR p29.2 (some t0) 12 fX11_set).bind fun v32 => (ch_le p29.2 p10.1 23).bind fun v33 => (ch_cp p29.2 23 p10.1 0 v32 0 v33).bind fun w34 => (ch_bit v12).bind fun _ => (ch_pI w34 (some t0) 12 fX11_isDead v12).bind fun w35 => (ch_gR w35 x1 10 fX9_second).bind fun v36 => (ch_rc w35 (some t0) 12).bind fun _ => ch_tb (rc 0 t0 v36 w35) (fun a w => (.error a, w)) fun _ w39 => (ch_gR w39 (some t0) 12 fX11_code).bind fun v40 => (ch_gR w39 v40 9 fX8_all).bind fun v41 => (ch_gR w39 (some t0) 12 fX11_code).bind fun v42 => (ch_gI w39 v42 9 fX8_size).bind fun v43 => (ch_wI w39 v41 21 (v22 - 1) v43).bind fun w44 => (ch_rc w44 (some t0) 12).bind fun _ => (c_X11_join t0 p29.1 v31 w44).bind fun p46 => some ((.ok (), p46)))
theorem s_X11_either_19 {g : State} {d : Nat} {rc : Nat → Nat → (Option Nat) → ch_W → Option (Except Nat Unit × ch_W)} (hr0 : ∀ {t0 : Nat} {z0 : Option Nat} {w : ch_W} {p : Except Nat Unit × ch_W} {Q : Outcome → ch_W → Prop}, rc 0 t0 z0 w = some p → ch_xV Q p → ch_CT g true yX11_block (d + 712) [.ref t0, va_rf z0] (w) Q)  {t0 : Nat} {x1 : Option Nat} {y0 : Int32} {y1 : Nat} {w : ch_W} {res : Except Nat Unit × ch_W} {Q : Outcome → ch_W → Prop} (h : c_X11_either_19 rc g t0 x1 y0 y1 w = some res) (hk : (ch_xV Q) res) : ch_FT g true mX11_either (d + 713) 19 [some (va_rf (some t0)), some (va_rf x1), none, none, none, none, none, none] [.int y0, va_rf (some y1)] (w) Q := by
  unfold c_X11_either_19 at h
  obtain ⟨_, hb1, h⟩ := ch_bd h
  refine ch_iv yX11_must_2 prog_2_method_3_code 2 none (ci := 11) (q := (RX11, TX11, 14)) (b := y1) (d' := 8) (av := [.int y0]) (rest := []) rfl dX11_either_19 q1202 q1204 rfl qs47 q1205 can_X11_must_2 (Nat.le_trans (Nat.le_of_ble_eq_true rfl) (Nat.le_add_left 713 d)) (Nat.le_of_ble_eq_true rfl) (ch_rts hb1) (cp_tV h (fun p hp Q' hq => s_X11_must_2 hp hq) (fun w3 h => ?_) (fun a w1 h => ?_))
  · obtain ⟨_, hb4, h⟩ := ch_bd h
    obtain ⟨p5, hp6, h⟩ := ch_bd h
    refine ch_aload_n 0 (some t0) dX11_either_22 rfl (ch_bipush _ 23 dX11_either_23 rfl (ch_iconst _ 0 dX11_either_25 rfl (ch_iv yX11_add prog_2_method_14_code 3 none (ci := 11) (q := (RX11, TX11, 14)) (b := t0) (d' := 3) (av := [.int 23, .int 0]) (rest := []) rfl dX11_either_26 q1214 q1216 rfl qs50 q1217 can_X11_add (Nat.le_trans (Nat.le_of_ble_eq_true rfl) (Nat.le_add_left 713 d)) (Nat.le_of_ble_eq_true rfl) (ch_rts hb4) (cp_kV (w1 := p5) (fun Q' hq => s_X11_add hp6 hq) ?_))))
    refine ch_aload_n 0 (some t0) dX11_either_29 rfl (cp_gR (ci := 11) (k := 5) dX11_either_30 fl_X11_194 rfl h (fun v7 h => ?_))
    refine cp_gI (ci := 8) (k := 1) dX11_either_33 fl_X11_173 rfl h (fun v8 h => ?_)
    obtain ⟨_, hb9, h⟩ := ch_bd h
    obtain ⟨p10, hp11, h⟩ := ch_bd h
    refine ch_iconst _ 1 dX11_either_36 rfl (ch_isub _ _ dX11_either_37 (ch_istore_n 2 _ (ls1 := [some (va_rf (some t0)), some (va_rf x1), some (.int (v8 - 1)), none, none, none, none, none]) dX11_either_38 (Nat.le_of_ble_eq_true rfl) (ch_s1o rfl rfl) (ch_aload_n 0 (some t0) dX11_either_39 rfl (ch_iv yX11_held prog_2_method_23_code 2 (some (.array .boolean)) (ci := 11) (q := (RX11, TX11, 14)) (b := t0) (d' := 2) (av := []) (rest := []) rfl dX11_either_40 q1271 q1273 rfl qs60 q1274 can_X11_held (Nat.le_trans (Nat.le_of_ble_eq_true rfl) (Nat.le_add_left 713 d)) (Nat.le_of_ble_eq_true rfl) (ch_rts hb9) (cp_kR (v := p10.1) (w1 := p10.2) (fun Q' hq => s_X11_held hp11 hq) ?_)))))
    refine ch_astore_n 3 p10.1 (ls1 := [some (va_rf (some t0)), some (va_rf x1), some (.int (v8 - 1)), some (va_rf p10.1), none, none, none, none]) dX11_either_43 (Nat.le_of_ble_eq_true rfl) rfl (ch_aload_n 0 (some t0) dX11_either_44 rfl (cp_gI (ci := 11) (k := 10) dX11_either_45 fl_X11_204 rfl h (fun v12 h => ?_)))
    refine ch_istore 4 _ (ls1 := [some (va_rf (some t0)), some (va_rf x1), some (.int (v8 - 1)), some (va_rf p10.1), some (.int v12), none, none, none]) dX11_either_48 (Nat.le_of_ble_eq_true rfl) (ch_s1o rfl rfl) (ch_aload_n 0 (some t0) dX11_either_50 rfl (ch_aload_n 1 x1 dX11_either_51 rfl (cp_gR (ci := 9) (k := 6) dX11_either_52 fl_X11_312 rfl h (fun v13 h => ?_))))
    obtain ⟨_, hb14, h⟩ := ch_bd h
    refine ch_iv yX11_block prog_2_method_17_code 4 none (ci := 11) (q := (RX11, TX11, 14)) (b := t0) (d' := (d + 712)) (av := [va_rf v13]) (rest := []) rfl dX11_either_55 q1185 q1187 rfl qs44 q1188 can_X11_block (Nat.le_refl _) (Nat.le_of_ble_eq_true rfl) (ch_rts hb14) (cp_tV h (fun p hp Q' hq => hr0 hp hq) (fun w16 h => ?_) (fun a w1 h => ?_))
    · refine ch_aload_n 1 x1 dX11_either_58 rfl (cp_gR (ci := 9) (k := 7) dX11_either_59 fl_X11_315 rfl h (fun v17 h => ?_))
      refine cp_ifnonnull v17 (tgt := 100) dX11_either_62 rfl h (fun h => ?_) (fun h => ?_)
      · obtain ⟨_, hb18, h⟩ := ch_bd h
        obtain ⟨p19, hp20, h⟩ := ch_bd h
        refine ch_aload_n 0 (some t0) dX11_either_100 rfl (ch_bipush _ 28 dX11_either_101 rfl (ch_iconst _ 0 dX11_either_103 rfl (ch_iv yX11_add prog_2_method_14_code 3 none (ci := 11) (q := (RX11, TX11, 14)) (b := t0) (d' := 3) (av := [.int 28, .int 0]) (rest := []) rfl dX11_either_104 q1214 q1216 rfl qs50 q1217 can_X11_add (Nat.le_trans (Nat.le_of_ble_eq_true rfl) (Nat.le_add_left 713 d)) (Nat.le_of_ble_eq_true rfl) (ch_rts hb18) (cp_kV (w1 := p19) (fun Q' hq => s_X11_add hp20 hq) ?_))))
        refine ch_aload_n 0 (some t0) dX11_either_107 rfl (cp_gR (ci := 11) (k := 5) dX11_either_108 fl_X11_194 rfl h (fun v21 h => ?_))
        refine cp_gI (ci := 8) (k := 1) dX11_either_111 fl_X11_173 rfl h (fun v22 h => ?_)
        refine ch_iconst _ 1 dX11_either_114 rfl (ch_isub _ _ dX11_either_115 (ch_istore 5 _ (ls1 := [some (va_rf (some t0)), some (va_rf x1), some (.int (v8 - 1)), some (va_rf p10.1), some (.int v12), some (.int (v22 - 1)), none, none]) dX11_either_116 (Nat.le_of_ble_eq_true rfl) rfl (ch_aload_n 0 (some t0) dX11_either_118 rfl (cp_gR (ci := 11) (k := 5) dX11_either_119 fl_X11_194 rfl h (fun v23 h => ?_)))))
        refine cp_gR (ci := 8) (k := 0) dX11_either_122 fl_X11_318 rfl h (fun v24 h => ?_)
        refine ch_iload_n 2 _ dX11_either_125 rfl (ch_aload_n 0 (some t0) dX11_either_126 rfl (cp_gR (ci := 11) (k := 5) dX11_either_127 fl_X11_194 rfl h (fun v25 h => ?_)))
        refine cp_gI (ci := 8) (k := 1) dX11_either_130 fl_X11_173 rfl h (fun v26 h => ?_)
        refine cp_iast (t := 21) dX11_either_133 rfl (Nat.le_of_ble_eq_true rfl) rfl h (fun w27 h => ?_)
        obtain ⟨_, hb28, h⟩ := ch_bd h
        obtain ⟨p29, hp30, h⟩ := ch_bd h
        refine ch_aload_n 0 (some t0) dX11_either_134 rfl (ch_iv yX11_held prog_2_method_23_code 2 (some (.array .boolean)) (ci := 11) (q := (RX11, TX11, 14)) (b := t0) (d' := 2) (av := []) (rest := []) rfl dX11_either_135 q1271 q1273 rfl qs60 q1274 can_X11_held (Nat.le_trans (Nat.le_of_ble_eq_true rfl) (Nat.le_add_left 713 d)) (Nat.le_of_ble_eq_true rfl) (ch_rts hb28) (cp_kR (v := p29.1) (w1 := p29.2) (fun Q' hq => s_X11_held hp30 hq) ?_))
        refine ch_astore 6 p29.1 (ls1 := [some (va_rf (some t0)), some (va_rf x1), some (.int (v8 - 1)), some (va_rf p10.1), some (.int v12), some (.int (v22 - 1)), some (va_rf p29.1), none]) dX11_either_138 (Nat.le_of_ble_eq_true rfl) rfl (ch_aload_n 0 (some t0) dX11_either_140 rfl (cp_gI (ci := 11) (k := 10) dX11_either_141 fl_X11_204 rfl h (fun v31 h => ?_)))
        refine ch_istore 7 _ (ls1 := [some (va_rf (some t0)), some (va_rf x1), some (.int (v8 - 1)), some (va_rf p10.1), some (.int v12), some (.int (v22 - 1)), some (va_rf p29.1), some (.int v31)]) dX11_either_144 (Nat.le_of_ble_eq_true rfl) (ch_s1o rfl rfl) (ch_aload_n 3 p10.1 dX11_either_146 rfl (ch_iconst _ 0 dX11_either_147 rfl (ch_aload_n 0 (some t0) dX11_either_148 rfl (cp_gR (ci := 11) (k := 9) dX11_either_149 fl_X11_28 rfl h (fun v32 h => ?_)))))
        refine ch_iconst _ 0 dX11_either_152 rfl (ch_aload_n 3 p10.1 dX11_either_153 rfl (cp_alen (t := 23) dX11_either_154 rfl rfl h (fun v33 h => ?_)))
        refine cp_copy (t := 23) dX11_either_155 rfl (Nat.le_of_ble_eq_true rfl) ft_23 rfl rfl q1183 (Nat.le_trans (Nat.le_of_ble_eq_true rfl) (Nat.le_add_left 713 d)) (Nat.le_of_ble_eq_true rfl) h (fun w34 h => ?_)
        refine ch_aload_n 0 (some t0) dX11_either_158 rfl (ch_iload 4 _ dX11_either_159 rfl (cp_pZ (ci := 11) (k := 10) dX11_either_161 fl_X11_204 rfl rfl rfl h (fun w35 h => ?_)))
        refine ch_aload_n 0 (some t0) dX11_either_164 rfl (ch_aload_n 1 x1 dX11_either_165 rfl (cp_gR (ci := 9) (k := 7) dX11_either_166 fl_X11_315 rfl h (fun v36 h => ?_)))
        obtain ⟨_, hb37, h⟩ := ch_bd h
        refine ch_iv yX11_block prog_2_method_17_code 4 none (ci := 11) (q := (RX11, TX11, 14)) (b := t0) (d' := (d + 712)) (av := [va_rf v36]) (rest := []) rfl dX11_either_169 q1185 q1187 rfl qs44 q1188 can_X11_block (Nat.le_refl _) (Nat.le_of_ble_eq_true rfl) (ch_rts hb37) (cp_tV h (fun p hp Q' hq => hr0 hp hq) (fun w39 h => ?_) (fun a w1 h => ?_))
        · refine ch_aload_n 0 (some t0) dX11_either_172 rfl (cp_gR (ci := 11) (k := 5) dX11_either_173 fl_X11_194 rfl h (fun v40 h => ?_))
          refine cp_gR (ci := 8) (k := 0) dX11_either_176 fl_X11_318 rfl h (fun v41 h => ?_)
          refine ch_iload 5 _ dX11_either_179 rfl (ch_aload_n 0 (some t0) dX11_either_181 rfl (cp_gR (ci := 11) (k := 5) dX11_either_182 fl_X11_194 rfl h (fun v42 h => ?_)))
          refine cp_gI (ci := 8) (k := 1) dX11_either_185 fl_X11_173 rfl h (fun v43 h => ?_)
          refine cp_iast (t := 21) dX11_either_188 rfl (Nat.le_of_ble_eq_true rfl) rfl h (fun w44 h => ?_)
          obtain ⟨_, hb45, h⟩ := ch_bd h
          obtain ⟨p46, hp47, h⟩ := ch_bd h
          refine ch_aload_n 0 (some t0) dX11_either_189 rfl (ch_aload 6 p29.1 dX11_either_190 rfl (ch_iload 7 _ dX11_either_192 rfl (ch_iv yX11_join prog_2_method_24_code 4 none (ci := 11) (q := (RX11, TX11, 14)) (b := t0) (d' := 2) (av := [va_rf p29.1, .int v31]) (rest := []) rfl dX11_either_194 q1275 q1277 rfl qs61 q1278 can_X11_join (Nat.le_trans (Nat.le_of_ble_eq_true rfl) (Nat.le_add_left 713 d)) (Nat.le_of_ble_eq_true rfl) (ch_rts hb45) (cp_kV (w1 := p46) (fun Q' hq => s_X11_join hp47 hq) ?_))))
          obtain rfl := Option.some.inj h
          exact ch_return dX11_either_197 rfl hk
        · subst h
          exact ch_th rfl hk
      · refine ch_aload_n 0 (some t0) dX11_either_65 rfl (cp_gR (ci := 11) (k := 5) dX11_either_66 fl_X11_194 rfl h (fun v48 h => ?_))
        refine cp_gR (ci := 8) (k := 0) dX11_either_69 fl_X11_318 rfl h (fun v49 h => ?_)
        refine ch_iload_n 2 _ dX11_either_72 rfl (ch_aload_n 0 (some t0) dX11_either_73 rfl (cp_gR (ci := 11) (k := 5) dX11_either_74 fl_X11_194 rfl h (fun v50 h => ?_)))
        refine cp_gI (ci := 8) (k := 1) dX11_either_77 fl_X11_173 rfl h (fun v51 h => ?_)
        refine cp_iast (t := 21) dX11_either_80 rfl (Nat.le_of_ble_eq_true rfl) rfl h (fun w52 h => ?_)
        refine ch_aload_n 3 p10.1 dX11_either_81 rfl (ch_iconst _ 0 dX11_either_82 rfl (ch_aload_n 0 (some t0) dX11_either_83 rfl (cp_gR (ci := 11) (k := 9) dX11_either_84 fl_X11_28 rfl h (fun v53 h => ?_))))
        refine ch_iconst _ 0 dX11_either_87 rfl (ch_aload_n 3 p10.1 dX11_either_88 rfl (cp_alen (t := 23) dX11_either_89 rfl rfl h (fun v54 h => ?_)))
        refine cp_copy (t := 23) dX11_either_90 rfl (Nat.le_of_ble_eq_true rfl) ft_23 rfl rfl q1183 (Nat.le_trans (Nat.le_of_ble_eq_true rfl) (Nat.le_add_left 713 d)) (Nat.le_of_ble_eq_true rfl) h (fun w55 h => ?_)
        refine ch_aload_n 0 (some t0) dX11_either_93 rfl (ch_iload 4 _ dX11_either_94 rfl (cp_pZ (ci := 11) (k := 10) dX11_either_96 fl_X11_204 rfl rfl rfl h (fun w56 h => ?_)))
        obtain rfl := Option.some.inj h
        exact ch_return dX11_either_99 rfl hk
    · subst h
      exact ch_th rfl hk
  · subst h
    exact ch_th rfl hk

def c_X11_either (rc : Nat → Nat → (Option Nat) → ch_W → Option (Except Nat Unit × ch_W)) (g : State) (t0 : Nat) (x1 : Option Nat) (w : ch_W) : Option (Except Nat Unit × ch_W) := (ch_gR w x1 10 fX9_value).bind fun v1 => (ch_rc w (some t0) 12).bind fun _ => ch_tb (cr_CE g 700 0 t0 v1 none 0 w) (fun a w => (.error a, w)) fun v3 w4 => if v3 = (-2) then (c_X11_either_19 rc g t0 x1 1 t0 w4) else (c_X11_either_19 rc g t0 x1 0 t0 w4)
theorem s_X11_either {g : State} {d : Nat} {rc : Nat → Nat → (Option Nat) → ch_W → Option (Except Nat Unit × ch_W)} (hr0 : ∀ {t0 : Nat} {z0 : Option Nat} {w : ch_W} {p : Except Nat Unit × ch_W} {Q : Outcome → ch_W → Prop}, rc 0 t0 z0 w = some p → ch_xV Q p → ch_CT g true yX11_block (d + 712) [.ref t0, va_rf z0] (w) Q)  {t0 : Nat} {x1 : Option Nat} {w : ch_W} {res : Except Nat Unit × ch_W} {Q : Outcome → ch_W → Prop} (h : c_X11_either rc g t0 x1 w = some res) (hk : (ch_xV Q) res) : ch_CT g true yX11_either (d + 713) [.ref t0, va_rf x1] (w) Q := by
  unfold c_X11_either at h
  refine ch_ctL mX11_either (ls := [some (va_rf (some t0)), some (va_rf x1), none, none, none, none, none, none]) q1270 rfl (ch_lyr (r := some t0) (ch_lyr (r := x1) ch_ly0)) (Nat.le_of_ble_eq_true rfl) rfl ?_
  refine ch_aload_n 0 (some t0) dX11_either_0 rfl (ch_aload_n 0 (some t0) dX11_either_1 rfl (ch_aload_n 1 x1 dX11_either_2 rfl (cp_gR (ci := 9) (k := 5) dX11_either_3 fl_X11_258 rfl h (fun v1 h => ?_))))
  obtain ⟨_, hb2, h⟩ := ch_bd h
  refine ch_iv yX11_value prog_2_method_28_code 5 (some .int) (ci := 11) (q := (RX11, TX11, 14)) (b := t0) (d' := 710) (av := [va_rf v1]) (rest := [va_rf (some t0)]) rfl dX11_either_6 q1206 q1208 rfl qs48 q1209 can_X11_value (Nat.le_trans (Nat.le_of_ble_eq_true rfl) (Nat.le_add_left 713 d)) (ch_hw (Nat.le_of_ble_eq_true rfl)) (ch_rts hb2) (cp_tI h (fun p hp Q' hq => sr_X11_value hp hq) (fun v3 w4 h => ?_) (fun a w1 h => ?_))
  · refine ch_bipush _ (-2) dX11_either_9 rfl (cp_icmp_ne _ _ (tgt := 18) dX11_either_11 rfl h (fun h => ?_) (fun h => ?_))
    · exact ch_iconst _ 0 dX11_either_18 rfl (ch_FT.wk (ch_wS (ch_wS (ch_wN (ch_wN (ch_wN (ch_wN (ch_wN (ch_wN ch_w0)))))))) (s_X11_either_19 hr0 h hk))
    · exact ch_iconst _ 1 dX11_either_14 rfl (ch_goto 19 dX11_either_15 rfl (ch_FT.wk (ch_wS (ch_wS (ch_wN (ch_wN (ch_wN (ch_wN (ch_wN (ch_wN ch_w0)))))))) (s_X11_either_19 hr0 h hk)))
  · subst h
    exact ch_th rfl hk

theorem bX11_loop_0 : ch_ck cX11_loop 0 [42, 180, 0, 194, 180, 0, 173, 61, 42, 42, 43, 180, 1, 2, 182, 1] := ch_ckof (by decide +kernel)
theorem bX11_loop_1 : ch_ck cX11_loop 16 [6, 16, 254, 160, 0, 7, 4, 167, 0, 4, 3, 182, 1, 18, 42, 16] := ch_ckof (by decide +kernel)
theorem bX11_loop_2 : ch_ck cX11_loop 32 [23, 3, 182, 0, 247, 42, 180, 0, 194, 180, 0, 173, 4, 100, 62, 42] := ch_ckof (by decide +kernel)
theorem bX11_loop_3 : ch_ck cX11_loop 48 [182, 1, 52, 58, 4, 42, 180, 0, 204, 54, 5, 42, 43, 180, 1, 56] := ch_ckof (by decide +kernel)
theorem bX11_loop_4 : ch_ck cX11_loop 64 [182, 0, 215, 42, 16, 28, 28, 182, 0, 247, 42, 180, 0, 194, 180, 1] := ch_ckof (by decide +kernel)
theorem bX11_loop_5 : ch_ck cX11_loop 80 [62, 29, 42, 180, 0, 194, 180, 0, 173, 79, 25, 4, 3, 42, 180, 0] := ch_ckof (by decide +kernel)
theorem bX11_loop_6 : ch_ck cX11_loop 96 [28, 3, 25, 4, 190, 184, 0, 222, 42, 21, 5, 181, 0, 204, 177] := ch_ckof (by decide +kernel)
theorem dX11_loop_0 : decode cX11_loop 0 = .ok (.aload_n 0, 1) := dz_42 (bX11_loop_0 0 _ rfl)
theorem dX11_loop_1 : decode cX11_loop 1 = .ok (.getfield 194, 3) := dz_180 (bX11_loop_0 1 _ rfl) (bX11_loop_0 2 _ rfl) (bX11_loop_0 3 _ rfl)
theorem dX11_loop_4 : decode cX11_loop 4 = .ok (.getfield 173, 3) := dz_180 (bX11_loop_0 4 _ rfl) (bX11_loop_0 5 _ rfl) (bX11_loop_0 6 _ rfl)
theorem dX11_loop_7 : decode cX11_loop 7 = .ok (.istore_n 2, 1) := dz_61 (bX11_loop_0 7 _ rfl)
theorem dX11_loop_8 : decode cX11_loop 8 = .ok (.aload_n 0, 1) := dz_42 (bX11_loop_0 8 _ rfl)
theorem dX11_loop_9 : decode cX11_loop 9 = .ok (.aload_n 0, 1) := dz_42 (bX11_loop_0 9 _ rfl)
theorem dX11_loop_10 : decode cX11_loop 10 = .ok (.aload_n 1, 1) := dz_43 (bX11_loop_0 10 _ rfl)
theorem dX11_loop_11 : decode cX11_loop 11 = .ok (.getfield 258, 3) := dz_180 (bX11_loop_0 11 _ rfl) (bX11_loop_0 12 _ rfl) (bX11_loop_0 13 _ rfl)
theorem dX11_loop_14 : decode cX11_loop 14 = .ok (.invokevirtual 262, 3) := dz_182 (bX11_loop_0 14 _ rfl) (bX11_loop_0 15 _ rfl) (bX11_loop_1 0 _ rfl)
theorem dX11_loop_17 : decode cX11_loop 17 = .ok (.bipush (-2), 2) := dz_16 (bX11_loop_1 1 _ rfl) (bX11_loop_1 2 _ rfl)
theorem dX11_loop_19 : decode cX11_loop 19 = .ok (.if_icmp .ne 7, 3) := dz_160 (bX11_loop_1 3 _ rfl) (bX11_loop_1 4 _ rfl) (bX11_loop_1 5 _ rfl)
theorem dX11_loop_22 : decode cX11_loop 22 = .ok (.iconst 1, 1) := dz_4 (bX11_loop_1 6 _ rfl)
theorem dX11_loop_23 : decode cX11_loop 23 = .ok (.goto 4, 3) := dz_167 (bX11_loop_1 7 _ rfl) (bX11_loop_1 8 _ rfl) (bX11_loop_1 9 _ rfl)
theorem dX11_loop_26 : decode cX11_loop 26 = .ok (.iconst 0, 1) := dz_3 (bX11_loop_1 10 _ rfl)
theorem dX11_loop_27 : decode cX11_loop 27 = .ok (.invokevirtual 274, 3) := dz_182 (bX11_loop_1 11 _ rfl) (bX11_loop_1 12 _ rfl) (bX11_loop_1 13 _ rfl)
theorem dX11_loop_30 : decode cX11_loop 30 = .ok (.aload_n 0, 1) := dz_42 (bX11_loop_1 14 _ rfl)
theorem dX11_loop_31 : decode cX11_loop 31 = .ok (.bipush 23, 2) := dz_16 (bX11_loop_1 15 _ rfl) (bX11_loop_2 0 _ rfl)
theorem dX11_loop_33 : decode cX11_loop 33 = .ok (.iconst 0, 1) := dz_3 (bX11_loop_2 1 _ rfl)
theorem dX11_loop_34 : decode cX11_loop 34 = .ok (.invokevirtual 247, 3) := dz_182 (bX11_loop_2 2 _ rfl) (bX11_loop_2 3 _ rfl) (bX11_loop_2 4 _ rfl)
theorem dX11_loop_37 : decode cX11_loop 37 = .ok (.aload_n 0, 1) := dz_42 (bX11_loop_2 5 _ rfl)
theorem dX11_loop_38 : decode cX11_loop 38 = .ok (.getfield 194, 3) := dz_180 (bX11_loop_2 6 _ rfl) (bX11_loop_2 7 _ rfl) (bX11_loop_2 8 _ rfl)
theorem dX11_loop_41 : decode cX11_loop 41 = .ok (.getfield 173, 3) := dz_180 (bX11_loop_2 9 _ rfl) (bX11_loop_2 10 _ rfl) (bX11_loop_2 11 _ rfl)
theorem dX11_loop_44 : decode cX11_loop 44 = .ok (.iconst 1, 1) := dz_4 (bX11_loop_2 12 _ rfl)
theorem dX11_loop_45 : decode cX11_loop 45 = .ok (.isub, 1) := dz_100 (bX11_loop_2 13 _ rfl)
theorem dX11_loop_46 : decode cX11_loop 46 = .ok (.istore_n 3, 1) := dz_62 (bX11_loop_2 14 _ rfl)
theorem dX11_loop_47 : decode cX11_loop 47 = .ok (.aload_n 0, 1) := dz_42 (bX11_loop_2 15 _ rfl)
theorem dX11_loop_48 : decode cX11_loop 48 = .ok (.invokevirtual 308, 3) := dz_182 (bX11_loop_3 0 _ rfl) (bX11_loop_3 1 _ rfl) (bX11_loop_3 2 _ rfl)
theorem dX11_loop_51 : decode cX11_loop 51 = .ok (.astore 4, 2) := dz_58 (bX11_loop_3 3 _ rfl) (bX11_loop_3 4 _ rfl)
theorem dX11_loop_53 : decode cX11_loop 53 = .ok (.aload_n 0, 1) := dz_42 (bX11_loop_3 5 _ rfl)
theorem dX11_loop_54 : decode cX11_loop 54 = .ok (.getfield 204, 3) := dz_180 (bX11_loop_3 6 _ rfl) (bX11_loop_3 7 _ rfl) (bX11_loop_3 8 _ rfl)
theorem dX11_loop_57 : decode cX11_loop 57 = .ok (.istore 5, 2) := dz_54 (bX11_loop_3 9 _ rfl) (bX11_loop_3 10 _ rfl)
theorem dX11_loop_59 : decode cX11_loop 59 = .ok (.aload_n 0, 1) := dz_42 (bX11_loop_3 11 _ rfl)
theorem dX11_loop_60 : decode cX11_loop 60 = .ok (.aload_n 1, 1) := dz_43 (bX11_loop_3 12 _ rfl)
theorem dX11_loop_61 : decode cX11_loop 61 = .ok (.getfield 312, 3) := dz_180 (bX11_loop_3 13 _ rfl) (bX11_loop_3 14 _ rfl) (bX11_loop_3 15 _ rfl)
theorem dX11_loop_64 : decode cX11_loop 64 = .ok (.invokevirtual 215, 3) := dz_182 (bX11_loop_4 0 _ rfl) (bX11_loop_4 1 _ rfl) (bX11_loop_4 2 _ rfl)
theorem dX11_loop_67 : decode cX11_loop 67 = .ok (.aload_n 0, 1) := dz_42 (bX11_loop_4 3 _ rfl)
theorem dX11_loop_68 : decode cX11_loop 68 = .ok (.bipush 28, 2) := dz_16 (bX11_loop_4 4 _ rfl) (bX11_loop_4 5 _ rfl)
theorem dX11_loop_70 : decode cX11_loop 70 = .ok (.iload_n 2, 1) := dz_28 (bX11_loop_4 6 _ rfl)
theorem dX11_loop_71 : decode cX11_loop 71 = .ok (.invokevirtual 247, 3) := dz_182 (bX11_loop_4 7 _ rfl) (bX11_loop_4 8 _ rfl) (bX11_loop_4 9 _ rfl)
theorem dX11_loop_74 : decode cX11_loop 74 = .ok (.aload_n 0, 1) := dz_42 (bX11_loop_4 10 _ rfl)
theorem dX11_loop_75 : decode cX11_loop 75 = .ok (.getfield 194, 3) := dz_180 (bX11_loop_4 11 _ rfl) (bX11_loop_4 12 _ rfl) (bX11_loop_4 13 _ rfl)
theorem dX11_loop_78 : decode cX11_loop 78 = .ok (.getfield 318, 3) := dz_180 (bX11_loop_4 14 _ rfl) (bX11_loop_4 15 _ rfl) (bX11_loop_5 0 _ rfl)
theorem dX11_loop_81 : decode cX11_loop 81 = .ok (.iload_n 3, 1) := dz_29 (bX11_loop_5 1 _ rfl)
theorem dX11_loop_82 : decode cX11_loop 82 = .ok (.aload_n 0, 1) := dz_42 (bX11_loop_5 2 _ rfl)
theorem dX11_loop_83 : decode cX11_loop 83 = .ok (.getfield 194, 3) := dz_180 (bX11_loop_5 3 _ rfl) (bX11_loop_5 4 _ rfl) (bX11_loop_5 5 _ rfl)
theorem dX11_loop_86 : decode cX11_loop 86 = .ok (.getfield 173, 3) := dz_180 (bX11_loop_5 6 _ rfl) (bX11_loop_5 7 _ rfl) (bX11_loop_5 8 _ rfl)
theorem dX11_loop_89 : decode cX11_loop 89 = .ok (.iastore, 1) := dz_79 (bX11_loop_5 9 _ rfl)
theorem dX11_loop_90 : decode cX11_loop 90 = .ok (.aload 4, 2) := dz_25 (bX11_loop_5 10 _ rfl) (bX11_loop_5 11 _ rfl)
theorem dX11_loop_92 : decode cX11_loop 92 = .ok (.iconst 0, 1) := dz_3 (bX11_loop_5 12 _ rfl)
theorem dX11_loop_93 : decode cX11_loop 93 = .ok (.aload_n 0, 1) := dz_42 (bX11_loop_5 13 _ rfl)
theorem dX11_loop_94 : decode cX11_loop 94 = .ok (.getfield 28, 3) := dz_180 (bX11_loop_5 14 _ rfl) (bX11_loop_5 15 _ rfl) (bX11_loop_6 0 _ rfl)
theorem dX11_loop_97 : decode cX11_loop 97 = .ok (.iconst 0, 1) := dz_3 (bX11_loop_6 1 _ rfl)
theorem dX11_loop_98 : decode cX11_loop 98 = .ok (.aload 4, 2) := dz_25 (bX11_loop_6 2 _ rfl) (bX11_loop_6 3 _ rfl)
theorem dX11_loop_100 : decode cX11_loop 100 = .ok (.arraylength, 1) := dz_190 (bX11_loop_6 4 _ rfl)
theorem dX11_loop_101 : decode cX11_loop 101 = .ok (.invokestatic 222, 3) := dz_184 (bX11_loop_6 5 _ rfl) (bX11_loop_6 6 _ rfl) (bX11_loop_6 7 _ rfl)
theorem dX11_loop_104 : decode cX11_loop 104 = .ok (.aload_n 0, 1) := dz_42 (bX11_loop_6 8 _ rfl)
theorem dX11_loop_105 : decode cX11_loop 105 = .ok (.iload 5, 2) := dz_21 (bX11_loop_6 9 _ rfl) (bX11_loop_6 10 _ rfl)
theorem dX11_loop_107 : decode cX11_loop 107 = .ok (.putfield 204, 3) := dz_181 (bX11_loop_6 11 _ rfl) (bX11_loop_6 12 _ rfl) (bX11_loop_6 13 _ rfl)
theorem dX11_loop_110 : decode cX11_loop 110 = .ok (.return_, 1) := dz_177 (bX11_loop_6 14 _ rfl)
def c_X11_loop_27 (rc : Nat → Nat → (Option Nat) → ch_W → Option (Except Nat Unit × ch_W)) (g : State) (t0 : Nat) (x1 : Option Nat) (x2 : Int32) (y0 : Int32) (y1 : Nat) (w : ch_W) : Option (Except Nat Unit × ch_W) := (ch_rc w (some y1) 12).bind fun _ => ch_tb (c_X11_must_2 g y1 y0 w) (fun a w => (.error a, w)) fun _ w3 => (ch_rc w3 (some t0) 12).bind fun _ => (c_X11_add t0 23 0 w3).bind fun p5 => (ch_gR p5 (some t0) 12 fX11_code).bind fun v7 => (ch_gI p5 v7 9 fX8_size).bind fun v8 => (ch_rc p5 (some t0) 12).bind fun _ => (c_X11_held t0 p5).bind fun p10 => (ch_gI p10.2 (some t0) 12 fX11_isDead).bind fun v12 => (ch_gR p10.2 x1 10 fX9_first).bind fun v13 => (ch_rc p10.2 (some t0) 12).bind fun _ => ch_tb (rc 0 t0 v13 p10.2) (fun a w => (.error a, w)) fun _ w16 => (ch_rc w16 (some t0) 12).bind fun _ => (c_X11_add t0 28 x2 w16).bind fun p18 => (ch_gR p18 (some t0) 12 fX11_code).bind fun v20 => (ch_gR p18 v20 9 fX8_all).bind fun v21 => (ch_gR p18 (some t0) 12 fX11_code).bind fun v22 => (ch_gI p18 v22 9 fX8_size).bind fun v23 => (ch_wI p18 v21 21 (v8 - 1) v23).bind fun w24 => (ch_gR w24 (some t0) 12 fX11_set).bind fun v25 => (ch_le w24 p10.1 23).bind fun v26 => (ch_cp w24 23 p10.1 0 v25 0 v26).bind fun w27 => (ch_bit v12).bind fun _ => (ch_pI w27 (some t0) 12 fX11_isDead v12).bind fun w28 => some ((.ok (), w28))
theorem s_X11_loop_27 {g : State} {d : Nat} {rc : Nat → Nat → (Option Nat) → ch_W → Option (Except Nat Unit × ch_W)} (hr0 : ∀ {t0 : Nat} {z0 : Option Nat} {w : ch_W} {p : Except Nat Unit × ch_W} {Q : Outcome → ch_W → Prop}, rc 0 t0 z0 w = some p → ch_xV Q p → ch_CT g true yX11_block (d + 712) [.ref t0, va_rf z0] (w) Q)  {t0 : Nat} {x1 : Option Nat} {x2 : Int32} {y0 : Int32} {y1 : Nat} {w : ch_W} {res : Except Nat Unit × ch_W} {Q : Outcome → ch_W → Prop} (h : c_X11_loop_27 rc g t0 x1 x2 y0 y1 w = some res) (hk : (ch_xV Q) res) : ch_FT g true mX11_loop (d + 713) 27 [some (va_rf (some t0)), some (va_rf x1), some (.int x2), none, none, none] [.int y0, va_rf (some y1)] (w) Q := by
  unfold c_X11_loop_27 at h
  obtain ⟨_, hb1, h⟩ := ch_bd h
  refine ch_iv yX11_must_2 prog_2_method_3_code 2 none (ci := 11) (q := (RX11, TX11, 14)) (b := y1) (d' := 8) (av := [.int y0]) (rest := []) rfl dX11_loop_27 q1202 q1204 rfl qs47 q1205 can_X11_must_2 (Nat.le_trans (Nat.le_of_ble_eq_true rfl) (Nat.le_add_left 713 d)) (Nat.le_of_ble_eq_true rfl) (ch_rts hb1) (cp_tV h (fun p hp Q' hq => s_X11_must_2 hp hq) (fun w3 h => ?_) (fun a w1 h => ?_))
  · obtain ⟨_, hb4, h⟩ := ch_bd h
    obtain ⟨p5, hp6, h⟩ := ch_bd h
    refine ch_aload_n 0 (some t0) dX11_loop_30 rfl (ch_bipush _ 23 dX11_loop_31 rfl (ch_iconst _ 0 dX11_loop_33 rfl (ch_iv yX11_add prog_2_method_14_code 3 none (ci := 11) (q := (RX11, TX11, 14)) (b := t0) (d' := 3) (av := [.int 23, .int 0]) (rest := []) rfl dX11_loop_34 q1214 q1216 rfl qs50 q1217 can_X11_add (Nat.le_trans (Nat.le_of_ble_eq_true rfl) (Nat.le_add_left 713 d)) (Nat.le_of_ble_eq_true rfl) (ch_rts hb4) (cp_kV (w1 := p5) (fun Q' hq => s_X11_add hp6 hq) ?_))))
    refine ch_aload_n 0 (some t0) dX11_loop_37 rfl (cp_gR (ci := 11) (k := 5) dX11_loop_38 fl_X11_194 rfl h (fun v7 h => ?_))
    refine cp_gI (ci := 8) (k := 1) dX11_loop_41 fl_X11_173 rfl h (fun v8 h => ?_)
    obtain ⟨_, hb9, h⟩ := ch_bd h
    obtain ⟨p10, hp11, h⟩ := ch_bd h
    refine ch_iconst _ 1 dX11_loop_44 rfl (ch_isub _ _ dX11_loop_45 (ch_istore_n 3 _ (ls1 := [some (va_rf (some t0)), some (va_rf x1), some (.int x2), some (.int (v8 - 1)), none, none]) dX11_loop_46 (Nat.le_of_ble_eq_true rfl) rfl (ch_aload_n 0 (some t0) dX11_loop_47 rfl (ch_iv yX11_held prog_2_method_23_code 2 (some (.array .boolean)) (ci := 11) (q := (RX11, TX11, 14)) (b := t0) (d' := 2) (av := []) (rest := []) rfl dX11_loop_48 q1271 q1273 rfl qs60 q1274 can_X11_held (Nat.le_trans (Nat.le_of_ble_eq_true rfl) (Nat.le_add_left 713 d)) (Nat.le_of_ble_eq_true rfl) (ch_rts hb9) (cp_kR (v := p10.1) (w1 := p10.2) (fun Q' hq => s_X11_held hp11 hq) ?_)))))
    refine ch_astore 4 p10.1 (ls1 := [some (va_rf (some t0)), some (va_rf x1), some (.int x2), some (.int (v8 - 1)), some (va_rf p10.1), none]) dX11_loop_51 (Nat.le_of_ble_eq_true rfl) rfl (ch_aload_n 0 (some t0) dX11_loop_53 rfl (cp_gI (ci := 11) (k := 10) dX11_loop_54 fl_X11_204 rfl h (fun v12 h => ?_)))
    refine ch_istore 5 _ (ls1 := [some (va_rf (some t0)), some (va_rf x1), some (.int x2), some (.int (v8 - 1)), some (va_rf p10.1), some (.int v12)]) dX11_loop_57 (Nat.le_of_ble_eq_true rfl) (ch_s1o rfl rfl) (ch_aload_n 0 (some t0) dX11_loop_59 rfl (ch_aload_n 1 x1 dX11_loop_60 rfl (cp_gR (ci := 9) (k := 6) dX11_loop_61 fl_X11_312 rfl h (fun v13 h => ?_))))
    obtain ⟨_, hb14, h⟩ := ch_bd h
    refine ch_iv yX11_block prog_2_method_17_code 4 none (ci := 11) (q := (RX11, TX11, 14)) (b := t0) (d' := (d + 712)) (av := [va_rf v13]) (rest := []) rfl dX11_loop_64 q1185 q1187 rfl qs44 q1188 can_X11_block (Nat.le_refl _) (Nat.le_of_ble_eq_true rfl) (ch_rts hb14) (cp_tV h (fun p hp Q' hq => hr0 hp hq) (fun w16 h => ?_) (fun a w1 h => ?_))
    · obtain ⟨_, hb17, h⟩ := ch_bd h
      obtain ⟨p18, hp19, h⟩ := ch_bd h
      refine ch_aload_n 0 (some t0) dX11_loop_67 rfl (ch_bipush _ 28 dX11_loop_68 rfl (ch_iload_n 2 _ dX11_loop_70 rfl (ch_iv yX11_add prog_2_method_14_code 3 none (ci := 11) (q := (RX11, TX11, 14)) (b := t0) (d' := 3) (av := [.int 28, .int x2]) (rest := []) rfl dX11_loop_71 q1214 q1216 rfl qs50 q1217 can_X11_add (Nat.le_trans (Nat.le_of_ble_eq_true rfl) (Nat.le_add_left 713 d)) (Nat.le_of_ble_eq_true rfl) (ch_rts hb17) (cp_kV (w1 := p18) (fun Q' hq => s_X11_add hp19 hq) ?_))))
      refine ch_aload_n 0 (some t0) dX11_loop_74 rfl (cp_gR (ci := 11) (k := 5) dX11_loop_75 fl_X11_194 rfl h (fun v20 h => ?_))
      refine cp_gR (ci := 8) (k := 0) dX11_loop_78 fl_X11_318 rfl h (fun v21 h => ?_)
      refine ch_iload_n 3 _ dX11_loop_81 rfl (ch_aload_n 0 (some t0) dX11_loop_82 rfl (cp_gR (ci := 11) (k := 5) dX11_loop_83 fl_X11_194 rfl h (fun v22 h => ?_)))
      refine cp_gI (ci := 8) (k := 1) dX11_loop_86 fl_X11_173 rfl h (fun v23 h => ?_)
      refine cp_iast (t := 21) dX11_loop_89 rfl (Nat.le_of_ble_eq_true rfl) rfl h (fun w24 h => ?_)
      refine ch_aload 4 p10.1 dX11_loop_90 rfl (ch_iconst _ 0 dX11_loop_92 rfl (ch_aload_n 0 (some t0) dX11_loop_93 rfl (cp_gR (ci := 11) (k := 9) dX11_loop_94 fl_X11_28 rfl h (fun v25 h => ?_))))
      refine ch_iconst _ 0 dX11_loop_97 rfl (ch_aload 4 p10.1 dX11_loop_98 rfl (cp_alen (t := 23) dX11_loop_100 rfl rfl h (fun v26 h => ?_)))
      refine cp_copy (t := 23) dX11_loop_101 rfl (Nat.le_of_ble_eq_true rfl) ft_23 rfl rfl q1183 (Nat.le_trans (Nat.le_of_ble_eq_true rfl) (Nat.le_add_left 713 d)) (Nat.le_of_ble_eq_true rfl) h (fun w27 h => ?_)
      refine ch_aload_n 0 (some t0) dX11_loop_104 rfl (ch_iload 5 _ dX11_loop_105 rfl (cp_pZ (ci := 11) (k := 10) dX11_loop_107 fl_X11_204 rfl rfl rfl h (fun w28 h => ?_)))
      obtain rfl := Option.some.inj h
      exact ch_return dX11_loop_110 rfl hk
    · subst h
      exact ch_th rfl hk
  · subst h
    exact ch_th rfl hk

def c_X11_loop (rc : Nat → Nat → (Option Nat) → ch_W → Option (Except Nat Unit × ch_W)) (g : State) (t0 : Nat) (x1 : Option Nat) (w : ch_W) : Option (Except Nat Unit × ch_W) := (ch_gR w (some t0) 12 fX11_code).bind fun v1 => (ch_gI w v1 9 fX8_size).bind fun v2 => (ch_gR w x1 10 fX9_value).bind fun v3 => (ch_rc w (some t0) 12).bind fun _ => ch_tb (cr_CE g 700 0 t0 v3 none 0 w) (fun a w => (.error a, w)) fun v5 w6 => if v5 = (-2) then (c_X11_loop_27 rc g t0 x1 v2 1 t0 w6) else (c_X11_loop_27 rc g t0 x1 v2 0 t0 w6)
theorem s_X11_loop {g : State} {d : Nat} {rc : Nat → Nat → (Option Nat) → ch_W → Option (Except Nat Unit × ch_W)} (hr0 : ∀ {t0 : Nat} {z0 : Option Nat} {w : ch_W} {p : Except Nat Unit × ch_W} {Q : Outcome → ch_W → Prop}, rc 0 t0 z0 w = some p → ch_xV Q p → ch_CT g true yX11_block (d + 712) [.ref t0, va_rf z0] (w) Q)  {t0 : Nat} {x1 : Option Nat} {w : ch_W} {res : Except Nat Unit × ch_W} {Q : Outcome → ch_W → Prop} (h : c_X11_loop rc g t0 x1 w = some res) (hk : (ch_xV Q) res) : ch_CT g true yX11_loop (d + 713) [.ref t0, va_rf x1] (w) Q := by
  unfold c_X11_loop at h
  refine ch_ctL mX11_loop (ls := [some (va_rf (some t0)), some (va_rf x1), none, none, none, none]) q1282 rfl (ch_lyr (r := some t0) (ch_lyr (r := x1) ch_ly0)) (Nat.le_of_ble_eq_true rfl) rfl ?_
  refine ch_aload_n 0 (some t0) dX11_loop_0 rfl (cp_gR (ci := 11) (k := 5) dX11_loop_1 fl_X11_194 rfl h (fun v1 h => ?_))
  refine cp_gI (ci := 8) (k := 1) dX11_loop_4 fl_X11_173 rfl h (fun v2 h => ?_)
  refine ch_istore_n 2 _ (ls1 := [some (va_rf (some t0)), some (va_rf x1), some (.int v2), none, none, none]) dX11_loop_7 (Nat.le_of_ble_eq_true rfl) (ch_s1o rfl rfl) (ch_aload_n 0 (some t0) dX11_loop_8 rfl (ch_aload_n 0 (some t0) dX11_loop_9 rfl (ch_aload_n 1 x1 dX11_loop_10 rfl (cp_gR (ci := 9) (k := 5) dX11_loop_11 fl_X11_258 rfl h (fun v3 h => ?_)))))
  obtain ⟨_, hb4, h⟩ := ch_bd h
  refine ch_iv yX11_value prog_2_method_28_code 5 (some .int) (ci := 11) (q := (RX11, TX11, 14)) (b := t0) (d' := 710) (av := [va_rf v3]) (rest := [va_rf (some t0)]) rfl dX11_loop_14 q1206 q1208 rfl qs48 q1209 can_X11_value (Nat.le_trans (Nat.le_of_ble_eq_true rfl) (Nat.le_add_left 713 d)) (ch_hw (Nat.le_of_ble_eq_true rfl)) (ch_rts hb4) (cp_tI h (fun p hp Q' hq => sr_X11_value hp hq) (fun v5 w6 h => ?_) (fun a w1 h => ?_))
  · refine ch_bipush _ (-2) dX11_loop_17 rfl (cp_icmp_ne _ _ (tgt := 26) dX11_loop_19 rfl h (fun h => ?_) (fun h => ?_))
    · exact ch_iconst _ 0 dX11_loop_26 rfl (ch_FT.wk (ch_wS (ch_wS (ch_wS (ch_wN (ch_wN (ch_wN ch_w0)))))) (s_X11_loop_27 hr0 h hk))
    · exact ch_iconst _ 1 dX11_loop_22 rfl (ch_goto 27 dX11_loop_23 rfl (ch_FT.wk (ch_wS (ch_wS (ch_wS (ch_wN (ch_wN (ch_wN ch_w0)))))) (s_X11_loop_27 hr0 h hk)))
  · subst h
    exact ch_th rfl hk

theorem bX11_tries_0 : ch_ck cX11_tries 0 [42, 180, 0, 88, 61, 42, 182, 1, 52, 78, 42, 180, 0, 204, 54, 4] := ch_ckof (by decide +kernel)
theorem bX11_tries_1 : ch_ck cX11_tries 16 [42, 180, 0, 194, 180, 0, 173, 54, 5, 42, 43, 180, 1, 56, 182, 0] := ch_ckof (by decide +kernel)
theorem bX11_tries_2 : ch_ck cX11_tries 32 [215, 42, 180, 0, 194, 180, 0, 173, 54, 6, 42, 16, 28, 3, 182, 0] := ch_ckof (by decide +kernel)
theorem bX11_tries_3 : ch_ck cX11_tries 48 [247, 42, 180, 0, 194, 180, 0, 173, 4, 100, 54, 7, 42, 182, 1, 52] := ch_ckof (by decide +kernel)
theorem bX11_tries_4 : ch_ck cX11_tries 64 [58, 8, 42, 180, 0, 204, 54, 9, 45, 3, 42, 180, 0, 28, 3, 45] := ch_ckof (by decide +kernel)
theorem bX11_tries_5 : ch_ck cX11_tries 80 [190, 184, 0, 222, 42, 21, 4, 181, 0, 204, 42, 28, 181, 0, 88, 42] := ch_ckof (by decide +kernel)
theorem bX11_tries_6 : ch_ck cX11_tries 96 [43, 180, 1, 28, 182, 0, 152, 54, 10, 42, 21, 10, 155, 0, 21, 42] := ch_ckof (by decide +kernel)
theorem bX11_tries_7 : ch_ck cX11_tries 112 [180, 0, 21, 43, 180, 1, 29, 182, 1, 30, 154, 0, 7, 4, 167, 0] := ch_ckof (by decide +kernel)
theorem bX11_tries_8 : ch_ck cX11_tries 128 [4, 3, 182, 1, 18, 42, 180, 0, 201, 180, 1, 70, 58, 11, 25, 11] := ch_ckof (by decide +kernel)
theorem bX11_tries_9 : ch_ck cX11_tries 144 [21, 5, 182, 0, 197, 25, 11, 21, 6, 182, 0, 197, 25, 11, 21, 10] := ch_ckof (by decide +kernel)
theorem bX11_tries_10 : ch_ck cX11_tries 160 [182, 0, 197, 25, 11, 42, 180, 0, 194, 180, 0, 173, 182, 0, 197, 25] := ch_ckof (by decide +kernel)
theorem bX11_tries_11 : ch_ck cX11_tries 176 [11, 42, 180, 0, 21, 180, 0, 173, 4, 96, 182, 0, 197, 42, 180, 0] := ch_ckof (by decide +kernel)
theorem bX11_tries_12 : ch_ck cX11_tries 192 [21, 180, 0, 173, 54, 12, 42, 43, 180, 1, 29, 21, 10, 4, 182, 0] := ch_ckof (by decide +kernel)
theorem bX11_tries_13 : ch_ck cX11_tries 208 [207, 42, 43, 180, 1, 59, 182, 0, 215, 42, 21, 12, 182, 0, 244, 42] := ch_ckof (by decide +kernel)
theorem bX11_tries_14 : ch_ck cX11_tries 224 [180, 0, 194, 180, 1, 62, 21, 7, 42, 180, 0, 194, 180, 0, 173, 79] := ch_ckof (by decide +kernel)
theorem bX11_tries_15 : ch_ck cX11_tries 240 [42, 25, 8, 21, 9, 182, 1, 66, 177] := ch_ckof (by decide +kernel)
theorem dX11_tries_0 : decode cX11_tries 0 = .ok (.aload_n 0, 1) := dz_42 (bX11_tries_0 0 _ rfl)
theorem dX11_tries_1 : decode cX11_tries 1 = .ok (.getfield 88, 3) := dz_180 (bX11_tries_0 1 _ rfl) (bX11_tries_0 2 _ rfl) (bX11_tries_0 3 _ rfl)
theorem dX11_tries_4 : decode cX11_tries 4 = .ok (.istore_n 2, 1) := dz_61 (bX11_tries_0 4 _ rfl)
theorem dX11_tries_5 : decode cX11_tries 5 = .ok (.aload_n 0, 1) := dz_42 (bX11_tries_0 5 _ rfl)
theorem dX11_tries_6 : decode cX11_tries 6 = .ok (.invokevirtual 308, 3) := dz_182 (bX11_tries_0 6 _ rfl) (bX11_tries_0 7 _ rfl) (bX11_tries_0 8 _ rfl)
theorem dX11_tries_9 : decode cX11_tries 9 = .ok (.astore_n 3, 1) := dz_78 (bX11_tries_0 9 _ rfl)
theorem dX11_tries_10 : decode cX11_tries 10 = .ok (.aload_n 0, 1) := dz_42 (bX11_tries_0 10 _ rfl)
theorem dX11_tries_11 : decode cX11_tries 11 = .ok (.getfield 204, 3) := dz_180 (bX11_tries_0 11 _ rfl) (bX11_tries_0 12 _ rfl) (bX11_tries_0 13 _ rfl)
theorem dX11_tries_14 : decode cX11_tries 14 = .ok (.istore 4, 2) := dz_54 (bX11_tries_0 14 _ rfl) (bX11_tries_0 15 _ rfl)
theorem dX11_tries_16 : decode cX11_tries 16 = .ok (.aload_n 0, 1) := dz_42 (bX11_tries_1 0 _ rfl)
theorem dX11_tries_17 : decode cX11_tries 17 = .ok (.getfield 194, 3) := dz_180 (bX11_tries_1 1 _ rfl) (bX11_tries_1 2 _ rfl) (bX11_tries_1 3 _ rfl)
theorem dX11_tries_20 : decode cX11_tries 20 = .ok (.getfield 173, 3) := dz_180 (bX11_tries_1 4 _ rfl) (bX11_tries_1 5 _ rfl) (bX11_tries_1 6 _ rfl)
theorem dX11_tries_23 : decode cX11_tries 23 = .ok (.istore 5, 2) := dz_54 (bX11_tries_1 7 _ rfl) (bX11_tries_1 8 _ rfl)
theorem dX11_tries_25 : decode cX11_tries 25 = .ok (.aload_n 0, 1) := dz_42 (bX11_tries_1 9 _ rfl)
theorem dX11_tries_26 : decode cX11_tries 26 = .ok (.aload_n 1, 1) := dz_43 (bX11_tries_1 10 _ rfl)
theorem dX11_tries_27 : decode cX11_tries 27 = .ok (.getfield 312, 3) := dz_180 (bX11_tries_1 11 _ rfl) (bX11_tries_1 12 _ rfl) (bX11_tries_1 13 _ rfl)
theorem dX11_tries_30 : decode cX11_tries 30 = .ok (.invokevirtual 215, 3) := dz_182 (bX11_tries_1 14 _ rfl) (bX11_tries_1 15 _ rfl) (bX11_tries_2 0 _ rfl)
theorem dX11_tries_33 : decode cX11_tries 33 = .ok (.aload_n 0, 1) := dz_42 (bX11_tries_2 1 _ rfl)
theorem dX11_tries_34 : decode cX11_tries 34 = .ok (.getfield 194, 3) := dz_180 (bX11_tries_2 2 _ rfl) (bX11_tries_2 3 _ rfl) (bX11_tries_2 4 _ rfl)
theorem dX11_tries_37 : decode cX11_tries 37 = .ok (.getfield 173, 3) := dz_180 (bX11_tries_2 5 _ rfl) (bX11_tries_2 6 _ rfl) (bX11_tries_2 7 _ rfl)
theorem dX11_tries_40 : decode cX11_tries 40 = .ok (.istore 6, 2) := dz_54 (bX11_tries_2 8 _ rfl) (bX11_tries_2 9 _ rfl)
theorem dX11_tries_42 : decode cX11_tries 42 = .ok (.aload_n 0, 1) := dz_42 (bX11_tries_2 10 _ rfl)
theorem dX11_tries_43 : decode cX11_tries 43 = .ok (.bipush 28, 2) := dz_16 (bX11_tries_2 11 _ rfl) (bX11_tries_2 12 _ rfl)
theorem dX11_tries_45 : decode cX11_tries 45 = .ok (.iconst 0, 1) := dz_3 (bX11_tries_2 13 _ rfl)
theorem dX11_tries_46 : decode cX11_tries 46 = .ok (.invokevirtual 247, 3) := dz_182 (bX11_tries_2 14 _ rfl) (bX11_tries_2 15 _ rfl) (bX11_tries_3 0 _ rfl)
theorem dX11_tries_49 : decode cX11_tries 49 = .ok (.aload_n 0, 1) := dz_42 (bX11_tries_3 1 _ rfl)
theorem dX11_tries_50 : decode cX11_tries 50 = .ok (.getfield 194, 3) := dz_180 (bX11_tries_3 2 _ rfl) (bX11_tries_3 3 _ rfl) (bX11_tries_3 4 _ rfl)
theorem dX11_tries_53 : decode cX11_tries 53 = .ok (.getfield 173, 3) := dz_180 (bX11_tries_3 5 _ rfl) (bX11_tries_3 6 _ rfl) (bX11_tries_3 7 _ rfl)
theorem dX11_tries_56 : decode cX11_tries 56 = .ok (.iconst 1, 1) := dz_4 (bX11_tries_3 8 _ rfl)
theorem dX11_tries_57 : decode cX11_tries 57 = .ok (.isub, 1) := dz_100 (bX11_tries_3 9 _ rfl)
theorem dX11_tries_58 : decode cX11_tries 58 = .ok (.istore 7, 2) := dz_54 (bX11_tries_3 10 _ rfl) (bX11_tries_3 11 _ rfl)
theorem dX11_tries_60 : decode cX11_tries 60 = .ok (.aload_n 0, 1) := dz_42 (bX11_tries_3 12 _ rfl)
theorem dX11_tries_61 : decode cX11_tries 61 = .ok (.invokevirtual 308, 3) := dz_182 (bX11_tries_3 13 _ rfl) (bX11_tries_3 14 _ rfl) (bX11_tries_3 15 _ rfl)
theorem dX11_tries_64 : decode cX11_tries 64 = .ok (.astore 8, 2) := dz_58 (bX11_tries_4 0 _ rfl) (bX11_tries_4 1 _ rfl)
theorem dX11_tries_66 : decode cX11_tries 66 = .ok (.aload_n 0, 1) := dz_42 (bX11_tries_4 2 _ rfl)
theorem dX11_tries_67 : decode cX11_tries 67 = .ok (.getfield 204, 3) := dz_180 (bX11_tries_4 3 _ rfl) (bX11_tries_4 4 _ rfl) (bX11_tries_4 5 _ rfl)
theorem dX11_tries_70 : decode cX11_tries 70 = .ok (.istore 9, 2) := dz_54 (bX11_tries_4 6 _ rfl) (bX11_tries_4 7 _ rfl)
theorem dX11_tries_72 : decode cX11_tries 72 = .ok (.aload_n 3, 1) := dz_45 (bX11_tries_4 8 _ rfl)
theorem dX11_tries_73 : decode cX11_tries 73 = .ok (.iconst 0, 1) := dz_3 (bX11_tries_4 9 _ rfl)
theorem dX11_tries_74 : decode cX11_tries 74 = .ok (.aload_n 0, 1) := dz_42 (bX11_tries_4 10 _ rfl)
theorem dX11_tries_75 : decode cX11_tries 75 = .ok (.getfield 28, 3) := dz_180 (bX11_tries_4 11 _ rfl) (bX11_tries_4 12 _ rfl) (bX11_tries_4 13 _ rfl)
theorem dX11_tries_78 : decode cX11_tries 78 = .ok (.iconst 0, 1) := dz_3 (bX11_tries_4 14 _ rfl)
theorem dX11_tries_79 : decode cX11_tries 79 = .ok (.aload_n 3, 1) := dz_45 (bX11_tries_4 15 _ rfl)
theorem dX11_tries_80 : decode cX11_tries 80 = .ok (.arraylength, 1) := dz_190 (bX11_tries_5 0 _ rfl)
theorem dX11_tries_81 : decode cX11_tries 81 = .ok (.invokestatic 222, 3) := dz_184 (bX11_tries_5 1 _ rfl) (bX11_tries_5 2 _ rfl) (bX11_tries_5 3 _ rfl)
theorem dX11_tries_84 : decode cX11_tries 84 = .ok (.aload_n 0, 1) := dz_42 (bX11_tries_5 4 _ rfl)
theorem dX11_tries_85 : decode cX11_tries 85 = .ok (.iload 4, 2) := dz_21 (bX11_tries_5 5 _ rfl) (bX11_tries_5 6 _ rfl)
theorem dX11_tries_87 : decode cX11_tries 87 = .ok (.putfield 204, 3) := dz_181 (bX11_tries_5 7 _ rfl) (bX11_tries_5 8 _ rfl) (bX11_tries_5 9 _ rfl)
theorem dX11_tries_90 : decode cX11_tries 90 = .ok (.aload_n 0, 1) := dz_42 (bX11_tries_5 10 _ rfl)
theorem dX11_tries_91 : decode cX11_tries 91 = .ok (.iload_n 2, 1) := dz_28 (bX11_tries_5 11 _ rfl)
theorem dX11_tries_92 : decode cX11_tries 92 = .ok (.putfield 88, 3) := dz_181 (bX11_tries_5 12 _ rfl) (bX11_tries_5 13 _ rfl) (bX11_tries_5 14 _ rfl)
theorem dX11_tries_95 : decode cX11_tries 95 = .ok (.aload_n 0, 1) := dz_42 (bX11_tries_5 15 _ rfl)
theorem dX11_tries_96 : decode cX11_tries 96 = .ok (.aload_n 1, 1) := dz_43 (bX11_tries_6 0 _ rfl)
theorem dX11_tries_97 : decode cX11_tries 97 = .ok (.getfield 284, 3) := dz_180 (bX11_tries_6 1 _ rfl) (bX11_tries_6 2 _ rfl) (bX11_tries_6 3 _ rfl)
theorem dX11_tries_100 : decode cX11_tries 100 = .ok (.invokevirtual 152, 3) := dz_182 (bX11_tries_6 4 _ rfl) (bX11_tries_6 5 _ rfl) (bX11_tries_6 6 _ rfl)
theorem dX11_tries_103 : decode cX11_tries 103 = .ok (.istore 10, 2) := dz_54 (bX11_tries_6 7 _ rfl) (bX11_tries_6 8 _ rfl)
theorem dX11_tries_105 : decode cX11_tries 105 = .ok (.aload_n 0, 1) := dz_42 (bX11_tries_6 9 _ rfl)
theorem dX11_tries_106 : decode cX11_tries 106 = .ok (.iload 10, 2) := dz_21 (bX11_tries_6 10 _ rfl) (bX11_tries_6 11 _ rfl)
theorem dX11_tries_108 : decode cX11_tries 108 = .ok (.ifCond .lt 21, 3) := dz_155 (bX11_tries_6 12 _ rfl) (bX11_tries_6 13 _ rfl) (bX11_tries_6 14 _ rfl)
theorem dX11_tries_111 : decode cX11_tries 111 = .ok (.aload_n 0, 1) := dz_42 (bX11_tries_6 15 _ rfl)
theorem dX11_tries_112 : decode cX11_tries 112 = .ok (.getfield 21, 3) := dz_180 (bX11_tries_7 0 _ rfl) (bX11_tries_7 1 _ rfl) (bX11_tries_7 2 _ rfl)
theorem dX11_tries_115 : decode cX11_tries 115 = .ok (.aload_n 1, 1) := dz_43 (bX11_tries_7 3 _ rfl)
theorem dX11_tries_116 : decode cX11_tries 116 = .ok (.getfield 285, 3) := dz_180 (bX11_tries_7 4 _ rfl) (bX11_tries_7 5 _ rfl) (bX11_tries_7 6 _ rfl)
theorem dX11_tries_119 : decode cX11_tries 119 = .ok (.invokevirtual 286, 3) := dz_182 (bX11_tries_7 7 _ rfl) (bX11_tries_7 8 _ rfl) (bX11_tries_7 9 _ rfl)
theorem dX11_tries_122 : decode cX11_tries 122 = .ok (.ifCond .ne 7, 3) := dz_154 (bX11_tries_7 10 _ rfl) (bX11_tries_7 11 _ rfl) (bX11_tries_7 12 _ rfl)
theorem dX11_tries_125 : decode cX11_tries 125 = .ok (.iconst 1, 1) := dz_4 (bX11_tries_7 13 _ rfl)
theorem dX11_tries_126 : decode cX11_tries 126 = .ok (.goto 4, 3) := dz_167 (bX11_tries_7 14 _ rfl) (bX11_tries_7 15 _ rfl) (bX11_tries_8 0 _ rfl)
theorem dX11_tries_129 : decode cX11_tries 129 = .ok (.iconst 0, 1) := dz_3 (bX11_tries_8 1 _ rfl)
theorem dX11_tries_130 : decode cX11_tries 130 = .ok (.invokevirtual 274, 3) := dz_182 (bX11_tries_8 2 _ rfl) (bX11_tries_8 3 _ rfl) (bX11_tries_8 4 _ rfl)
theorem dX11_tries_133 : decode cX11_tries 133 = .ok (.aload_n 0, 1) := dz_42 (bX11_tries_8 5 _ rfl)
theorem dX11_tries_134 : decode cX11_tries 134 = .ok (.getfield 201, 3) := dz_180 (bX11_tries_8 6 _ rfl) (bX11_tries_8 7 _ rfl) (bX11_tries_8 8 _ rfl)
theorem dX11_tries_137 : decode cX11_tries 137 = .ok (.getfield 326, 3) := dz_180 (bX11_tries_8 9 _ rfl) (bX11_tries_8 10 _ rfl) (bX11_tries_8 11 _ rfl)
theorem dX11_tries_140 : decode cX11_tries 140 = .ok (.astore 11, 2) := dz_58 (bX11_tries_8 12 _ rfl) (bX11_tries_8 13 _ rfl)
theorem dX11_tries_142 : decode cX11_tries 142 = .ok (.aload 11, 2) := dz_25 (bX11_tries_8 14 _ rfl) (bX11_tries_8 15 _ rfl)
theorem dX11_tries_144 : decode cX11_tries 144 = .ok (.iload 5, 2) := dz_21 (bX11_tries_9 0 _ rfl) (bX11_tries_9 1 _ rfl)
theorem dX11_tries_146 : decode cX11_tries 146 = .ok (.invokevirtual 197, 3) := dz_182 (bX11_tries_9 2 _ rfl) (bX11_tries_9 3 _ rfl) (bX11_tries_9 4 _ rfl)
theorem dX11_tries_149 : decode cX11_tries 149 = .ok (.aload 11, 2) := dz_25 (bX11_tries_9 5 _ rfl) (bX11_tries_9 6 _ rfl)
theorem dX11_tries_151 : decode cX11_tries 151 = .ok (.iload 6, 2) := dz_21 (bX11_tries_9 7 _ rfl) (bX11_tries_9 8 _ rfl)
theorem dX11_tries_153 : decode cX11_tries 153 = .ok (.invokevirtual 197, 3) := dz_182 (bX11_tries_9 9 _ rfl) (bX11_tries_9 10 _ rfl) (bX11_tries_9 11 _ rfl)
theorem dX11_tries_156 : decode cX11_tries 156 = .ok (.aload 11, 2) := dz_25 (bX11_tries_9 12 _ rfl) (bX11_tries_9 13 _ rfl)
theorem dX11_tries_158 : decode cX11_tries 158 = .ok (.iload 10, 2) := dz_21 (bX11_tries_9 14 _ rfl) (bX11_tries_9 15 _ rfl)
theorem dX11_tries_160 : decode cX11_tries 160 = .ok (.invokevirtual 197, 3) := dz_182 (bX11_tries_10 0 _ rfl) (bX11_tries_10 1 _ rfl) (bX11_tries_10 2 _ rfl)
theorem dX11_tries_163 : decode cX11_tries 163 = .ok (.aload 11, 2) := dz_25 (bX11_tries_10 3 _ rfl) (bX11_tries_10 4 _ rfl)
theorem dX11_tries_165 : decode cX11_tries 165 = .ok (.aload_n 0, 1) := dz_42 (bX11_tries_10 5 _ rfl)
theorem dX11_tries_166 : decode cX11_tries 166 = .ok (.getfield 194, 3) := dz_180 (bX11_tries_10 6 _ rfl) (bX11_tries_10 7 _ rfl) (bX11_tries_10 8 _ rfl)
theorem dX11_tries_169 : decode cX11_tries 169 = .ok (.getfield 173, 3) := dz_180 (bX11_tries_10 9 _ rfl) (bX11_tries_10 10 _ rfl) (bX11_tries_10 11 _ rfl)
theorem dX11_tries_172 : decode cX11_tries 172 = .ok (.invokevirtual 197, 3) := dz_182 (bX11_tries_10 12 _ rfl) (bX11_tries_10 13 _ rfl) (bX11_tries_10 14 _ rfl)
theorem dX11_tries_175 : decode cX11_tries 175 = .ok (.aload 11, 2) := dz_25 (bX11_tries_10 15 _ rfl) (bX11_tries_11 0 _ rfl)
theorem dX11_tries_177 : decode cX11_tries 177 = .ok (.aload_n 0, 1) := dz_42 (bX11_tries_11 1 _ rfl)
theorem dX11_tries_178 : decode cX11_tries 178 = .ok (.getfield 21, 3) := dz_180 (bX11_tries_11 2 _ rfl) (bX11_tries_11 3 _ rfl) (bX11_tries_11 4 _ rfl)
theorem dX11_tries_181 : decode cX11_tries 181 = .ok (.getfield 173, 3) := dz_180 (bX11_tries_11 5 _ rfl) (bX11_tries_11 6 _ rfl) (bX11_tries_11 7 _ rfl)
theorem dX11_tries_184 : decode cX11_tries 184 = .ok (.iconst 1, 1) := dz_4 (bX11_tries_11 8 _ rfl)
theorem dX11_tries_185 : decode cX11_tries 185 = .ok (.iadd, 1) := dz_96 (bX11_tries_11 9 _ rfl)
theorem dX11_tries_186 : decode cX11_tries 186 = .ok (.invokevirtual 197, 3) := dz_182 (bX11_tries_11 10 _ rfl) (bX11_tries_11 11 _ rfl) (bX11_tries_11 12 _ rfl)
theorem dX11_tries_189 : decode cX11_tries 189 = .ok (.aload_n 0, 1) := dz_42 (bX11_tries_11 13 _ rfl)
theorem dX11_tries_190 : decode cX11_tries 190 = .ok (.getfield 21, 3) := dz_180 (bX11_tries_11 14 _ rfl) (bX11_tries_11 15 _ rfl) (bX11_tries_12 0 _ rfl)
theorem dX11_tries_193 : decode cX11_tries 193 = .ok (.getfield 173, 3) := dz_180 (bX11_tries_12 1 _ rfl) (bX11_tries_12 2 _ rfl) (bX11_tries_12 3 _ rfl)
theorem dX11_tries_196 : decode cX11_tries 196 = .ok (.istore 12, 2) := dz_54 (bX11_tries_12 4 _ rfl) (bX11_tries_12 5 _ rfl)
theorem dX11_tries_198 : decode cX11_tries 198 = .ok (.aload_n 0, 1) := dz_42 (bX11_tries_12 6 _ rfl)
theorem dX11_tries_199 : decode cX11_tries 199 = .ok (.aload_n 1, 1) := dz_43 (bX11_tries_12 7 _ rfl)
theorem dX11_tries_200 : decode cX11_tries 200 = .ok (.getfield 285, 3) := dz_180 (bX11_tries_12 8 _ rfl) (bX11_tries_12 9 _ rfl) (bX11_tries_12 10 _ rfl)
theorem dX11_tries_203 : decode cX11_tries 203 = .ok (.iload 10, 2) := dz_21 (bX11_tries_12 11 _ rfl) (bX11_tries_12 12 _ rfl)
theorem dX11_tries_205 : decode cX11_tries 205 = .ok (.iconst 1, 1) := dz_4 (bX11_tries_12 13 _ rfl)
theorem dX11_tries_206 : decode cX11_tries 206 = .ok (.invokevirtual 207, 3) := dz_182 (bX11_tries_12 14 _ rfl) (bX11_tries_12 15 _ rfl) (bX11_tries_13 0 _ rfl)
theorem dX11_tries_209 : decode cX11_tries 209 = .ok (.aload_n 0, 1) := dz_42 (bX11_tries_13 1 _ rfl)
theorem dX11_tries_210 : decode cX11_tries 210 = .ok (.aload_n 1, 1) := dz_43 (bX11_tries_13 2 _ rfl)
theorem dX11_tries_211 : decode cX11_tries 211 = .ok (.getfield 315, 3) := dz_180 (bX11_tries_13 3 _ rfl) (bX11_tries_13 4 _ rfl) (bX11_tries_13 5 _ rfl)
theorem dX11_tries_214 : decode cX11_tries 214 = .ok (.invokevirtual 215, 3) := dz_182 (bX11_tries_13 6 _ rfl) (bX11_tries_13 7 _ rfl) (bX11_tries_13 8 _ rfl)
theorem dX11_tries_217 : decode cX11_tries 217 = .ok (.aload_n 0, 1) := dz_42 (bX11_tries_13 9 _ rfl)
theorem dX11_tries_218 : decode cX11_tries 218 = .ok (.iload 12, 2) := dz_21 (bX11_tries_13 10 _ rfl) (bX11_tries_13 11 _ rfl)
theorem dX11_tries_220 : decode cX11_tries 220 = .ok (.invokevirtual 244, 3) := dz_182 (bX11_tries_13 12 _ rfl) (bX11_tries_13 13 _ rfl) (bX11_tries_13 14 _ rfl)
theorem dX11_tries_223 : decode cX11_tries 223 = .ok (.aload_n 0, 1) := dz_42 (bX11_tries_13 15 _ rfl)
theorem dX11_tries_224 : decode cX11_tries 224 = .ok (.getfield 194, 3) := dz_180 (bX11_tries_14 0 _ rfl) (bX11_tries_14 1 _ rfl) (bX11_tries_14 2 _ rfl)
theorem dX11_tries_227 : decode cX11_tries 227 = .ok (.getfield 318, 3) := dz_180 (bX11_tries_14 3 _ rfl) (bX11_tries_14 4 _ rfl) (bX11_tries_14 5 _ rfl)
theorem dX11_tries_230 : decode cX11_tries 230 = .ok (.iload 7, 2) := dz_21 (bX11_tries_14 6 _ rfl) (bX11_tries_14 7 _ rfl)
theorem dX11_tries_232 : decode cX11_tries 232 = .ok (.aload_n 0, 1) := dz_42 (bX11_tries_14 8 _ rfl)
theorem dX11_tries_233 : decode cX11_tries 233 = .ok (.getfield 194, 3) := dz_180 (bX11_tries_14 9 _ rfl) (bX11_tries_14 10 _ rfl) (bX11_tries_14 11 _ rfl)
theorem dX11_tries_236 : decode cX11_tries 236 = .ok (.getfield 173, 3) := dz_180 (bX11_tries_14 12 _ rfl) (bX11_tries_14 13 _ rfl) (bX11_tries_14 14 _ rfl)
theorem dX11_tries_239 : decode cX11_tries 239 = .ok (.iastore, 1) := dz_79 (bX11_tries_14 15 _ rfl)
theorem dX11_tries_240 : decode cX11_tries 240 = .ok (.aload_n 0, 1) := dz_42 (bX11_tries_15 0 _ rfl)
theorem dX11_tries_241 : decode cX11_tries 241 = .ok (.aload 8, 2) := dz_25 (bX11_tries_15 1 _ rfl) (bX11_tries_15 2 _ rfl)
theorem dX11_tries_243 : decode cX11_tries 243 = .ok (.iload 9, 2) := dz_21 (bX11_tries_15 3 _ rfl) (bX11_tries_15 4 _ rfl)
theorem dX11_tries_245 : decode cX11_tries 245 = .ok (.invokevirtual 322, 3) := dz_182 (bX11_tries_15 5 _ rfl) (bX11_tries_15 6 _ rfl) (bX11_tries_15 7 _ rfl)
theorem dX11_tries_248 : decode cX11_tries 248 = .ok (.return_, 1) := dz_177 (bX11_tries_15 8 _ rfl)
def c_X11_tries_130 (rc : Nat → Nat → (Option Nat) → ch_W → Option (Except Nat Unit × ch_W)) (g : State) (t0 : Nat) (x1 : Option Nat) (x5 : Int32) (x6 : Int32) (x7 : Int32) (x8 : Option Nat) (x9 : Int32) (x10 : Int32) (y0 : Int32) (y1 : Nat) (w : ch_W) : Option (Except Nat Unit × ch_W) := (ch_rc w (some y1) 12).bind fun _ => ch_tb (c_X11_must_2 g y1 y0 w) (fun a w => (.error a, w)) fun _ w3 => (ch_gR w3 (some t0) 12 fX11_method).bind fun v4 => (ch_gR w3 v4 8 fX7_catches).bind fun v5 => (ch_rc w3 v5 9).bind fun b7 => (c_X8_add b7 x5 w3).bind fun p8 => (ch_rc p8 v5 9).bind fun b11 => (c_X8_add b11 x6 p8).bind fun p12 => (ch_rc p12 v5 9).bind fun b15 => (c_X8_add b15 x10 p12).bind fun p16 => (ch_gR p16 (some t0) 12 fX11_code).bind fun v18 => (ch_gI p16 v18 9 fX8_size).bind fun v19 => (ch_rc p16 v5 9).bind fun b21 => (c_X8_add b21 v19 p16).bind fun p22 => (ch_gR p22 (some t0) 12 fX11_names).bind fun v24 => (ch_gI p22 v24 9 fX8_size).bind fun v25 => (ch_rc p22 v5 9).bind fun b27 => (c_X8_add b27 (v25 + 1) p22).bind fun p28 => (ch_gR p28 (some t0) 12 fX11_names).bind fun v30 => (ch_gI p28 v30 9 fX8_size).bind fun v31 => (ch_gI p28 x1 10 fX9_name).bind fun v32 => (ch_rc p28 (some t0) 12).bind fun _ => (c_X11_declare t0 v32 x10 1 p28).bind fun p34 => (ch_gR p34 x1 10 fX9_second).bind fun v36 => (ch_rc p34 (some t0) 12).bind fun _ => ch_tb (rc 0 t0 v36 p34) (fun a w => (.error a, w)) fun _ w39 => (ch_rc w39 (some t0) 12).bind fun _ => (c_X11_drop t0 v31 w39).bind fun p41 => (ch_gR p41 (some t0) 12 fX11_code).bind fun v43 => (ch_gR p41 v43 9 fX8_all).bind fun v44 => (ch_gR p41 (some t0) 12 fX11_code).bind fun v45 => (ch_gI p41 v45 9 fX8_size).bind fun v46 => (ch_wI p41 v44 21 x7 v46).bind fun w47 => (ch_rc w47 (some t0) 12).bind fun _ => (c_X11_join t0 x8 x9 w47).bind fun p49 => some ((.ok (), p49))
theorem s_X11_tries_130 {g : State} {d : Nat} {rc : Nat → Nat → (Option Nat) → ch_W → Option (Except Nat Unit × ch_W)} (hr0 : ∀ {t0 : Nat} {z0 : Option Nat} {w : ch_W} {p : Except Nat Unit × ch_W} {Q : Outcome → ch_W → Prop}, rc 0 t0 z0 w = some p → ch_xV Q p → ch_CT g true yX11_block (d + 712) [.ref t0, va_rf z0] (w) Q)  {t0 : Nat} {x1 : Option Nat} {x5 : Int32} {x6 : Int32} {x7 : Int32} {x8 : Option Nat} {x9 : Int32} {x10 : Int32} {y0 : Int32} {y1 : Nat} {w : ch_W} {res : Except Nat Unit × ch_W} {Q : Outcome → ch_W → Prop} (h : c_X11_tries_130 rc g t0 x1 x5 x6 x7 x8 x9 x10 y0 y1 w = some res) (hk : (ch_xV Q) res) : ch_FT g true mX11_tries (d + 713) 130 [some (va_rf (some t0)), some (va_rf x1), none, none, none, some (.int x5), some (.int x6), some (.int x7), some (va_rf x8), some (.int x9), some (.int x10), none, none] [.int y0, va_rf (some y1)] (w) Q := by
  unfold c_X11_tries_130 at h
  obtain ⟨_, hb1, h⟩ := ch_bd h
  refine ch_iv yX11_must_2 prog_2_method_3_code 2 none (ci := 11) (q := (RX11, TX11, 14)) (b := y1) (d' := 8) (av := [.int y0]) (rest := []) rfl dX11_tries_130 q1202 q1204 rfl qs47 q1205 can_X11_must_2 (Nat.le_trans (Nat.le_of_ble_eq_true rfl) (Nat.le_add_left 713 d)) (Nat.le_of_ble_eq_true rfl) (ch_rts hb1) (cp_tV h (fun p hp Q' hq => s_X11_must_2 hp hq) (fun w3 h => ?_) (fun a w1 h => ?_))
  · refine ch_aload_n 0 (some t0) dX11_tries_133 rfl (cp_gR (ci := 11) (k := 4) dX11_tries_134 fl_X11_201 rfl h (fun v4 h => ?_))
    refine cp_gR (ci := 7) (k := 10) dX11_tries_137 fl_X11_326 rfl h (fun v5 h => ?_)
    obtain ⟨b7, hb6, h⟩ := ch_bd h
    obtain ⟨p8, hp9, h⟩ := ch_bd h
    refine ch_astore 11 v5 (ls1 := [some (va_rf (some t0)), some (va_rf x1), none, none, none, some (.int x5), some (.int x6), some (.int x7), some (va_rf x8), some (.int x9), some (.int x10), some (va_rf v5), none]) dX11_tries_140 (Nat.le_of_ble_eq_true rfl) rfl (ch_aload 11 v5 dX11_tries_142 rfl (ch_iload 5 _ dX11_tries_144 rfl (ch_iv yX8_add prog_9_method_2_code 3 none (ci := 8) (q := (RX8, TX8, 2)) (b := b7) (d' := 2) (av := [.int x5]) (rest := []) (by rw [ch_rs hb6]; rfl) dX11_tries_146 q1182 q843 rfl q844 q845 can_X8_add (Nat.le_trans (Nat.le_of_ble_eq_true rfl) (Nat.le_add_left 713 d)) (Nat.le_of_ble_eq_true rfl) (ch_rtg hb6) (cp_kV (w1 := p8) (fun Q' hq => s_X8_add hp9 hq) ?_))))
    obtain ⟨b11, hb10, h⟩ := ch_bd h
    obtain ⟨p12, hp13, h⟩ := ch_bd h
    refine ch_aload 11 v5 dX11_tries_149 rfl (ch_iload 6 _ dX11_tries_151 rfl (ch_iv yX8_add prog_9_method_2_code 3 none (ci := 8) (q := (RX8, TX8, 2)) (b := b11) (d' := 2) (av := [.int x6]) (rest := []) (by rw [ch_rs hb10]; rfl) dX11_tries_153 q1182 q843 rfl q844 q845 can_X8_add (Nat.le_trans (Nat.le_of_ble_eq_true rfl) (Nat.le_add_left 713 d)) (Nat.le_of_ble_eq_true rfl) (ch_rtg hb10) (cp_kV (w1 := p12) (fun Q' hq => s_X8_add hp13 hq) ?_)))
    obtain ⟨b15, hb14, h⟩ := ch_bd h
    obtain ⟨p16, hp17, h⟩ := ch_bd h
    refine ch_aload 11 v5 dX11_tries_156 rfl (ch_iload 10 _ dX11_tries_158 rfl (ch_iv yX8_add prog_9_method_2_code 3 none (ci := 8) (q := (RX8, TX8, 2)) (b := b15) (d' := 2) (av := [.int x10]) (rest := []) (by rw [ch_rs hb14]; rfl) dX11_tries_160 q1182 q843 rfl q844 q845 can_X8_add (Nat.le_trans (Nat.le_of_ble_eq_true rfl) (Nat.le_add_left 713 d)) (Nat.le_of_ble_eq_true rfl) (ch_rtg hb14) (cp_kV (w1 := p16) (fun Q' hq => s_X8_add hp17 hq) ?_)))
    refine ch_aload 11 v5 dX11_tries_163 rfl (ch_aload_n 0 (some t0) dX11_tries_165 rfl (cp_gR (ci := 11) (k := 5) dX11_tries_166 fl_X11_194 rfl h (fun v18 h => ?_)))
    refine cp_gI (ci := 8) (k := 1) dX11_tries_169 fl_X11_173 rfl h (fun v19 h => ?_)
    obtain ⟨b21, hb20, h⟩ := ch_bd h
    obtain ⟨p22, hp23, h⟩ := ch_bd h
    refine ch_iv yX8_add prog_9_method_2_code 3 none (ci := 8) (q := (RX8, TX8, 2)) (b := b21) (d' := 2) (av := [.int v19]) (rest := []) (by rw [ch_rs hb20]; rfl) dX11_tries_172 q1182 q843 rfl q844 q845 can_X8_add (Nat.le_trans (Nat.le_of_ble_eq_true rfl) (Nat.le_add_left 713 d)) (Nat.le_of_ble_eq_true rfl) (ch_rtg hb20) (cp_kV (w1 := p22) (fun Q' hq => s_X8_add hp23 hq) ?_)
    refine ch_aload 11 v5 dX11_tries_175 rfl (ch_aload_n 0 (some t0) dX11_tries_177 rfl (cp_gR (ci := 11) (k := 7) dX11_tries_178 fl_X11_21 rfl h (fun v24 h => ?_)))
    refine cp_gI (ci := 8) (k := 1) dX11_tries_181 fl_X11_173 rfl h (fun v25 h => ?_)
    obtain ⟨b27, hb26, h⟩ := ch_bd h
    obtain ⟨p28, hp29, h⟩ := ch_bd h
    refine ch_iconst _ 1 dX11_tries_184 rfl (ch_iadd _ _ dX11_tries_185 (ch_iv yX8_add prog_9_method_2_code 3 none (ci := 8) (q := (RX8, TX8, 2)) (b := b27) (d' := 2) (av := [.int (v25 + 1)]) (rest := []) (by rw [ch_rs hb26]; rfl) dX11_tries_186 q1182 q843 rfl q844 q845 can_X8_add (Nat.le_trans (Nat.le_of_ble_eq_true rfl) (Nat.le_add_left 713 d)) (Nat.le_of_ble_eq_true rfl) (ch_rtg hb26) (cp_kV (w1 := p28) (fun Q' hq => s_X8_add hp29 hq) ?_)))
    refine ch_aload_n 0 (some t0) dX11_tries_189 rfl (cp_gR (ci := 11) (k := 7) dX11_tries_190 fl_X11_21 rfl h (fun v30 h => ?_))
    refine cp_gI (ci := 8) (k := 1) dX11_tries_193 fl_X11_173 rfl h (fun v31 h => ?_)
    refine ch_istore 12 _ (ls1 := [some (va_rf (some t0)), some (va_rf x1), none, none, none, some (.int x5), some (.int x6), some (.int x7), some (va_rf x8), some (.int x9), some (.int x10), some (va_rf v5), some (.int v31)]) dX11_tries_196 (Nat.le_of_ble_eq_true rfl) (ch_s1o rfl rfl) (ch_aload_n 0 (some t0) dX11_tries_198 rfl (ch_aload_n 1 x1 dX11_tries_199 rfl (cp_gI (ci := 9) (k := 3) dX11_tries_200 fl_X11_285 rfl h (fun v32 h => ?_))))
    obtain ⟨_, hb33, h⟩ := ch_bd h
    obtain ⟨p34, hp35, h⟩ := ch_bd h
    refine ch_iload 10 _ dX11_tries_203 rfl (ch_iconst _ 1 dX11_tries_205 rfl (ch_iv yX11_declare prog_2_method_16_code 5 none (ci := 11) (q := (RX11, TX11, 14)) (b := t0) (d' := 3) (av := [.int v32, .int x10, .int 1]) (rest := []) rfl dX11_tries_206 q1178 q1180 rfl qs43 q1181 can_X11_declare (Nat.le_trans (Nat.le_of_ble_eq_true rfl) (Nat.le_add_left 713 d)) (Nat.le_of_ble_eq_true rfl) (ch_rts hb33) (cp_kV (w1 := p34) (fun Q' hq => s_X11_declare hp35 hq) ?_)))
    refine ch_aload_n 0 (some t0) dX11_tries_209 rfl (ch_aload_n 1 x1 dX11_tries_210 rfl (cp_gR (ci := 9) (k := 7) dX11_tries_211 fl_X11_315 rfl h (fun v36 h => ?_)))
    obtain ⟨_, hb37, h⟩ := ch_bd h
    refine ch_iv yX11_block prog_2_method_17_code 4 none (ci := 11) (q := (RX11, TX11, 14)) (b := t0) (d' := (d + 712)) (av := [va_rf v36]) (rest := []) rfl dX11_tries_214 q1185 q1187 rfl qs44 q1188 can_X11_block (Nat.le_refl _) (Nat.le_of_ble_eq_true rfl) (ch_rts hb37) (cp_tV h (fun p hp Q' hq => hr0 hp hq) (fun w39 h => ?_) (fun a w1 h => ?_))
    · obtain ⟨_, hb40, h⟩ := ch_bd h
      obtain ⟨p41, hp42, h⟩ := ch_bd h
      refine ch_aload_n 0 (some t0) dX11_tries_217 rfl (ch_iload 12 _ dX11_tries_218 rfl (ch_iv yX11_drop prog_2_method_18_code 2 none (ci := 11) (q := (RX11, TX11, 14)) (b := t0) (d' := 4) (av := [.int v31]) (rest := []) rfl dX11_tries_220 q1290 q1292 rfl qs64 q1293 can_X11_drop (Nat.le_trans (Nat.le_of_ble_eq_true rfl) (Nat.le_add_left 713 d)) (Nat.le_of_ble_eq_true rfl) (ch_rts hb40) (cp_kV (w1 := p41) (fun Q' hq => s_X11_drop hp42 hq) ?_)))
      refine ch_aload_n 0 (some t0) dX11_tries_223 rfl (cp_gR (ci := 11) (k := 5) dX11_tries_224 fl_X11_194 rfl h (fun v43 h => ?_))
      refine cp_gR (ci := 8) (k := 0) dX11_tries_227 fl_X11_318 rfl h (fun v44 h => ?_)
      refine ch_iload 7 _ dX11_tries_230 rfl (ch_aload_n 0 (some t0) dX11_tries_232 rfl (cp_gR (ci := 11) (k := 5) dX11_tries_233 fl_X11_194 rfl h (fun v45 h => ?_)))
      refine cp_gI (ci := 8) (k := 1) dX11_tries_236 fl_X11_173 rfl h (fun v46 h => ?_)
      refine cp_iast (t := 21) dX11_tries_239 rfl (Nat.le_of_ble_eq_true rfl) rfl h (fun w47 h => ?_)
      obtain ⟨_, hb48, h⟩ := ch_bd h
      obtain ⟨p49, hp50, h⟩ := ch_bd h
      refine ch_aload_n 0 (some t0) dX11_tries_240 rfl (ch_aload 8 x8 dX11_tries_241 rfl (ch_iload 9 _ dX11_tries_243 rfl (ch_iv yX11_join prog_2_method_24_code 4 none (ci := 11) (q := (RX11, TX11, 14)) (b := t0) (d' := 2) (av := [va_rf x8, .int x9]) (rest := []) rfl dX11_tries_245 q1275 q1277 rfl qs61 q1278 can_X11_join (Nat.le_trans (Nat.le_of_ble_eq_true rfl) (Nat.le_add_left 713 d)) (Nat.le_of_ble_eq_true rfl) (ch_rts hb48) (cp_kV (w1 := p49) (fun Q' hq => s_X11_join hp50 hq) ?_))))
      obtain rfl := Option.some.inj h
      exact ch_return dX11_tries_248 rfl hk
    · subst h
      exact ch_th rfl hk
  · subst h
    exact ch_th rfl hk

def c_X11_tries_129 (rc : Nat → Nat → (Option Nat) → ch_W → Option (Except Nat Unit × ch_W)) (g : State) (t0 : Nat) (x1 : Option Nat) (x5 : Int32) (x6 : Int32) (x7 : Int32) (x8 : Option Nat) (x9 : Int32) (x10 : Int32) (y0 : Nat) (w : ch_W) : Option (Except Nat Unit × ch_W) := c_X11_tries_130 rc g t0 x1 x5 x6 x7 x8 x9 x10 0 y0 w
theorem s_X11_tries_129 {g : State} {d : Nat} {rc : Nat → Nat → (Option Nat) → ch_W → Option (Except Nat Unit × ch_W)} (hr0 : ∀ {t0 : Nat} {z0 : Option Nat} {w : ch_W} {p : Except Nat Unit × ch_W} {Q : Outcome → ch_W → Prop}, rc 0 t0 z0 w = some p → ch_xV Q p → ch_CT g true yX11_block (d + 712) [.ref t0, va_rf z0] (w) Q)  {t0 : Nat} {x1 : Option Nat} {x5 : Int32} {x6 : Int32} {x7 : Int32} {x8 : Option Nat} {x9 : Int32} {x10 : Int32} {y0 : Nat} {w : ch_W} {res : Except Nat Unit × ch_W} {Q : Outcome → ch_W → Prop} (h : c_X11_tries_129 rc g t0 x1 x5 x6 x7 x8 x9 x10 y0 w = some res) (hk : (ch_xV Q) res) : ch_FT g true mX11_tries (d + 713) 129 [some (va_rf (some t0)), some (va_rf x1), none, none, none, some (.int x5), some (.int x6), some (.int x7), some (va_rf x8), some (.int x9), some (.int x10), none, none] [va_rf (some y0)] (w) Q := by
  unfold c_X11_tries_129 at h
  exact ch_iconst _ 0 dX11_tries_129 rfl (ch_FT.wk (ch_wS (ch_wS (ch_wN (ch_wN (ch_wN (ch_wS (ch_wS (ch_wS (ch_wS (ch_wS (ch_wS (ch_wN (ch_wN ch_w0))))))))))))) (s_X11_tries_130 hr0 h hk))

def c_X11_tries (rc : Nat → Nat → (Option Nat) → ch_W → Option (Except Nat Unit × ch_W)) (g : State) (t0 : Nat) (x1 : Option Nat) (w : ch_W) : Option (Except Nat Unit × ch_W) := (ch_gI w (some t0) 12 fX11_here).bind fun v1 => (ch_rc w (some t0) 12).bind fun _ => (c_X11_held t0 w).bind fun p3 => (ch_gI p3.2 (some t0) 12 fX11_isDead).bind fun v5 => (ch_gR p3.2 (some t0) 12 fX11_code).bind fun v6 => (ch_gI p3.2 v6 9 fX8_size).bind fun v7 => (ch_gR p3.2 x1 10 fX9_first).bind fun v8 => (ch_rc p3.2 (some t0) 12).bind fun _ => ch_tb (rc 0 t0 v8 p3.2) (fun a w => (.error a, w)) fun _ w11 => (ch_gR w11 (some t0) 12 fX11_code).bind fun v12 => (ch_gI w11 v12 9 fX8_size).bind fun v13 => (ch_rc w11 (some t0) 12).bind fun _ => (c_X11_add t0 28 0 w11).bind fun p15 => (ch_gR p15 (some t0) 12 fX11_code).bind fun v17 => (ch_gI p15 v17 9 fX8_size).bind fun v18 => (ch_rc p15 (some t0) 12).bind fun _ => (c_X11_held t0 p15).bind fun p20 => (ch_gI p20.2 (some t0) 12 fX11_isDead).bind fun v22 => (ch_gR p20.2 (some t0) 12 fX11_set).bind fun v23 => (ch_le p20.2 p3.1 23).bind fun v24 => (ch_cp p20.2 23 p3.1 0 v23 0 v24).bind fun w25 => (ch_bit v5).bind fun _ => (ch_pI w25 (some t0) 12 fX11_isDead v5).bind fun w26 => (ch_pI w26 (some t0) 12 fX11_here v1).bind fun w27 => (ch_gI w27 x1 10 fX9_type).bind fun v28 => (ch_rc w27 (some t0) 12).bind fun _ => (c_X11_typeOf t0 v28 w27).bind fun v30 => if v30 < 0 then (c_X11_tries_129 rc g t0 x1 v7 v13 (v18 - 1) p20.1 v22 v30 t0 w27) else ((ch_gR w27 (some t0) 12 fX11_names).bind fun v32 => (ch_gI w27 x1 10 fX9_name).bind fun v33 => (ch_rc w27 v32 9).bind fun b35 => (c_X8_has b35 v33 w27).bind fun v36 => if v36 = 0 then (c_X11_tries_130 rc g t0 x1 v7 v13 (v18 - 1) p20.1 v22 v30 1 t0 w27) else (c_X11_tries_129 rc g t0 x1 v7 v13 (v18 - 1) p20.1 v22 v30 t0 w27))
theorem s_X11_tries {g : State} {d : Nat} {rc : Nat → Nat → (Option Nat) → ch_W → Option (Except Nat Unit × ch_W)} (hr0 : ∀ {t0 : Nat} {z0 : Option Nat} {w : ch_W} {p : Except Nat Unit × ch_W} {Q : Outcome → ch_W → Prop}, rc 0 t0 z0 w = some p → ch_xV Q p → ch_CT g true yX11_block (d + 712) [.ref t0, va_rf z0] (w) Q)  {t0 : Nat} {x1 : Option Nat} {w : ch_W} {res : Except Nat Unit × ch_W} {Q : Outcome → ch_W → Prop} (h : c_X11_tries rc g t0 x1 w = some res) (hk : (ch_xV Q) res) : ch_CT g true yX11_tries (d + 713) [.ref t0, va_rf x1] (w) Q := by
  unfold c_X11_tries at h
  refine ch_ctL mX11_tries (ls := [some (va_rf (some t0)), some (va_rf x1), none, none, none, none, none, none, none, none, none, none, none]) q1289 rfl (ch_lyr (r := some t0) (ch_lyr (r := x1) ch_ly0)) (Nat.le_of_ble_eq_true rfl) rfl ?_
  refine ch_aload_n 0 (some t0) dX11_tries_0 rfl (cp_gI (ci := 11) (k := 6) dX11_tries_1 fl_X11_88 rfl h (fun v1 h => ?_))
  obtain ⟨_, hb2, h⟩ := ch_bd h
  obtain ⟨p3, hp4, h⟩ := ch_bd h
  refine ch_istore_n 2 _ (ls1 := [some (va_rf (some t0)), some (va_rf x1), some (.int v1), none, none, none, none, none, none, none, none, none, none]) dX11_tries_4 (Nat.le_of_ble_eq_true rfl) (ch_s1o rfl rfl) (ch_aload_n 0 (some t0) dX11_tries_5 rfl (ch_iv yX11_held prog_2_method_23_code 2 (some (.array .boolean)) (ci := 11) (q := (RX11, TX11, 14)) (b := t0) (d' := 2) (av := []) (rest := []) rfl dX11_tries_6 q1271 q1273 rfl qs60 q1274 can_X11_held (Nat.le_trans (Nat.le_of_ble_eq_true rfl) (Nat.le_add_left 713 d)) (Nat.le_of_ble_eq_true rfl) (ch_rts hb2) (cp_kR (v := p3.1) (w1 := p3.2) (fun Q' hq => s_X11_held hp4 hq) ?_)))
  refine ch_astore_n 3 p3.1 (ls1 := [some (va_rf (some t0)), some (va_rf x1), some (.int v1), some (va_rf p3.1), none, none, none, none, none, none, none, none, none]) dX11_tries_9 (Nat.le_of_ble_eq_true rfl) rfl (ch_aload_n 0 (some t0) dX11_tries_10 rfl (cp_gI (ci := 11) (k := 10) dX11_tries_11 fl_X11_204 rfl h (fun v5 h => ?_)))
  refine ch_istore 4 _ (ls1 := [some (va_rf (some t0)), some (va_rf x1), some (.int v1), some (va_rf p3.1), some (.int v5), none, none, none, none, none, none, none, none]) dX11_tries_14 (Nat.le_of_ble_eq_true rfl) (ch_s1o rfl rfl) (ch_aload_n 0 (some t0) dX11_tries_16 rfl (cp_gR (ci := 11) (k := 5) dX11_tries_17 fl_X11_194 rfl h (fun v6 h => ?_)))
  refine cp_gI (ci := 8) (k := 1) dX11_tries_20 fl_X11_173 rfl h (fun v7 h => ?_)
  refine ch_istore 5 _ (ls1 := [some (va_rf (some t0)), some (va_rf x1), some (.int v1), some (va_rf p3.1), some (.int v5), some (.int v7), none, none, none, none, none, none, none]) dX11_tries_23 (Nat.le_of_ble_eq_true rfl) rfl (ch_aload_n 0 (some t0) dX11_tries_25 rfl (ch_aload_n 1 x1 dX11_tries_26 rfl (cp_gR (ci := 9) (k := 6) dX11_tries_27 fl_X11_312 rfl h (fun v8 h => ?_))))
  obtain ⟨_, hb9, h⟩ := ch_bd h
  refine ch_iv yX11_block prog_2_method_17_code 4 none (ci := 11) (q := (RX11, TX11, 14)) (b := t0) (d' := (d + 712)) (av := [va_rf v8]) (rest := []) rfl dX11_tries_30 q1185 q1187 rfl qs44 q1188 can_X11_block (Nat.le_refl _) (Nat.le_of_ble_eq_true rfl) (ch_rts hb9) (cp_tV h (fun p hp Q' hq => hr0 hp hq) (fun w11 h => ?_) (fun a w1 h => ?_))
  · refine ch_aload_n 0 (some t0) dX11_tries_33 rfl (cp_gR (ci := 11) (k := 5) dX11_tries_34 fl_X11_194 rfl h (fun v12 h => ?_))
    refine cp_gI (ci := 8) (k := 1) dX11_tries_37 fl_X11_173 rfl h (fun v13 h => ?_)
    obtain ⟨_, hb14, h⟩ := ch_bd h
    obtain ⟨p15, hp16, h⟩ := ch_bd h
    refine ch_istore 6 _ (ls1 := [some (va_rf (some t0)), some (va_rf x1), some (.int v1), some (va_rf p3.1), some (.int v5), some (.int v7), some (.int v13), none, none, none, none, none, none]) dX11_tries_40 (Nat.le_of_ble_eq_true rfl) rfl (ch_aload_n 0 (some t0) dX11_tries_42 rfl (ch_bipush _ 28 dX11_tries_43 rfl (ch_iconst _ 0 dX11_tries_45 rfl (ch_iv yX11_add prog_2_method_14_code 3 none (ci := 11) (q := (RX11, TX11, 14)) (b := t0) (d' := 3) (av := [.int 28, .int 0]) (rest := []) rfl dX11_tries_46 q1214 q1216 rfl qs50 q1217 can_X11_add (Nat.le_trans (Nat.le_of_ble_eq_true rfl) (Nat.le_add_left 713 d)) (Nat.le_of_ble_eq_true rfl) (ch_rts hb14) (cp_kV (w1 := p15) (fun Q' hq => s_X11_add hp16 hq) ?_)))))
    refine ch_aload_n 0 (some t0) dX11_tries_49 rfl (cp_gR (ci := 11) (k := 5) dX11_tries_50 fl_X11_194 rfl h (fun v17 h => ?_))
    refine cp_gI (ci := 8) (k := 1) dX11_tries_53 fl_X11_173 rfl h (fun v18 h => ?_)
    obtain ⟨_, hb19, h⟩ := ch_bd h
    obtain ⟨p20, hp21, h⟩ := ch_bd h
    refine ch_iconst _ 1 dX11_tries_56 rfl (ch_isub _ _ dX11_tries_57 (ch_istore 7 _ (ls1 := [some (va_rf (some t0)), some (va_rf x1), some (.int v1), some (va_rf p3.1), some (.int v5), some (.int v7), some (.int v13), some (.int (v18 - 1)), none, none, none, none, none]) dX11_tries_58 (Nat.le_of_ble_eq_true rfl) rfl (ch_aload_n 0 (some t0) dX11_tries_60 rfl (ch_iv yX11_held prog_2_method_23_code 2 (some (.array .boolean)) (ci := 11) (q := (RX11, TX11, 14)) (b := t0) (d' := 2) (av := []) (rest := []) rfl dX11_tries_61 q1271 q1273 rfl qs60 q1274 can_X11_held (Nat.le_trans (Nat.le_of_ble_eq_true rfl) (Nat.le_add_left 713 d)) (Nat.le_of_ble_eq_true rfl) (ch_rts hb19) (cp_kR (v := p20.1) (w1 := p20.2) (fun Q' hq => s_X11_held hp21 hq) ?_)))))
    refine ch_astore 8 p20.1 (ls1 := [some (va_rf (some t0)), some (va_rf x1), some (.int v1), some (va_rf p3.1), some (.int v5), some (.int v7), some (.int v13), some (.int (v18 - 1)), some (va_rf p20.1), none, none, none, none]) dX11_tries_64 (Nat.le_of_ble_eq_true rfl) rfl (ch_aload_n 0 (some t0) dX11_tries_66 rfl (cp_gI (ci := 11) (k := 10) dX11_tries_67 fl_X11_204 rfl h (fun v22 h => ?_)))
    refine ch_istore 9 _ (ls1 := [some (va_rf (some t0)), some (va_rf x1), some (.int v1), some (va_rf p3.1), some (.int v5), some (.int v7), some (.int v13), some (.int (v18 - 1)), some (va_rf p20.1), some (.int v22), none, none, none]) dX11_tries_70 (Nat.le_of_ble_eq_true rfl) (ch_s1o rfl rfl) (ch_aload_n 3 p3.1 dX11_tries_72 rfl (ch_iconst _ 0 dX11_tries_73 rfl (ch_aload_n 0 (some t0) dX11_tries_74 rfl (cp_gR (ci := 11) (k := 9) dX11_tries_75 fl_X11_28 rfl h (fun v23 h => ?_)))))
    refine ch_iconst _ 0 dX11_tries_78 rfl (ch_aload_n 3 p3.1 dX11_tries_79 rfl (cp_alen (t := 23) dX11_tries_80 rfl rfl h (fun v24 h => ?_)))
    refine cp_copy (t := 23) dX11_tries_81 rfl (Nat.le_of_ble_eq_true rfl) ft_23 rfl rfl q1183 (Nat.le_trans (Nat.le_of_ble_eq_true rfl) (Nat.le_add_left 713 d)) (Nat.le_of_ble_eq_true rfl) h (fun w25 h => ?_)
    refine ch_aload_n 0 (some t0) dX11_tries_84 rfl (ch_iload 4 _ dX11_tries_85 rfl (cp_pZ (ci := 11) (k := 10) dX11_tries_87 fl_X11_204 rfl rfl rfl h (fun w26 h => ?_)))
    refine ch_aload_n 0 (some t0) dX11_tries_90 rfl (ch_iload_n 2 _ dX11_tries_91 rfl (cp_pI (ci := 11) (k := 6) dX11_tries_92 fl_X11_88 rfl rfl rfl h (fun w27 h => ?_)))
    refine ch_aload_n 0 (some t0) dX11_tries_95 rfl (ch_aload_n 1 x1 dX11_tries_96 rfl (cp_gI (ci := 9) (k := 2) dX11_tries_97 fl_X11_284 rfl h (fun v28 h => ?_)))
    obtain ⟨_, hb29, h⟩ := ch_bd h
    obtain ⟨v30, hp31, h⟩ := ch_bd h
    refine ch_iv yX11_typeOf prog_2_method_5_code 3 (some .int) (ci := 11) (q := (RX11, TX11, 14)) (b := t0) (d' := 6) (av := [.int v28]) (rest := []) rfl dX11_tries_100 q1136 q1138 rfl qs38 q1139 can_X11_typeOf (Nat.le_trans (Nat.le_of_ble_eq_true rfl) (Nat.le_add_left 713 d)) (Nat.le_of_ble_eq_true rfl) (ch_rts hb29) (cp_kI (v := v30) (w1 := w27) (fun Q' hq => s_X11_typeOf hp31 hq) ?_)
    refine ch_istore 10 _ (ls1 := [some (va_rf (some t0)), some (va_rf x1), some (.int v1), some (va_rf p3.1), some (.int v5), some (.int v7), some (.int v13), some (.int (v18 - 1)), some (va_rf p20.1), some (.int v22), some (.int v30), none, none]) dX11_tries_103 (Nat.le_of_ble_eq_true rfl) rfl (ch_aload_n 0 (some t0) dX11_tries_105 rfl (ch_iload 10 _ dX11_tries_106 rfl (cp_if_lt _ (tgt := 129) dX11_tries_108 rfl h (fun h => ?_) (fun h => ?_))))
    · exact ch_FT.wk (ch_wS (ch_wS (ch_wN (ch_wN (ch_wN (ch_wS (ch_wS (ch_wS (ch_wS (ch_wS (ch_wS (ch_wN (ch_wN ch_w0))))))))))))) (s_X11_tries_129 hr0 h hk)
    · refine ch_aload_n 0 (some t0) dX11_tries_111 rfl (cp_gR (ci := 11) (k := 7) dX11_tries_112 fl_X11_21 rfl h (fun v32 h => ?_))
      refine ch_aload_n 1 x1 dX11_tries_115 rfl (cp_gI (ci := 9) (k := 3) dX11_tries_116 fl_X11_285 rfl h (fun v33 h => ?_))
      obtain ⟨b35, hb34, h⟩ := ch_bd h
      obtain ⟨v36, hp37, h⟩ := ch_bd h
      refine ch_iv yX8_has prog_9_method_5_code 2 (some .boolean) (ci := 8) (q := (RX8, TX8, 2)) (b := b35) (d' := 3) (av := [.int v33]) (rest := [va_rf (some t0)]) (by rw [ch_rs hb34]; rfl) dX11_tries_119 q1197 q1198 rfl q1199 q1200 can_X8_has (Nat.le_trans (Nat.le_of_ble_eq_true rfl) (Nat.le_add_left 713 d)) (ch_hw (Nat.le_of_ble_eq_true rfl)) (ch_rtg hb34) (cp_kI (v := v36) (w1 := w27) (fun Q' hq => s_X8_has hp37 hq) ?_)
      refine cp_if_ne _ (tgt := 129) dX11_tries_122 rfl h (fun h => ?_) (fun h => ?_)
      · exact ch_FT.wk (ch_wS (ch_wS (ch_wN (ch_wN (ch_wN (ch_wS (ch_wS (ch_wS (ch_wS (ch_wS (ch_wS (ch_wN (ch_wN ch_w0))))))))))))) (s_X11_tries_129 hr0 h hk)
      · exact ch_iconst _ 1 dX11_tries_125 rfl (ch_goto 130 dX11_tries_126 rfl (ch_FT.wk (ch_wS (ch_wS (ch_wN (ch_wN (ch_wN (ch_wS (ch_wS (ch_wS (ch_wS (ch_wS (ch_wS (ch_wN (ch_wN ch_w0))))))))))))) (s_X11_tries_130 hr0 h hk)))
  · subst h
    exact ch_th rfl hk

def cr_CS (g : State) : Nat → Nat → Nat → (Option Nat) → ch_W → Option (Except Nat Unit × ch_W)
  | 0 => fun _ _ _ _ => none
  | d + 1 => fun k t0 z0 w => if k = 0 then c_X11_block (cr_CS g d) g t0 z0 w else if k = 1 then c_X11_statement (cr_CS g d) g t0 z0 w else if k = 2 then c_X11_either (cr_CS g d) g t0 z0 w else if k = 3 then c_X11_loop (cr_CS g d) g t0 z0 w else c_X11_tries (cr_CS g d) g t0 z0 w
theorem sr_CS {g : State} : ∀ d : Nat, (∀ {t0 : Nat} {z0 : Option Nat} {w : ch_W} {p : Except Nat Unit × ch_W} {Q : Outcome → ch_W → Prop}, cr_CS g d 0 t0 z0 w = some p → ch_xV Q p → ch_CT g true yX11_block (d + 712) [.ref t0, va_rf z0] (w) Q) ∧ (∀ {t0 : Nat} {z0 : Option Nat} {w : ch_W} {p : Except Nat Unit × ch_W} {Q : Outcome → ch_W → Prop}, cr_CS g d 1 t0 z0 w = some p → ch_xV Q p → ch_CT g true yX11_statement (d + 712) [.ref t0, va_rf z0] (w) Q) ∧ (∀ {t0 : Nat} {z0 : Option Nat} {w : ch_W} {p : Except Nat Unit × ch_W} {Q : Outcome → ch_W → Prop}, cr_CS g d 2 t0 z0 w = some p → ch_xV Q p → ch_CT g true yX11_either (d + 712) [.ref t0, va_rf z0] (w) Q) ∧ (∀ {t0 : Nat} {z0 : Option Nat} {w : ch_W} {p : Except Nat Unit × ch_W} {Q : Outcome → ch_W → Prop}, cr_CS g d 3 t0 z0 w = some p → ch_xV Q p → ch_CT g true yX11_loop (d + 712) [.ref t0, va_rf z0] (w) Q) ∧ (∀ {t0 : Nat} {z0 : Option Nat} {w : ch_W} {p : Except Nat Unit × ch_W} {Q : Outcome → ch_W → Prop}, cr_CS g d 4 t0 z0 w = some p → ch_xV Q p → ch_CT g true yX11_tries (d + 712) [.ref t0, va_rf z0] (w) Q) := by
  intro d
  induction d with
  | zero => exact ⟨fun h _ => (by cases h), fun h _ => (by cases h), fun h _ => (by cases h), fun h _ => (by cases h), fun h _ => (by cases h)⟩
  | succ d ih =>
    exact ⟨fun {t0 z0 w p Q} h hk => s_X11_block ih.2.1 h hk,
      fun {t0 z0 w p Q} h hk => s_X11_statement ih.2.2.1 ih.2.2.2.1 ih.2.2.2.2 h hk,
      fun {t0 z0 w p Q} h hk => s_X11_either ih.1 h hk,
      fun {t0 z0 w p Q} h hk => s_X11_loop ih.1 h hk,
      fun {t0 z0 w p Q} h hk => s_X11_tries ih.1 h hk⟩
theorem sr_X11_block {g : State} {t0 : Nat} {z0 : Option Nat} {w : ch_W} {p : Except Nat Unit × ch_W} {Q : Outcome → ch_W → Prop} (h : cr_CS g 110 0 t0 z0 w = some p) (hk : ch_xV Q p) : ch_CT g true yX11_block 822 [.ref t0, va_rf z0] (w) Q := (sr_CS 110).1 h hk
theorem sr_X11_statement {g : State} {t0 : Nat} {z0 : Option Nat} {w : ch_W} {p : Except Nat Unit × ch_W} {Q : Outcome → ch_W → Prop} (h : cr_CS g 110 1 t0 z0 w = some p) (hk : ch_xV Q p) : ch_CT g true yX11_statement 822 [.ref t0, va_rf z0] (w) Q := (sr_CS 110).2.1 h hk
theorem sr_X11_either {g : State} {t0 : Nat} {z0 : Option Nat} {w : ch_W} {p : Except Nat Unit × ch_W} {Q : Outcome → ch_W → Prop} (h : cr_CS g 110 2 t0 z0 w = some p) (hk : ch_xV Q p) : ch_CT g true yX11_either 822 [.ref t0, va_rf z0] (w) Q := (sr_CS 110).2.2.1 h hk
theorem sr_X11_loop {g : State} {t0 : Nat} {z0 : Option Nat} {w : ch_W} {p : Except Nat Unit × ch_W} {Q : Outcome → ch_W → Prop} (h : cr_CS g 110 3 t0 z0 w = some p) (hk : ch_xV Q p) : ch_CT g true yX11_loop 822 [.ref t0, va_rf z0] (w) Q := (sr_CS 110).2.2.2.1 h hk
theorem sr_X11_tries {g : State} {t0 : Nat} {z0 : Option Nat} {w : ch_W} {p : Except Nat Unit × ch_W} {Q : Outcome → ch_W → Prop} (h : cr_CS g 110 4 t0 z0 w = some p) (hk : ch_xV Q p) : ch_CT g true yX11_tries 822 [.ref t0, va_rf z0] (w) Q := (sr_CS 110).2.2.2.2 h hk

theorem bX11_checkMethod_0 : ch_ck cX11_checkMethod 0 [42, 43, 181, 0, 199, 42, 44, 181, 0, 201, 44, 187, 0, 18, 89, 183] := ch_ckof (by decide +kernel)
theorem bX11_checkMethod_1 : ch_ck cX11_checkMethod 16 [0, 20, 181, 0, 203, 42, 44, 180, 0, 203, 181, 0, 194, 42, 180, 0] := ch_ckof (by decide +kernel)
theorem bX11_checkMethod_2 : ch_ck cX11_checkMethod 32 [21, 3, 181, 0, 173, 42, 180, 0, 25, 3, 181, 0, 173, 42, 3, 181] := ch_ckof (by decide +kernel)
theorem bX11_checkMethod_3 : ch_ck cX11_checkMethod 48 [0, 204, 3, 62, 29, 44, 180, 0, 177, 180, 0, 173, 162, 0, 34, 42] := ch_ckof (by decide +kernel)
theorem bX11_checkMethod_4 : ch_ck cX11_checkMethod 64 [44, 180, 0, 177, 29, 182, 0, 175, 42, 44, 180, 0, 172, 29, 182, 0] := ch_ckof (by decide +kernel)
theorem bX11_checkMethod_5 : ch_ck cX11_checkMethod 80 [175, 182, 0, 152, 4, 182, 0, 207, 132, 3, 1, 167, 255, 217, 42, 44] := ch_ckof (by decide +kernel)
theorem bX11_checkMethod_6 : ch_ck cX11_checkMethod 96 [180, 0, 211, 182, 0, 215, 42, 180, 0, 204, 154, 0, 12, 44, 180, 0] := ch_ckof (by decide +kernel)
theorem bX11_checkMethod_7 : ch_ck cX11_checkMethod 112 [156, 16, 252, 160, 0, 7, 4, 167, 0, 4, 3, 44, 180, 0, 218, 184] := ch_ckof (by decide +kernel)
theorem bX11_checkMethod_8 : ch_ck cX11_checkMethod 128 [0, 91, 42, 16, 30, 182, 0, 221, 177] := ch_ckof (by decide +kernel)
theorem dX11_checkMethod_0 : decode cX11_checkMethod 0 = .ok (.aload_n 0, 1) := dz_42 (bX11_checkMethod_0 0 _ rfl)
theorem dX11_checkMethod_1 : decode cX11_checkMethod 1 = .ok (.aload_n 1, 1) := dz_43 (bX11_checkMethod_0 1 _ rfl)
theorem dX11_checkMethod_2 : decode cX11_checkMethod 2 = .ok (.putfield 199, 3) := dz_181 (bX11_checkMethod_0 2 _ rfl) (bX11_checkMethod_0 3 _ rfl) (bX11_checkMethod_0 4 _ rfl)
theorem dX11_checkMethod_5 : decode cX11_checkMethod 5 = .ok (.aload_n 0, 1) := dz_42 (bX11_checkMethod_0 5 _ rfl)
theorem dX11_checkMethod_6 : decode cX11_checkMethod 6 = .ok (.aload_n 2, 1) := dz_44 (bX11_checkMethod_0 6 _ rfl)
theorem dX11_checkMethod_7 : decode cX11_checkMethod 7 = .ok (.putfield 201, 3) := dz_181 (bX11_checkMethod_0 7 _ rfl) (bX11_checkMethod_0 8 _ rfl) (bX11_checkMethod_0 9 _ rfl)
theorem dX11_checkMethod_10 : decode cX11_checkMethod 10 = .ok (.aload_n 2, 1) := dz_44 (bX11_checkMethod_0 10 _ rfl)
theorem dX11_checkMethod_11 : decode cX11_checkMethod 11 = .ok (.new 18, 3) := dz_187 (bX11_checkMethod_0 11 _ rfl) (bX11_checkMethod_0 12 _ rfl) (bX11_checkMethod_0 13 _ rfl)
theorem dX11_checkMethod_14 : decode cX11_checkMethod 14 = .ok (.dup, 1) := dz_89 (bX11_checkMethod_0 14 _ rfl)
theorem dX11_checkMethod_15 : decode cX11_checkMethod 15 = .ok (.invokespecial 20, 3) := dz_183 (bX11_checkMethod_0 15 _ rfl) (bX11_checkMethod_1 0 _ rfl) (bX11_checkMethod_1 1 _ rfl)
theorem dX11_checkMethod_18 : decode cX11_checkMethod 18 = .ok (.putfield 203, 3) := dz_181 (bX11_checkMethod_1 2 _ rfl) (bX11_checkMethod_1 3 _ rfl) (bX11_checkMethod_1 4 _ rfl)
theorem dX11_checkMethod_21 : decode cX11_checkMethod 21 = .ok (.aload_n 0, 1) := dz_42 (bX11_checkMethod_1 5 _ rfl)
theorem dX11_checkMethod_22 : decode cX11_checkMethod 22 = .ok (.aload_n 2, 1) := dz_44 (bX11_checkMethod_1 6 _ rfl)
theorem dX11_checkMethod_23 : decode cX11_checkMethod 23 = .ok (.getfield 203, 3) := dz_180 (bX11_checkMethod_1 7 _ rfl) (bX11_checkMethod_1 8 _ rfl) (bX11_checkMethod_1 9 _ rfl)
theorem dX11_checkMethod_26 : decode cX11_checkMethod 26 = .ok (.putfield 194, 3) := dz_181 (bX11_checkMethod_1 10 _ rfl) (bX11_checkMethod_1 11 _ rfl) (bX11_checkMethod_1 12 _ rfl)
theorem dX11_checkMethod_29 : decode cX11_checkMethod 29 = .ok (.aload_n 0, 1) := dz_42 (bX11_checkMethod_1 13 _ rfl)
theorem dX11_checkMethod_30 : decode cX11_checkMethod 30 = .ok (.getfield 21, 3) := dz_180 (bX11_checkMethod_1 14 _ rfl) (bX11_checkMethod_1 15 _ rfl) (bX11_checkMethod_2 0 _ rfl)
theorem dX11_checkMethod_33 : decode cX11_checkMethod 33 = .ok (.iconst 0, 1) := dz_3 (bX11_checkMethod_2 1 _ rfl)
theorem dX11_checkMethod_34 : decode cX11_checkMethod 34 = .ok (.putfield 173, 3) := dz_181 (bX11_checkMethod_2 2 _ rfl) (bX11_checkMethod_2 3 _ rfl) (bX11_checkMethod_2 4 _ rfl)
theorem dX11_checkMethod_37 : decode cX11_checkMethod 37 = .ok (.aload_n 0, 1) := dz_42 (bX11_checkMethod_2 5 _ rfl)
theorem dX11_checkMethod_38 : decode cX11_checkMethod 38 = .ok (.getfield 25, 3) := dz_180 (bX11_checkMethod_2 6 _ rfl) (bX11_checkMethod_2 7 _ rfl) (bX11_checkMethod_2 8 _ rfl)
theorem dX11_checkMethod_41 : decode cX11_checkMethod 41 = .ok (.iconst 0, 1) := dz_3 (bX11_checkMethod_2 9 _ rfl)
theorem dX11_checkMethod_42 : decode cX11_checkMethod 42 = .ok (.putfield 173, 3) := dz_181 (bX11_checkMethod_2 10 _ rfl) (bX11_checkMethod_2 11 _ rfl) (bX11_checkMethod_2 12 _ rfl)
theorem dX11_checkMethod_45 : decode cX11_checkMethod 45 = .ok (.aload_n 0, 1) := dz_42 (bX11_checkMethod_2 13 _ rfl)
theorem dX11_checkMethod_46 : decode cX11_checkMethod 46 = .ok (.iconst 0, 1) := dz_3 (bX11_checkMethod_2 14 _ rfl)
theorem dX11_checkMethod_47 : decode cX11_checkMethod 47 = .ok (.putfield 204, 3) := dz_181 (bX11_checkMethod_2 15 _ rfl) (bX11_checkMethod_3 0 _ rfl) (bX11_checkMethod_3 1 _ rfl)
theorem dX11_checkMethod_50 : decode cX11_checkMethod 50 = .ok (.iconst 0, 1) := dz_3 (bX11_checkMethod_3 2 _ rfl)
theorem dX11_checkMethod_51 : decode cX11_checkMethod 51 = .ok (.istore_n 3, 1) := dz_62 (bX11_checkMethod_3 3 _ rfl)
theorem dX11_checkMethod_52 : decode cX11_checkMethod 52 = .ok (.iload_n 3, 1) := dz_29 (bX11_checkMethod_3 4 _ rfl)
theorem dX11_checkMethod_53 : decode cX11_checkMethod 53 = .ok (.aload_n 2, 1) := dz_44 (bX11_checkMethod_3 5 _ rfl)
theorem dX11_checkMethod_54 : decode cX11_checkMethod 54 = .ok (.getfield 177, 3) := dz_180 (bX11_checkMethod_3 6 _ rfl) (bX11_checkMethod_3 7 _ rfl) (bX11_checkMethod_3 8 _ rfl)
theorem dX11_checkMethod_57 : decode cX11_checkMethod 57 = .ok (.getfield 173, 3) := dz_180 (bX11_checkMethod_3 9 _ rfl) (bX11_checkMethod_3 10 _ rfl) (bX11_checkMethod_3 11 _ rfl)
theorem dX11_checkMethod_60 : decode cX11_checkMethod 60 = .ok (.if_icmp .ge 34, 3) := dz_162 (bX11_checkMethod_3 12 _ rfl) (bX11_checkMethod_3 13 _ rfl) (bX11_checkMethod_3 14 _ rfl)
theorem dX11_checkMethod_63 : decode cX11_checkMethod 63 = .ok (.aload_n 0, 1) := dz_42 (bX11_checkMethod_3 15 _ rfl)
theorem dX11_checkMethod_64 : decode cX11_checkMethod 64 = .ok (.aload_n 2, 1) := dz_44 (bX11_checkMethod_4 0 _ rfl)
theorem dX11_checkMethod_65 : decode cX11_checkMethod 65 = .ok (.getfield 177, 3) := dz_180 (bX11_checkMethod_4 1 _ rfl) (bX11_checkMethod_4 2 _ rfl) (bX11_checkMethod_4 3 _ rfl)
theorem dX11_checkMethod_68 : decode cX11_checkMethod 68 = .ok (.iload_n 3, 1) := dz_29 (bX11_checkMethod_4 4 _ rfl)
theorem dX11_checkMethod_69 : decode cX11_checkMethod 69 = .ok (.invokevirtual 175, 3) := dz_182 (bX11_checkMethod_4 5 _ rfl) (bX11_checkMethod_4 6 _ rfl) (bX11_checkMethod_4 7 _ rfl)
theorem dX11_checkMethod_72 : decode cX11_checkMethod 72 = .ok (.aload_n 0, 1) := dz_42 (bX11_checkMethod_4 8 _ rfl)
theorem dX11_checkMethod_73 : decode cX11_checkMethod 73 = .ok (.aload_n 2, 1) := dz_44 (bX11_checkMethod_4 9 _ rfl)
theorem dX11_checkMethod_74 : decode cX11_checkMethod 74 = .ok (.getfield 172, 3) := dz_180 (bX11_checkMethod_4 10 _ rfl) (bX11_checkMethod_4 11 _ rfl) (bX11_checkMethod_4 12 _ rfl)
theorem dX11_checkMethod_77 : decode cX11_checkMethod 77 = .ok (.iload_n 3, 1) := dz_29 (bX11_checkMethod_4 13 _ rfl)
theorem dX11_checkMethod_78 : decode cX11_checkMethod 78 = .ok (.invokevirtual 175, 3) := dz_182 (bX11_checkMethod_4 14 _ rfl) (bX11_checkMethod_4 15 _ rfl) (bX11_checkMethod_5 0 _ rfl)
theorem dX11_checkMethod_81 : decode cX11_checkMethod 81 = .ok (.invokevirtual 152, 3) := dz_182 (bX11_checkMethod_5 1 _ rfl) (bX11_checkMethod_5 2 _ rfl) (bX11_checkMethod_5 3 _ rfl)
theorem dX11_checkMethod_84 : decode cX11_checkMethod 84 = .ok (.iconst 1, 1) := dz_4 (bX11_checkMethod_5 4 _ rfl)
theorem dX11_checkMethod_85 : decode cX11_checkMethod 85 = .ok (.invokevirtual 207, 3) := dz_182 (bX11_checkMethod_5 5 _ rfl) (bX11_checkMethod_5 6 _ rfl) (bX11_checkMethod_5 7 _ rfl)
theorem dX11_checkMethod_88 : decode cX11_checkMethod 88 = .ok (.iinc 3 1, 3) := dz_132 (bX11_checkMethod_5 8 _ rfl) (bX11_checkMethod_5 9 _ rfl) (bX11_checkMethod_5 10 _ rfl)
theorem dX11_checkMethod_91 : decode cX11_checkMethod 91 = .ok (.goto (-39), 3) := dz_167 (bX11_checkMethod_5 11 _ rfl) (bX11_checkMethod_5 12 _ rfl) (bX11_checkMethod_5 13 _ rfl)
theorem dX11_checkMethod_94 : decode cX11_checkMethod 94 = .ok (.aload_n 0, 1) := dz_42 (bX11_checkMethod_5 14 _ rfl)
theorem dX11_checkMethod_95 : decode cX11_checkMethod 95 = .ok (.aload_n 2, 1) := dz_44 (bX11_checkMethod_5 15 _ rfl)
theorem dX11_checkMethod_96 : decode cX11_checkMethod 96 = .ok (.getfield 211, 3) := dz_180 (bX11_checkMethod_6 0 _ rfl) (bX11_checkMethod_6 1 _ rfl) (bX11_checkMethod_6 2 _ rfl)
theorem dX11_checkMethod_99 : decode cX11_checkMethod 99 = .ok (.invokevirtual 215, 3) := dz_182 (bX11_checkMethod_6 3 _ rfl) (bX11_checkMethod_6 4 _ rfl) (bX11_checkMethod_6 5 _ rfl)
theorem dX11_checkMethod_102 : decode cX11_checkMethod 102 = .ok (.aload_n 0, 1) := dz_42 (bX11_checkMethod_6 6 _ rfl)
theorem dX11_checkMethod_103 : decode cX11_checkMethod 103 = .ok (.getfield 204, 3) := dz_180 (bX11_checkMethod_6 7 _ rfl) (bX11_checkMethod_6 8 _ rfl) (bX11_checkMethod_6 9 _ rfl)
theorem dX11_checkMethod_106 : decode cX11_checkMethod 106 = .ok (.ifCond .ne 12, 3) := dz_154 (bX11_checkMethod_6 10 _ rfl) (bX11_checkMethod_6 11 _ rfl) (bX11_checkMethod_6 12 _ rfl)
theorem dX11_checkMethod_109 : decode cX11_checkMethod 109 = .ok (.aload_n 2, 1) := dz_44 (bX11_checkMethod_6 13 _ rfl)
theorem dX11_checkMethod_110 : decode cX11_checkMethod 110 = .ok (.getfield 156, 3) := dz_180 (bX11_checkMethod_6 14 _ rfl) (bX11_checkMethod_6 15 _ rfl) (bX11_checkMethod_7 0 _ rfl)
theorem dX11_checkMethod_113 : decode cX11_checkMethod 113 = .ok (.bipush (-4), 2) := dz_16 (bX11_checkMethod_7 1 _ rfl) (bX11_checkMethod_7 2 _ rfl)
theorem dX11_checkMethod_115 : decode cX11_checkMethod 115 = .ok (.if_icmp .ne 7, 3) := dz_160 (bX11_checkMethod_7 3 _ rfl) (bX11_checkMethod_7 4 _ rfl) (bX11_checkMethod_7 5 _ rfl)
theorem dX11_checkMethod_118 : decode cX11_checkMethod 118 = .ok (.iconst 1, 1) := dz_4 (bX11_checkMethod_7 6 _ rfl)
theorem dX11_checkMethod_119 : decode cX11_checkMethod 119 = .ok (.goto 4, 3) := dz_167 (bX11_checkMethod_7 7 _ rfl) (bX11_checkMethod_7 8 _ rfl) (bX11_checkMethod_7 9 _ rfl)
theorem dX11_checkMethod_122 : decode cX11_checkMethod 122 = .ok (.iconst 0, 1) := dz_3 (bX11_checkMethod_7 10 _ rfl)
theorem dX11_checkMethod_123 : decode cX11_checkMethod 123 = .ok (.aload_n 2, 1) := dz_44 (bX11_checkMethod_7 11 _ rfl)
theorem dX11_checkMethod_124 : decode cX11_checkMethod 124 = .ok (.getfield 218, 3) := dz_180 (bX11_checkMethod_7 12 _ rfl) (bX11_checkMethod_7 13 _ rfl) (bX11_checkMethod_7 14 _ rfl)
theorem dX11_checkMethod_127 : decode cX11_checkMethod 127 = .ok (.invokestatic 91, 3) := dz_184 (bX11_checkMethod_7 15 _ rfl) (bX11_checkMethod_8 0 _ rfl) (bX11_checkMethod_8 1 _ rfl)
theorem dX11_checkMethod_130 : decode cX11_checkMethod 130 = .ok (.aload_n 0, 1) := dz_42 (bX11_checkMethod_8 2 _ rfl)
theorem dX11_checkMethod_131 : decode cX11_checkMethod 131 = .ok (.bipush 30, 2) := dz_16 (bX11_checkMethod_8 3 _ rfl) (bX11_checkMethod_8 4 _ rfl)
theorem dX11_checkMethod_133 : decode cX11_checkMethod 133 = .ok (.invokevirtual 221, 3) := dz_182 (bX11_checkMethod_8 5 _ rfl) (bX11_checkMethod_8 6 _ rfl) (bX11_checkMethod_8 7 _ rfl)
theorem dX11_checkMethod_136 : decode cX11_checkMethod 136 = .ok (.return_, 1) := dz_177 (bX11_checkMethod_8 8 _ rfl)
def c_X11_checkMethod_123 (g : State) (t0 : Nat) (x2 : Option Nat) (y0 : Int32) (w : ch_W) : Option (Except Nat Unit × ch_W) := (ch_gI w x2 8 fX7_closing).bind fun v1 => ch_tb (c_X11_must g y0 v1 w) (fun a w => (.error a, w)) fun _ w3 => (ch_rc w3 (some t0) 12).bind fun _ => (c_X11_add_2 t0 30 w3).bind fun p5 => some ((.ok (), p5))
theorem s_X11_checkMethod_123 {g : State} {t0 : Nat} {x2 : Option Nat} {y0 : Int32} {w : ch_W} {res : Except Nat Unit × ch_W} {Q : Outcome → ch_W → Prop} (h : c_X11_checkMethod_123 g t0 x2 y0 w = some res) (hk : (ch_xV Q) res) : ch_FT g true mX11_checkMethod 823 123 [some (va_rf (some t0)), none, some (va_rf x2), none] [.int y0] (w) Q := by
  unfold c_X11_checkMethod_123 at h
  refine ch_aload_n 2 x2 dX11_checkMethod_123 rfl (cp_gI (ci := 7) (k := 7) dX11_checkMethod_124 fl_X11_218 rfl h (fun v1 h => ?_))
  refine ch_is yX11_must prog_2_method_2_code 2 none (d' := 7) (av := [.int y0, .int v1]) (rest := []) rfl dX11_checkMethod_127 q1123 q1124 q226 q1125 can_X11_must (Nat.le_of_ble_eq_true rfl) (Nat.le_of_ble_eq_true rfl) (cp_tV h (fun p hp Q' hq => s_X11_must hp hq) (fun w3 h => ?_) (fun a w1 h => ?_))
  · obtain ⟨_, hb4, h⟩ := ch_bd h
    obtain ⟨p5, hp6, h⟩ := ch_bd h
    refine ch_aload_n 0 (some t0) dX11_checkMethod_130 rfl (ch_bipush _ 30 dX11_checkMethod_131 rfl (ch_iv yX11_add_2 prog_2_method_13_code 2 none (ci := 11) (q := (RX11, TX11, 14)) (b := t0) (d' := 3) (av := [.int 30]) (rest := []) rfl dX11_checkMethod_133 q1218 q1220 rfl qs51 q1221 can_X11_add_2 (Nat.le_of_ble_eq_true rfl) (Nat.le_of_ble_eq_true rfl) (ch_rts hb4) (cp_kV (w1 := p5) (fun Q' hq => s_X11_add_2 hp6 hq) ?_)))
    obtain rfl := Option.some.inj h
    exact ch_return dX11_checkMethod_136 rfl hk
  · subst h
    exact ch_th rfl hk

def c_X11_checkMethod_118 (g : State) (t0 : Nat) (x2 : Option Nat)  (w : ch_W) : Option (Except Nat Unit × ch_W) := c_X11_checkMethod_123 g t0 x2 1 w
theorem s_X11_checkMethod_118 {g : State} {t0 : Nat} {x2 : Option Nat} {w : ch_W} {res : Except Nat Unit × ch_W} {Q : Outcome → ch_W → Prop} (h : c_X11_checkMethod_118 g t0 x2 w = some res) (hk : (ch_xV Q) res) : ch_FT g true mX11_checkMethod 823 118 [some (va_rf (some t0)), none, some (va_rf x2), none] [] (w) Q := by
  unfold c_X11_checkMethod_118 at h
  exact ch_iconst _ 1 dX11_checkMethod_118 rfl (ch_goto 123 dX11_checkMethod_119 rfl (ch_FT.wk (ch_wS (ch_wN (ch_wS (ch_wN ch_w0)))) (s_X11_checkMethod_123  h hk)))

def c_X11_checkMethod_52 (g : State) (t0 : Nat) (x2 : Option Nat) (x3 : Int32)  (w : ch_W) : Option ((Int32 × ch_W) ⊕ (Except Nat Unit × ch_W)) := (ch_gR w x2 8 fX7_names).bind fun v1 => (ch_gI w v1 9 fX8_size).bind fun v2 => if x3 < v2 then ((ch_gR w x2 8 fX7_names).bind fun v9 => (ch_rc w v9 9).bind fun b11 => (c_X8_get b11 x3 w).bind fun v12 => (ch_gR w x2 8 fX7_types).bind fun v14 => (ch_rc w v14 9).bind fun b16 => (c_X8_get b16 x3 w).bind fun v17 => (ch_rc w (some t0) 12).bind fun _ => (c_X11_typeOf t0 v17 w).bind fun v20 => (ch_rc w (some t0) 12).bind fun _ => (c_X11_declare t0 v12 v20 1 w).bind fun p23 => some (.inl (x3 + 1, p23))) else ((ch_gR w x2 8 fX7_block).bind fun v3 => (ch_rc w (some t0) 12).bind fun _ => ch_tb (cr_CS g 110 0 t0 v3 w) (fun a w => .inr ((.error a, w))) fun _ w6 => (ch_gI w6 (some t0) 12 fX11_isDead).bind fun v7 => if v7 = 0 then ((ch_gI w6 x2 8 fX7_result).bind fun v8 => if v8 = (-4) then ((c_X11_checkMethod_118 g t0 x2 w6).bind fun r => some (.inr (r))) else ((c_X11_checkMethod_123 g t0 x2 0 w6).bind fun r => some (.inr (r)))) else ((c_X11_checkMethod_118 g t0 x2 w6).bind fun r => some (.inr (r))))
theorem s_X11_checkMethod_52 {g : State} {t0 : Nat} {x2 : Option Nat} {x3 : Int32} {w : ch_W} {res : (Int32 × ch_W) ⊕ (Except Nat Unit × ch_W)} {Q : Outcome → ch_W → Prop} (h : c_X11_checkMethod_52 g t0 x2 x3 w = some res) (hk : (ch_sm (fun s => ch_FT g true mX11_checkMethod 823 52 [some (va_rf (some t0)), none, some (va_rf x2), some (.int s.1)] [] (s.2) Q) (ch_xV Q)) res) : ch_FT g true mX11_checkMethod 823 52 [some (va_rf (some t0)), none, some (va_rf x2), some (.int x3)] [] (w) Q := by
  unfold c_X11_checkMethod_52 at h
  refine ch_iload_n 3 _ dX11_checkMethod_52 rfl (ch_aload_n 2 x2 dX11_checkMethod_53 rfl (cp_gR (ci := 7) (k := 5) dX11_checkMethod_54 fl_X11_177 rfl h (fun v1 h => ?_)))
  refine cp_gI (ci := 8) (k := 1) dX11_checkMethod_57 fl_X11_173 rfl h (fun v2 h => ?_)
  refine cp_icmp_ge _ _ (tgt := 94) dX11_checkMethod_60 rfl h (fun h => ?_) (fun h => ?_)
  · refine ch_aload_n 0 (some t0) dX11_checkMethod_94 rfl (ch_aload_n 2 x2 dX11_checkMethod_95 rfl (cp_gR (ci := 7) (k := 6) dX11_checkMethod_96 fl_X11_211 rfl h (fun v3 h => ?_)))
    obtain ⟨_, hb4, h⟩ := ch_bd h
    refine ch_iv yX11_block prog_2_method_17_code 4 none (ci := 11) (q := (RX11, TX11, 14)) (b := t0) (d' := 822) (av := [va_rf v3]) (rest := []) rfl dX11_checkMethod_99 q1185 q1187 rfl qs44 q1188 can_X11_block (Nat.le_of_ble_eq_true rfl) (Nat.le_of_ble_eq_true rfl) (ch_rts hb4) (cp_tV h (fun p hp Q' hq => sr_X11_block hp hq) (fun w6 h => ?_) (fun a w1 h => ?_))
    · refine ch_aload_n 0 (some t0) dX11_checkMethod_102 rfl (cp_gI (ci := 11) (k := 10) dX11_checkMethod_103 fl_X11_204 rfl h (fun v7 h => ?_))
      refine cp_if_ne _ (tgt := 118) dX11_checkMethod_106 rfl h (fun h => ?_) (fun h => ?_)
      · obtain ⟨r, hr, h⟩ := ch_bd h
        obtain rfl := Option.some.inj h
        exact ch_FT.wk (ch_wS (ch_wN (ch_wS (ch_wN ch_w0)))) (s_X11_checkMethod_118  hr hk)
      · refine ch_aload_n 2 x2 dX11_checkMethod_109 rfl (cp_gI (ci := 7) (k := 11) dX11_checkMethod_110 fl_X11_156 rfl h (fun v8 h => ?_))
        refine ch_bipush _ (-4) dX11_checkMethod_113 rfl (cp_icmp_ne _ _ (tgt := 122) dX11_checkMethod_115 rfl h (fun h => ?_) (fun h => ?_))
        · obtain ⟨r, hr, h⟩ := ch_bd h
          obtain rfl := Option.some.inj h
          exact ch_iconst _ 0 dX11_checkMethod_122 rfl (ch_FT.wk (ch_wS (ch_wN (ch_wS (ch_wN ch_w0)))) (s_X11_checkMethod_123  hr hk))
        · obtain ⟨r, hr, h⟩ := ch_bd h
          obtain rfl := Option.some.inj h
          exact ch_FT.wk (ch_wS (ch_wN (ch_wS (ch_wN ch_w0)))) (s_X11_checkMethod_118  hr hk)
    · subst h
      exact ch_th rfl hk
  · refine ch_aload_n 0 (some t0) dX11_checkMethod_63 rfl (ch_aload_n 2 x2 dX11_checkMethod_64 rfl (cp_gR (ci := 7) (k := 5) dX11_checkMethod_65 fl_X11_177 rfl h (fun v9 h => ?_)))
    obtain ⟨b11, hb10, h⟩ := ch_bd h
    obtain ⟨v12, hp13, h⟩ := ch_bd h
    refine ch_iload_n 3 _ dX11_checkMethod_68 rfl (ch_iv yX8_get prog_9_method_3_code 2 (some .int) (ci := 8) (q := (RX8, TX8, 2)) (b := b11) (d' := 2) (av := [.int x3]) (rest := [va_rf (some t0)]) (by rw [ch_rs hb10]; rfl) dX11_checkMethod_69 q1151 q1152 rfl q1153 q1154 can_X8_get (Nat.le_of_ble_eq_true rfl) (ch_hw (Nat.le_of_ble_eq_true rfl)) (ch_rtg hb10) (cp_kI (v := v12) (w1 := w) (fun Q' hq => s_X8_get hp13 hq) ?_))
    refine ch_aload_n 0 (some t0) dX11_checkMethod_72 rfl (ch_aload_n 2 x2 dX11_checkMethod_73 rfl (cp_gR (ci := 7) (k := 4) dX11_checkMethod_74 fl_X11_172 rfl h (fun v14 h => ?_)))
    obtain ⟨b16, hb15, h⟩ := ch_bd h
    obtain ⟨v17, hp18, h⟩ := ch_bd h
    refine ch_iload_n 3 _ dX11_checkMethod_77 rfl (ch_iv yX8_get prog_9_method_3_code 2 (some .int) (ci := 8) (q := (RX8, TX8, 2)) (b := b16) (d' := 2) (av := [.int x3]) (rest := [va_rf (some t0), .int v12, va_rf (some t0)]) (by rw [ch_rs hb15]; rfl) dX11_checkMethod_78 q1151 q1152 rfl q1153 q1154 can_X8_get (Nat.le_of_ble_eq_true rfl) (ch_hw (Nat.le_of_ble_eq_true rfl)) (ch_rtg hb15) (cp_kI (v := v17) (w1 := w) (fun Q' hq => s_X8_get hp18 hq) ?_))
    obtain ⟨_, hb19, h⟩ := ch_bd h
    obtain ⟨v20, hp21, h⟩ := ch_bd h
    refine ch_iv yX11_typeOf prog_2_method_5_code 3 (some .int) (ci := 11) (q := (RX11, TX11, 14)) (b := t0) (d' := 6) (av := [.int v17]) (rest := [.int v12, va_rf (some t0)]) rfl dX11_checkMethod_81 q1136 q1138 rfl qs38 q1139 can_X11_typeOf (Nat.le_of_ble_eq_true rfl) (ch_hw (Nat.le_of_ble_eq_true rfl)) (ch_rts hb19) (cp_kI (v := v20) (w1 := w) (fun Q' hq => s_X11_typeOf hp21 hq) ?_)
    obtain ⟨_, hb22, h⟩ := ch_bd h
    obtain ⟨p23, hp24, h⟩ := ch_bd h
    refine ch_iconst _ 1 dX11_checkMethod_84 rfl (ch_iv yX11_declare prog_2_method_16_code 5 none (ci := 11) (q := (RX11, TX11, 14)) (b := t0) (d' := 3) (av := [.int v12, .int v20, .int 1]) (rest := []) rfl dX11_checkMethod_85 q1178 q1180 rfl qs43 q1181 can_X11_declare (Nat.le_of_ble_eq_true rfl) (Nat.le_of_ble_eq_true rfl) (ch_rts hb22) (cp_kV (w1 := p23) (fun Q' hq => s_X11_declare hp24 hq) ?_))
    refine ch_iinc 3 _ _ (x3 + 1) (ls1 := [some (va_rf (some t0)), none, some (va_rf x2), some (.int (x3 + 1))]) dX11_checkMethod_88 rfl rfl (Nat.le_of_ble_eq_true rfl) (ch_s1o rfl rfl) (ch_goto 52 dX11_checkMethod_91 rfl (ch_FT.wk (ch_wS (ch_wN (ch_wS (ch_wS ch_w0)))) ?_))
    obtain rfl := Option.some.inj h
    exact hk
theorem sl_X11_checkMethod_52 {g : State} {t0 : Nat} {x2 : Option Nat} {a : Int32 × ch_W} {res : Except Nat Unit × ch_W} {Q : Outcome → ch_W → Prop} (h : ch_loop (fun (s : Int32 × ch_W) => c_X11_checkMethod_52 g t0 x2 s.1 s.2) a = some res) (hk : (ch_xV Q) res) : ch_FT g true mX11_checkMethod 823 52 [some (va_rf (some t0)), none, some (va_rf x2), some (.int a.1)] [] (a.2) Q := by
  refine ch_loop_ind (fun (a : Int32 × ch_W) (r : Except Nat Unit × ch_W) => (ch_xV Q) r → ch_FT g true mX11_checkMethod 823 52 [some (va_rf (some t0)), none, some (va_rf x2), some (.int a.1)] [] (a.2) Q) ?_ ?_ a res h hk
  · intro a a2 b h1 ih hk
    exact s_X11_checkMethod_52  h1 (ih hk)
  · intro a b h1 hk
    exact s_X11_checkMethod_52  h1 hk

def c_X11_checkMethod (g : State) (t0 : Nat) (x1 : Option Nat) (x2 : Option Nat) (w : ch_W) : Option (Except Nat Unit × ch_W) := (ch_pR w (some t0) 12 fX11_own x1).bind fun w1 => (ch_pR w1 (some t0) 12 fX11_method x2).bind fun w2 => (ch_nO w2 9 2).bind fun w3 => (c_X8_init (ch_nx w2) w3).bind fun p4 => (ch_pR p4 x2 8 fX7_code (some (ch_nx w2))).bind fun w6 => (ch_gR w6 x2 8 fX7_code).bind fun v7 => (ch_pR w6 (some t0) 12 fX11_code v7).bind fun w8 => (ch_gR w8 (some t0) 12 fX11_names).bind fun v9 => (ch_pI w8 v9 9 fX8_size 0).bind fun w10 => (ch_gR w10 (some t0) 12 fX11_types).bind fun v11 => (ch_pI w10 v11 9 fX8_size 0).bind fun w12 => (ch_bit 0).bind fun _ => (ch_pI w12 (some t0) 12 fX11_isDead 0).bind fun w13 => ch_loop (fun (s : Int32 × ch_W) => c_X11_checkMethod_52 g t0 x2 s.1 s.2) (0, w13)
theorem s_X11_checkMethod {g : State} {t0 : Nat} {x1 : Option Nat} {x2 : Option Nat} {w : ch_W} {res : Except Nat Unit × ch_W} {Q : Outcome → ch_W → Prop} (h : c_X11_checkMethod g t0 x1 x2 w = some res) (hk : (ch_xV Q) res) : ch_CT g true yX11_checkMethod 823 [.ref t0, va_rf x1, va_rf x2] (w) Q := by
  unfold c_X11_checkMethod at h
  refine ch_ctL mX11_checkMethod (ls := [some (va_rf (some t0)), some (va_rf x1), some (va_rf x2), none]) q1177 rfl (ch_lyr (r := some t0) (ch_lyr (r := x1) (ch_lyr (r := x2) ch_ly0))) (Nat.le_of_ble_eq_true rfl) rfl ?_
  refine ch_aload_n 0 (some t0) dX11_checkMethod_0 rfl (ch_aload_n 1 x1 dX11_checkMethod_1 rfl (cp_pR (ci := 11) (k := 3) dX11_checkMethod_2 fl_X11_199 rfl rfl rfl h (fun w1 h => ?_)))
  refine ch_aload_n 0 (some t0) dX11_checkMethod_5 rfl (ch_aload_n 2 x2 dX11_checkMethod_6 rfl (cp_pR (ci := 11) (k := 4) dX11_checkMethod_7 fl_X11_201 rfl rfl rfl h (fun w2 h => ?_)))
  refine ch_aload_n 2 x2 dX11_checkMethod_10 rfl (cp_new (ci := 8) (n := 2) (q := (RX8, TX8, 2)) dX11_checkMethod_11 rfl q1045 q768 q223 h (fun w3 h => ?_))
  obtain ⟨p4, hp5, h⟩ := ch_bd h
  refine ch_dup dX11_checkMethod_14 (ch_cat _) (ch_iiN yX8_init prog_9_method_1_code 1 (b := (ch_nx w2)) (d' := 2) (av := []) (rest := [va_rf (some (ch_nx w2)), va_rf x2]) rfl dX11_checkMethod_15 rfl q1046 q770 q771 can_X8_init (Nat.le_of_ble_eq_true rfl) (ch_hw (Nat.le_of_ble_eq_true rfl)) (cp_kV (w1 := p4) (fun Q' hq => s_X8_init hp5 hq) ?_))
  refine cp_pR (ci := 7) (k := 8) dX11_checkMethod_18 fl_X11_203 rfl rfl rfl h (fun w6 h => ?_)
  refine ch_aload_n 0 (some t0) dX11_checkMethod_21 rfl (ch_aload_n 2 x2 dX11_checkMethod_22 rfl (cp_gR (ci := 7) (k := 8) dX11_checkMethod_23 fl_X11_203 rfl h (fun v7 h => ?_)))
  refine cp_pR (ci := 11) (k := 5) dX11_checkMethod_26 fl_X11_194 rfl rfl rfl h (fun w8 h => ?_)
  refine ch_aload_n 0 (some t0) dX11_checkMethod_29 rfl (cp_gR (ci := 11) (k := 7) dX11_checkMethod_30 fl_X11_21 rfl h (fun v9 h => ?_))
  refine ch_iconst _ 0 dX11_checkMethod_33 rfl (cp_pI (ci := 8) (k := 1) dX11_checkMethod_34 fl_X11_173 rfl rfl rfl h (fun w10 h => ?_))
  refine ch_aload_n 0 (some t0) dX11_checkMethod_37 rfl (cp_gR (ci := 11) (k := 8) dX11_checkMethod_38 fl_X11_25 rfl h (fun v11 h => ?_))
  refine ch_iconst _ 0 dX11_checkMethod_41 rfl (cp_pI (ci := 8) (k := 1) dX11_checkMethod_42 fl_X11_173 rfl rfl rfl h (fun w12 h => ?_))
  refine ch_aload_n 0 (some t0) dX11_checkMethod_45 rfl (ch_iconst _ 0 dX11_checkMethod_46 rfl (cp_pZ (ci := 11) (k := 10) dX11_checkMethod_47 fl_X11_204 rfl rfl rfl h (fun w13 h => ?_)))
  exact ch_iconst _ 0 dX11_checkMethod_50 rfl (ch_istore_n 3 _ (ls1 := [some (va_rf (some t0)), some (va_rf x1), some (va_rf x2), some (.int 0)]) dX11_checkMethod_51 (Nat.le_of_ble_eq_true rfl) (ch_s1o rfl rfl) (ch_FT.wk (ch_wS (ch_wN (ch_wS (ch_wS ch_w0)))) (sl_X11_checkMethod_52  h hk)))

theorem bX11_check_0 : ch_ck cX11_check 0 [42, 182, 0, 106, 8, 61, 28, 42, 180, 0, 12, 182, 0, 67, 162, 0] := ch_ckof (by decide +kernel)
theorem bX11_check_1 : ch_ck cX11_check 16 [24, 42, 42, 180, 0, 12, 28, 182, 0, 71, 192, 0, 51, 182, 0, 109] := ch_ckof (by decide +kernel)
theorem bX11_check_2 : ch_ck cX11_check 32 [132, 2, 1, 167, 255, 227, 42, 27, 182, 0, 113, 8, 61, 28, 42, 180] := ch_ckof (by decide +kernel)
theorem bX11_check_3 : ch_ck cX11_check 48 [0, 12, 182, 0, 67, 162, 0, 77, 42, 180, 0, 12, 28, 182, 0, 71] := ch_ckof (by decide +kernel)
theorem bX11_check_4 : ch_ck cX11_check 64 [192, 0, 51, 78, 3, 54, 4, 21, 4, 45, 180, 0, 116, 182, 0, 67] := ch_ckof (by decide +kernel)
theorem bX11_check_5 : ch_ck cX11_check 80 [162, 0, 44, 45, 180, 0, 116, 21, 4, 182, 0, 71, 192, 0, 119, 180] := ch_ckof (by decide +kernel)
theorem bX11_check_6 : ch_ck cX11_check 96 [0, 121, 153, 0, 20, 42, 45, 45, 180, 0, 116, 21, 4, 182, 0, 71] := ch_ckof (by decide +kernel)
theorem bX11_check_7 : ch_ck cX11_check 112 [192, 0, 119, 182, 0, 125, 132, 4, 1, 167, 255, 206, 132, 2, 1, 167] := ch_ckof (by decide +kernel)
theorem bX11_check_8 : ch_ck cX11_check 128 [255, 174, 177] := ch_ckof (by decide +kernel)
theorem dX11_check_0 : decode cX11_check 0 = .ok (.aload_n 0, 1) := dz_42 (bX11_check_0 0 _ rfl)
theorem dX11_check_1 : decode cX11_check 1 = .ok (.invokevirtual 106, 3) := dz_182 (bX11_check_0 1 _ rfl) (bX11_check_0 2 _ rfl) (bX11_check_0 3 _ rfl)
theorem dX11_check_4 : decode cX11_check 4 = .ok (.iconst 5, 1) := dz_8 (bX11_check_0 4 _ rfl)
theorem dX11_check_5 : decode cX11_check 5 = .ok (.istore_n 2, 1) := dz_61 (bX11_check_0 5 _ rfl)
theorem dX11_check_6 : decode cX11_check 6 = .ok (.iload_n 2, 1) := dz_28 (bX11_check_0 6 _ rfl)
theorem dX11_check_7 : decode cX11_check 7 = .ok (.aload_n 0, 1) := dz_42 (bX11_check_0 7 _ rfl)
theorem dX11_check_8 : decode cX11_check 8 = .ok (.getfield 12, 3) := dz_180 (bX11_check_0 8 _ rfl) (bX11_check_0 9 _ rfl) (bX11_check_0 10 _ rfl)
theorem dX11_check_11 : decode cX11_check 11 = .ok (.invokevirtual 67, 3) := dz_182 (bX11_check_0 11 _ rfl) (bX11_check_0 12 _ rfl) (bX11_check_0 13 _ rfl)
theorem dX11_check_14 : decode cX11_check 14 = .ok (.if_icmp .ge 24, 3) := dz_162 (bX11_check_0 14 _ rfl) (bX11_check_0 15 _ rfl) (bX11_check_1 0 _ rfl)
theorem dX11_check_17 : decode cX11_check 17 = .ok (.aload_n 0, 1) := dz_42 (bX11_check_1 1 _ rfl)
theorem dX11_check_18 : decode cX11_check 18 = .ok (.aload_n 0, 1) := dz_42 (bX11_check_1 2 _ rfl)
theorem dX11_check_19 : decode cX11_check 19 = .ok (.getfield 12, 3) := dz_180 (bX11_check_1 3 _ rfl) (bX11_check_1 4 _ rfl) (bX11_check_1 5 _ rfl)
theorem dX11_check_22 : decode cX11_check 22 = .ok (.iload_n 2, 1) := dz_28 (bX11_check_1 6 _ rfl)
theorem dX11_check_23 : decode cX11_check 23 = .ok (.invokevirtual 71, 3) := dz_182 (bX11_check_1 7 _ rfl) (bX11_check_1 8 _ rfl) (bX11_check_1 9 _ rfl)
theorem dX11_check_26 : decode cX11_check 26 = .ok (.checkcast 51, 3) := dz_192 (bX11_check_1 10 _ rfl) (bX11_check_1 11 _ rfl) (bX11_check_1 12 _ rfl)
theorem dX11_check_29 : decode cX11_check 29 = .ok (.invokevirtual 109, 3) := dz_182 (bX11_check_1 13 _ rfl) (bX11_check_1 14 _ rfl) (bX11_check_1 15 _ rfl)
theorem dX11_check_32 : decode cX11_check 32 = .ok (.iinc 2 1, 3) := dz_132 (bX11_check_2 0 _ rfl) (bX11_check_2 1 _ rfl) (bX11_check_2 2 _ rfl)
theorem dX11_check_35 : decode cX11_check 35 = .ok (.goto (-29), 3) := dz_167 (bX11_check_2 3 _ rfl) (bX11_check_2 4 _ rfl) (bX11_check_2 5 _ rfl)
theorem dX11_check_38 : decode cX11_check 38 = .ok (.aload_n 0, 1) := dz_42 (bX11_check_2 6 _ rfl)
theorem dX11_check_39 : decode cX11_check 39 = .ok (.iload_n 1, 1) := dz_27 (bX11_check_2 7 _ rfl)
theorem dX11_check_40 : decode cX11_check 40 = .ok (.invokevirtual 113, 3) := dz_182 (bX11_check_2 8 _ rfl) (bX11_check_2 9 _ rfl) (bX11_check_2 10 _ rfl)
theorem dX11_check_43 : decode cX11_check 43 = .ok (.iconst 5, 1) := dz_8 (bX11_check_2 11 _ rfl)
theorem dX11_check_44 : decode cX11_check 44 = .ok (.istore_n 2, 1) := dz_61 (bX11_check_2 12 _ rfl)
theorem dX11_check_45 : decode cX11_check 45 = .ok (.iload_n 2, 1) := dz_28 (bX11_check_2 13 _ rfl)
theorem dX11_check_46 : decode cX11_check 46 = .ok (.aload_n 0, 1) := dz_42 (bX11_check_2 14 _ rfl)
theorem dX11_check_47 : decode cX11_check 47 = .ok (.getfield 12, 3) := dz_180 (bX11_check_2 15 _ rfl) (bX11_check_3 0 _ rfl) (bX11_check_3 1 _ rfl)
theorem dX11_check_50 : decode cX11_check 50 = .ok (.invokevirtual 67, 3) := dz_182 (bX11_check_3 2 _ rfl) (bX11_check_3 3 _ rfl) (bX11_check_3 4 _ rfl)
theorem dX11_check_53 : decode cX11_check 53 = .ok (.if_icmp .ge 77, 3) := dz_162 (bX11_check_3 5 _ rfl) (bX11_check_3 6 _ rfl) (bX11_check_3 7 _ rfl)
theorem dX11_check_56 : decode cX11_check 56 = .ok (.aload_n 0, 1) := dz_42 (bX11_check_3 8 _ rfl)
theorem dX11_check_57 : decode cX11_check 57 = .ok (.getfield 12, 3) := dz_180 (bX11_check_3 9 _ rfl) (bX11_check_3 10 _ rfl) (bX11_check_3 11 _ rfl)
theorem dX11_check_60 : decode cX11_check 60 = .ok (.iload_n 2, 1) := dz_28 (bX11_check_3 12 _ rfl)
theorem dX11_check_61 : decode cX11_check 61 = .ok (.invokevirtual 71, 3) := dz_182 (bX11_check_3 13 _ rfl) (bX11_check_3 14 _ rfl) (bX11_check_3 15 _ rfl)
theorem dX11_check_64 : decode cX11_check 64 = .ok (.checkcast 51, 3) := dz_192 (bX11_check_4 0 _ rfl) (bX11_check_4 1 _ rfl) (bX11_check_4 2 _ rfl)
theorem dX11_check_67 : decode cX11_check 67 = .ok (.astore_n 3, 1) := dz_78 (bX11_check_4 3 _ rfl)
theorem dX11_check_68 : decode cX11_check 68 = .ok (.iconst 0, 1) := dz_3 (bX11_check_4 4 _ rfl)
theorem dX11_check_69 : decode cX11_check 69 = .ok (.istore 4, 2) := dz_54 (bX11_check_4 5 _ rfl) (bX11_check_4 6 _ rfl)
theorem dX11_check_71 : decode cX11_check 71 = .ok (.iload 4, 2) := dz_21 (bX11_check_4 7 _ rfl) (bX11_check_4 8 _ rfl)
theorem dX11_check_73 : decode cX11_check 73 = .ok (.aload_n 3, 1) := dz_45 (bX11_check_4 9 _ rfl)
theorem dX11_check_74 : decode cX11_check 74 = .ok (.getfield 116, 3) := dz_180 (bX11_check_4 10 _ rfl) (bX11_check_4 11 _ rfl) (bX11_check_4 12 _ rfl)
theorem dX11_check_77 : decode cX11_check 77 = .ok (.invokevirtual 67, 3) := dz_182 (bX11_check_4 13 _ rfl) (bX11_check_4 14 _ rfl) (bX11_check_4 15 _ rfl)
theorem dX11_check_80 : decode cX11_check 80 = .ok (.if_icmp .ge 44, 3) := dz_162 (bX11_check_5 0 _ rfl) (bX11_check_5 1 _ rfl) (bX11_check_5 2 _ rfl)
theorem dX11_check_83 : decode cX11_check 83 = .ok (.aload_n 3, 1) := dz_45 (bX11_check_5 3 _ rfl)
theorem dX11_check_84 : decode cX11_check 84 = .ok (.getfield 116, 3) := dz_180 (bX11_check_5 4 _ rfl) (bX11_check_5 5 _ rfl) (bX11_check_5 6 _ rfl)
theorem dX11_check_87 : decode cX11_check 87 = .ok (.iload 4, 2) := dz_21 (bX11_check_5 7 _ rfl) (bX11_check_5 8 _ rfl)
theorem dX11_check_89 : decode cX11_check 89 = .ok (.invokevirtual 71, 3) := dz_182 (bX11_check_5 9 _ rfl) (bX11_check_5 10 _ rfl) (bX11_check_5 11 _ rfl)
theorem dX11_check_92 : decode cX11_check 92 = .ok (.checkcast 119, 3) := dz_192 (bX11_check_5 12 _ rfl) (bX11_check_5 13 _ rfl) (bX11_check_5 14 _ rfl)
theorem dX11_check_95 : decode cX11_check 95 = .ok (.getfield 121, 3) := dz_180 (bX11_check_5 15 _ rfl) (bX11_check_6 0 _ rfl) (bX11_check_6 1 _ rfl)
theorem dX11_check_98 : decode cX11_check 98 = .ok (.ifCond .eq 20, 3) := dz_153 (bX11_check_6 2 _ rfl) (bX11_check_6 3 _ rfl) (bX11_check_6 4 _ rfl)
theorem dX11_check_101 : decode cX11_check 101 = .ok (.aload_n 0, 1) := dz_42 (bX11_check_6 5 _ rfl)
theorem dX11_check_102 : decode cX11_check 102 = .ok (.aload_n 3, 1) := dz_45 (bX11_check_6 6 _ rfl)
theorem dX11_check_103 : decode cX11_check 103 = .ok (.aload_n 3, 1) := dz_45 (bX11_check_6 7 _ rfl)
theorem dX11_check_104 : decode cX11_check 104 = .ok (.getfield 116, 3) := dz_180 (bX11_check_6 8 _ rfl) (bX11_check_6 9 _ rfl) (bX11_check_6 10 _ rfl)
theorem dX11_check_107 : decode cX11_check 107 = .ok (.iload 4, 2) := dz_21 (bX11_check_6 11 _ rfl) (bX11_check_6 12 _ rfl)
theorem dX11_check_109 : decode cX11_check 109 = .ok (.invokevirtual 71, 3) := dz_182 (bX11_check_6 13 _ rfl) (bX11_check_6 14 _ rfl) (bX11_check_6 15 _ rfl)
theorem dX11_check_112 : decode cX11_check 112 = .ok (.checkcast 119, 3) := dz_192 (bX11_check_7 0 _ rfl) (bX11_check_7 1 _ rfl) (bX11_check_7 2 _ rfl)
theorem dX11_check_115 : decode cX11_check 115 = .ok (.invokevirtual 125, 3) := dz_182 (bX11_check_7 3 _ rfl) (bX11_check_7 4 _ rfl) (bX11_check_7 5 _ rfl)
theorem dX11_check_118 : decode cX11_check 118 = .ok (.iinc 4 1, 3) := dz_132 (bX11_check_7 6 _ rfl) (bX11_check_7 7 _ rfl) (bX11_check_7 8 _ rfl)
theorem dX11_check_121 : decode cX11_check 121 = .ok (.goto (-50), 3) := dz_167 (bX11_check_7 9 _ rfl) (bX11_check_7 10 _ rfl) (bX11_check_7 11 _ rfl)
theorem dX11_check_124 : decode cX11_check 124 = .ok (.iinc 2 1, 3) := dz_132 (bX11_check_7 12 _ rfl) (bX11_check_7 13 _ rfl) (bX11_check_7 14 _ rfl)
theorem dX11_check_127 : decode cX11_check 127 = .ok (.goto (-82), 3) := dz_167 (bX11_check_7 15 _ rfl) (bX11_check_8 0 _ rfl) (bX11_check_8 1 _ rfl)
theorem dX11_check_130 : decode cX11_check 130 = .ok (.return_, 1) := dz_177 (bX11_check_8 2 _ rfl)
def c_X11_check_71 (g : State) (t0 : Nat) (x2 : Int32) (x3 : Option Nat) (x4 : Int32)  (w : ch_W) : Option ((Int32 × ch_W) ⊕ ((Int32 × ch_W) ⊕ (Except Nat Unit × ch_W))) := (ch_gR w x3 7 fX6_members).bind fun v1 => (ch_rc w v1 14).bind fun b3 => (c_J5_size b3 w).bind fun v4 => if x4 < v4 then ((ch_gR w x3 7 fX6_members).bind fun v6 => (ch_rc w v6 14).bind fun b8 => (c_J5_get b8 x4 w).bind fun v9 => (ch_cast w v9 8).bind fun _ => (ch_gI w v9 8 fX7_isMethod).bind fun v11 => if v11 = 0 then (some (.inl (x4 + 1, w))) else ((ch_gR w x3 7 fX6_members).bind fun v12 => (ch_rc w v12 14).bind fun b14 => (c_J5_get b14 x4 w).bind fun v15 => (ch_cast w v15 8).bind fun _ => (ch_rc w (some t0) 12).bind fun _ => ch_tb (c_X11_checkMethod g t0 x3 v15 w) (fun a w => .inr (.inr ((.error a, w)))) fun _ w19 => some (.inl (x4 + 1, w19)))) else (some (.inr (.inl (x2 + 1, w))))
theorem s_X11_check_71 {g : State} {t0 : Nat} {x2 : Int32} {x3 : Option Nat} {x4 : Int32} {w : ch_W} {res : (Int32 × ch_W) ⊕ ((Int32 × ch_W) ⊕ (Except Nat Unit × ch_W))} {Q : Outcome → ch_W → Prop} (h : c_X11_check_71 g t0 x2 x3 x4 w = some res) (hk : (ch_sm (fun s => ch_FT g true mX11_check 824 71 [some (va_rf (some t0)), none, some (.int x2), some (va_rf x3), some (.int s.1)] [] (s.2) Q) (ch_sm (fun s => ch_FT g true mX11_check 824 45 [some (va_rf (some t0)), none, some (.int s.1), none, none] [] (s.2) Q) (ch_xV Q))) res) : ch_FT g true mX11_check 824 71 [some (va_rf (some t0)), none, some (.int x2), some (va_rf x3), some (.int x4)] [] (w) Q := by
  unfold c_X11_check_71 at h
  refine ch_iload 4 _ dX11_check_71 rfl (ch_aload_n 3 x3 dX11_check_73 rfl (cp_gR (ci := 6) (k := 5) dX11_check_74 fl_X11_116 rfl h (fun v1 h => ?_)))
  obtain ⟨b3, hb2, h⟩ := ch_bd h
  obtain ⟨v4, hp5, h⟩ := ch_bd h
  refine ch_iv yJ5_size prog_32_method_8_code 1 (some .int) (ci := 13) (q := (RJ5, TJ5, 3)) (b := b3) (d' := 2) (av := []) (rest := [.int x4]) (by rw [ch_rs hb2]; rfl) dX11_check_77 q1061 q608 rfl q609 q610 can_J5_size (Nat.le_of_ble_eq_true rfl) (ch_hw (Nat.le_of_ble_eq_true rfl)) (ch_rtg hb2) (cp_kI (v := v4) (w1 := w) (fun Q' hq => s_J5_size hp5 hq) ?_)
  refine cp_icmp_ge _ _ (tgt := 124) dX11_check_80 rfl h (fun h => ?_) (fun h => ?_)
  · refine ch_iinc 2 _ _ (x2 + 1) (ls1 := [some (va_rf (some t0)), none, some (.int (x2 + 1)), some (va_rf x3), some (.int x4)]) dX11_check_124 rfl rfl (Nat.le_of_ble_eq_true rfl) rfl (ch_goto 45 dX11_check_127 rfl (ch_FT.wk (ch_wS (ch_wN (ch_wS (ch_wN (ch_wN ch_w0))))) ?_))
    obtain rfl := Option.some.inj h
    exact hk
  · refine ch_aload_n 3 x3 dX11_check_83 rfl (cp_gR (ci := 6) (k := 5) dX11_check_84 fl_X11_116 rfl h (fun v6 h => ?_))
    obtain ⟨b8, hb7, h⟩ := ch_bd h
    obtain ⟨v9, hp10, h⟩ := ch_bd h
    refine ch_iload 4 _ dX11_check_87 rfl (ch_iv yJ5_get prog_32_method_20_code 2 (some (.object "java/lang/Object")) (ci := 13) (q := (RJ5, TJ5, 3)) (b := b8) (d' := 4) (av := [.int x4]) (rest := []) (by rw [ch_rs hb7]; rfl) dX11_check_89 q1062 q612 rfl q613 q614 can_J5_get (Nat.le_of_ble_eq_true rfl) (Nat.le_of_ble_eq_true rfl) (ch_rtg hb7) (cp_kR (v := v9) (w1 := w) (fun Q' hq => s_J5_get hp10 hq) ?_))
    refine cp_cast (ci := 7) (q := (RX7, TX7, 12)) dX11_check_92 rfl q1131 h (fun h => ?_)
    refine cp_gI (ci := 7) (k := 0) dX11_check_95 fl_X11_121 rfl h (fun v11 h => ?_)
    refine cp_if_eq _ (tgt := 118) dX11_check_98 rfl h (fun h => ?_) (fun h => ?_)
    · refine ch_iinc 4 _ _ (x4 + 1) (ls1 := [some (va_rf (some t0)), none, some (.int x2), some (va_rf x3), some (.int (x4 + 1))]) dX11_check_118 rfl rfl (Nat.le_of_ble_eq_true rfl) (ch_s1o rfl rfl) (ch_goto 71 dX11_check_121 rfl (ch_FT.wk (ch_wS (ch_wN (ch_wS (ch_wS (ch_wS ch_w0))))) ?_))
      obtain rfl := Option.some.inj h
      exact hk
    · refine ch_aload_n 0 (some t0) dX11_check_101 rfl (ch_aload_n 3 x3 dX11_check_102 rfl (ch_aload_n 3 x3 dX11_check_103 rfl (cp_gR (ci := 6) (k := 5) dX11_check_104 fl_X11_116 rfl h (fun v12 h => ?_))))
      obtain ⟨b14, hb13, h⟩ := ch_bd h
      obtain ⟨v15, hp16, h⟩ := ch_bd h
      refine ch_iload 4 _ dX11_check_107 rfl (ch_iv yJ5_get prog_32_method_20_code 2 (some (.object "java/lang/Object")) (ci := 13) (q := (RJ5, TJ5, 3)) (b := b14) (d' := 4) (av := [.int x4]) (rest := [va_rf x3, va_rf (some t0)]) (by rw [ch_rs hb13]; rfl) dX11_check_109 q1062 q612 rfl q613 q614 can_J5_get (Nat.le_of_ble_eq_true rfl) (ch_hw (Nat.le_of_ble_eq_true rfl)) (ch_rtg hb13) (cp_kR (v := v15) (w1 := w) (fun Q' hq => s_J5_get hp16 hq) ?_))
      refine cp_cast (ci := 7) (q := (RX7, TX7, 12)) dX11_check_112 rfl q1131 h (fun h => ?_)
      obtain ⟨_, hb17, h⟩ := ch_bd h
      refine ch_iv yX11_checkMethod prog_2_method_15_code 4 none (ci := 11) (q := (RX11, TX11, 14)) (b := t0) (d' := 823) (av := [va_rf x3, va_rf v15]) (rest := []) rfl dX11_check_115 q1174 q1176 rfl qs42 q1177 can_X11_checkMethod (Nat.le_of_ble_eq_true rfl) (Nat.le_of_ble_eq_true rfl) (ch_rts hb17) (cp_tV h (fun p hp Q' hq => s_X11_checkMethod hp hq) (fun w19 h => ?_) (fun a w1 h => ?_))
      · refine ch_iinc 4 _ _ (x4 + 1) (ls1 := [some (va_rf (some t0)), none, some (.int x2), some (va_rf x3), some (.int (x4 + 1))]) dX11_check_118 rfl rfl (Nat.le_of_ble_eq_true rfl) (ch_s1o rfl rfl) (ch_goto 71 dX11_check_121 rfl (ch_FT.wk (ch_wS (ch_wN (ch_wS (ch_wS (ch_wS ch_w0))))) ?_))
        obtain rfl := Option.some.inj h
        exact hk
      · subst h
        exact ch_th rfl hk
theorem sl_X11_check_71 {g : State} {t0 : Nat} {x2 : Int32} {x3 : Option Nat} {a : Int32 × ch_W} {res : (Int32 × ch_W) ⊕ (Except Nat Unit × ch_W)} {Q : Outcome → ch_W → Prop} (h : ch_loop (fun (s : Int32 × ch_W) => c_X11_check_71 g t0 x2 x3 s.1 s.2) a = some res) (hk : (ch_sm (fun s => ch_FT g true mX11_check 824 45 [some (va_rf (some t0)), none, some (.int s.1), none, none] [] (s.2) Q) (ch_xV Q)) res) : ch_FT g true mX11_check 824 71 [some (va_rf (some t0)), none, some (.int x2), some (va_rf x3), some (.int a.1)] [] (a.2) Q := by
  refine ch_loop_ind (fun (a : Int32 × ch_W) (r : (Int32 × ch_W) ⊕ (Except Nat Unit × ch_W)) => (ch_sm (fun s => ch_FT g true mX11_check 824 45 [some (va_rf (some t0)), none, some (.int s.1), none, none] [] (s.2) Q) (ch_xV Q)) r → ch_FT g true mX11_check 824 71 [some (va_rf (some t0)), none, some (.int x2), some (va_rf x3), some (.int a.1)] [] (a.2) Q) ?_ ?_ a res h hk
  · intro a a2 b h1 ih hk
    exact s_X11_check_71  h1 (ih hk)
  · intro a b h1 hk
    exact s_X11_check_71  h1 hk

def c_X11_check_45 (g : State) (t0 : Nat) (x2 : Int32)  (w : ch_W) : Option ((Int32 × ch_W) ⊕ (Except Nat Unit × ch_W)) := (ch_gR w (some t0) 12 fX11_kinds).bind fun v1 => (ch_rc w v1 14).bind fun b3 => (c_J5_size b3 w).bind fun v4 => if x2 < v4 then ((ch_gR w (some t0) 12 fX11_kinds).bind fun v6 => (ch_rc w v6 14).bind fun b8 => (c_J5_get b8 x2 w).bind fun v9 => (ch_cast w v9 7).bind fun _ => ch_loop (fun (s : Int32 × ch_W) => c_X11_check_71 g t0 x2 v9 s.1 s.2) (0, w)) else (some (.inr ((.ok (), w))))
theorem s_X11_check_45 {g : State} {t0 : Nat} {x2 : Int32} {w : ch_W} {res : (Int32 × ch_W) ⊕ (Except Nat Unit × ch_W)} {Q : Outcome → ch_W → Prop} (h : c_X11_check_45 g t0 x2 w = some res) (hk : (ch_sm (fun s => ch_FT g true mX11_check 824 45 [some (va_rf (some t0)), none, some (.int s.1), none, none] [] (s.2) Q) (ch_xV Q)) res) : ch_FT g true mX11_check 824 45 [some (va_rf (some t0)), none, some (.int x2), none, none] [] (w) Q := by
  unfold c_X11_check_45 at h
  refine ch_iload_n 2 _ dX11_check_45 rfl (ch_aload_n 0 (some t0) dX11_check_46 rfl (cp_gR (ci := 11) (k := 1) dX11_check_47 fl_X11_12 rfl h (fun v1 h => ?_)))
  obtain ⟨b3, hb2, h⟩ := ch_bd h
  obtain ⟨v4, hp5, h⟩ := ch_bd h
  refine ch_iv yJ5_size prog_32_method_8_code 1 (some .int) (ci := 13) (q := (RJ5, TJ5, 3)) (b := b3) (d' := 2) (av := []) (rest := [.int x2]) (by rw [ch_rs hb2]; rfl) dX11_check_50 q1061 q608 rfl q609 q610 can_J5_size (Nat.le_of_ble_eq_true rfl) (ch_hw (Nat.le_of_ble_eq_true rfl)) (ch_rtg hb2) (cp_kI (v := v4) (w1 := w) (fun Q' hq => s_J5_size hp5 hq) ?_)
  refine cp_icmp_ge _ _ (tgt := 130) dX11_check_53 rfl h (fun h => ?_) (fun h => ?_)
  · obtain rfl := Option.some.inj h
    exact ch_return dX11_check_130 rfl hk
  · refine ch_aload_n 0 (some t0) dX11_check_56 rfl (cp_gR (ci := 11) (k := 1) dX11_check_57 fl_X11_12 rfl h (fun v6 h => ?_))
    obtain ⟨b8, hb7, h⟩ := ch_bd h
    obtain ⟨v9, hp10, h⟩ := ch_bd h
    refine ch_iload_n 2 _ dX11_check_60 rfl (ch_iv yJ5_get prog_32_method_20_code 2 (some (.object "java/lang/Object")) (ci := 13) (q := (RJ5, TJ5, 3)) (b := b8) (d' := 4) (av := [.int x2]) (rest := []) (by rw [ch_rs hb7]; rfl) dX11_check_61 q1062 q612 rfl q613 q614 can_J5_get (Nat.le_of_ble_eq_true rfl) (Nat.le_of_ble_eq_true rfl) (ch_rtg hb7) (cp_kR (v := v9) (w1 := w) (fun Q' hq => s_J5_get hp10 hq) ?_))
    refine cp_cast (ci := 6) (q := (RX6, TX6, 8)) dX11_check_64 rfl q1054 h (fun h => ?_)
    exact ch_astore_n 3 v9 (ls1 := [some (va_rf (some t0)), none, some (.int x2), some (va_rf v9), none]) dX11_check_67 (Nat.le_of_ble_eq_true rfl) rfl (ch_iconst _ 0 dX11_check_68 rfl (ch_istore 4 _ (ls1 := [some (va_rf (some t0)), none, some (.int x2), some (va_rf v9), some (.int 0)]) dX11_check_69 (Nat.le_of_ble_eq_true rfl) (ch_s1o rfl rfl) (ch_FT.wk (ch_wS (ch_wN (ch_wS (ch_wS (ch_wS ch_w0))))) (sl_X11_check_71  h hk))))
theorem sl_X11_check_45 {g : State} {t0 : Nat} {a : Int32 × ch_W} {res : Except Nat Unit × ch_W} {Q : Outcome → ch_W → Prop} (h : ch_loop (fun (s : Int32 × ch_W) => c_X11_check_45 g t0 s.1 s.2) a = some res) (hk : (ch_xV Q) res) : ch_FT g true mX11_check 824 45 [some (va_rf (some t0)), none, some (.int a.1), none, none] [] (a.2) Q := by
  refine ch_loop_ind (fun (a : Int32 × ch_W) (r : Except Nat Unit × ch_W) => (ch_xV Q) r → ch_FT g true mX11_check 824 45 [some (va_rf (some t0)), none, some (.int a.1), none, none] [] (a.2) Q) ?_ ?_ a res h hk
  · intro a a2 b h1 ih hk
    exact s_X11_check_45  h1 (ih hk)
  · intro a b h1 hk
    exact s_X11_check_45  h1 hk

def c_X11_check_6 (g : State) (t0 : Nat) (x1 : Int32) (x2 : Int32)  (w : ch_W) : Option ((Int32 × ch_W) ⊕ (Except Nat Unit × ch_W)) := (ch_gR w (some t0) 12 fX11_kinds).bind fun v1 => (ch_rc w v1 14).bind fun b3 => (c_J5_size b3 w).bind fun v4 => if x2 < v4 then ((ch_gR w (some t0) 12 fX11_kinds).bind fun v9 => (ch_rc w v9 14).bind fun b11 => (c_J5_get b11 x2 w).bind fun v12 => (ch_cast w v12 7).bind fun _ => (ch_rc w (some t0) 12).bind fun _ => ch_tb (c_X11_checkMembers g t0 v12 w) (fun a w => .inr ((.error a, w))) fun _ w16 => some (.inl (x2 + 1, w16))) else ((ch_rc w (some t0) 12).bind fun _ => ch_tb (c_X11_checkMain g t0 x1 w) (fun a w => .inr ((.error a, w))) fun _ w8 => (ch_loop (fun (s : Int32 × ch_W) => c_X11_check_45 g t0 s.1 s.2) (5, w8)).bind fun r => some (.inr (r)))
theorem s_X11_check_6 {g : State} {t0 : Nat} {x1 : Int32} {x2 : Int32} {w : ch_W} {res : (Int32 × ch_W) ⊕ (Except Nat Unit × ch_W)} {Q : Outcome → ch_W → Prop} (h : c_X11_check_6 g t0 x1 x2 w = some res) (hk : (ch_sm (fun s => ch_FT g true mX11_check 824 6 [some (va_rf (some t0)), some (.int x1), some (.int s.1), none, none] [] (s.2) Q) (ch_xV Q)) res) : ch_FT g true mX11_check 824 6 [some (va_rf (some t0)), some (.int x1), some (.int x2), none, none] [] (w) Q := by
  unfold c_X11_check_6 at h
  refine ch_iload_n 2 _ dX11_check_6 rfl (ch_aload_n 0 (some t0) dX11_check_7 rfl (cp_gR (ci := 11) (k := 1) dX11_check_8 fl_X11_12 rfl h (fun v1 h => ?_)))
  obtain ⟨b3, hb2, h⟩ := ch_bd h
  obtain ⟨v4, hp5, h⟩ := ch_bd h
  refine ch_iv yJ5_size prog_32_method_8_code 1 (some .int) (ci := 13) (q := (RJ5, TJ5, 3)) (b := b3) (d' := 2) (av := []) (rest := [.int x2]) (by rw [ch_rs hb2]; rfl) dX11_check_11 q1061 q608 rfl q609 q610 can_J5_size (Nat.le_of_ble_eq_true rfl) (ch_hw (Nat.le_of_ble_eq_true rfl)) (ch_rtg hb2) (cp_kI (v := v4) (w1 := w) (fun Q' hq => s_J5_size hp5 hq) ?_)
  refine cp_icmp_ge _ _ (tgt := 38) dX11_check_14 rfl h (fun h => ?_) (fun h => ?_)
  · obtain ⟨_, hb6, h⟩ := ch_bd h
    refine ch_aload_n 0 (some t0) dX11_check_38 rfl (ch_iload_n 1 _ dX11_check_39 rfl (ch_iv yX11_checkMain prog_2_method_12_code 2 none (ci := 11) (q := (RX11, TX11, 14)) (b := t0) (d' := 11) (av := [.int x1]) (rest := []) rfl dX11_check_40 q1168 q1170 rfl qs41 q1171 can_X11_checkMain (Nat.le_of_ble_eq_true rfl) (Nat.le_of_ble_eq_true rfl) (ch_rts hb6) (cp_tV h (fun p hp Q' hq => s_X11_checkMain hp hq) (fun w8 h => ?_) (fun a w1 h => ?_))))
    · obtain ⟨r, hr, h⟩ := ch_bd h
      obtain rfl := Option.some.inj h
      exact ch_iconst _ 5 dX11_check_43 rfl (ch_istore_n 2 _ (ls1 := [some (va_rf (some t0)), some (.int x1), some (.int 5), none, none]) dX11_check_44 (Nat.le_of_ble_eq_true rfl) rfl (ch_FT.wk (ch_wS (ch_wN (ch_wS (ch_wN (ch_wN ch_w0))))) (sl_X11_check_45  hr hk)))
    · subst h
      exact ch_th rfl hk
  · refine ch_aload_n 0 (some t0) dX11_check_17 rfl (ch_aload_n 0 (some t0) dX11_check_18 rfl (cp_gR (ci := 11) (k := 1) dX11_check_19 fl_X11_12 rfl h (fun v9 h => ?_)))
    obtain ⟨b11, hb10, h⟩ := ch_bd h
    obtain ⟨v12, hp13, h⟩ := ch_bd h
    refine ch_iload_n 2 _ dX11_check_22 rfl (ch_iv yJ5_get prog_32_method_20_code 2 (some (.object "java/lang/Object")) (ci := 13) (q := (RJ5, TJ5, 3)) (b := b11) (d' := 4) (av := [.int x2]) (rest := [va_rf (some t0)]) (by rw [ch_rs hb10]; rfl) dX11_check_23 q1062 q612 rfl q613 q614 can_J5_get (Nat.le_of_ble_eq_true rfl) (ch_hw (Nat.le_of_ble_eq_true rfl)) (ch_rtg hb10) (cp_kR (v := v12) (w1 := w) (fun Q' hq => s_J5_get hp13 hq) ?_))
    refine cp_cast (ci := 6) (q := (RX6, TX6, 8)) dX11_check_26 rfl q1054 h (fun h => ?_)
    obtain ⟨_, hb14, h⟩ := ch_bd h
    refine ch_iv yX11_checkMembers prog_2_method_10_code 4 none (ci := 11) (q := (RX11, TX11, 14)) (b := t0) (d' := 9) (av := [va_rf v12]) (rest := []) rfl dX11_check_29 q1132 q1134 rfl qs37 q1135 can_X11_checkMembers (Nat.le_of_ble_eq_true rfl) (Nat.le_of_ble_eq_true rfl) (ch_rts hb14) (cp_tV h (fun p hp Q' hq => s_X11_checkMembers hp hq) (fun w16 h => ?_) (fun a w1 h => ?_))
    · refine ch_iinc 2 _ _ (x2 + 1) (ls1 := [some (va_rf (some t0)), some (.int x1), some (.int (x2 + 1)), none, none]) dX11_check_32 rfl rfl (Nat.le_of_ble_eq_true rfl) rfl (ch_goto 6 dX11_check_35 rfl (ch_FT.wk (ch_wS (ch_wS (ch_wS (ch_wN (ch_wN ch_w0))))) ?_))
      obtain rfl := Option.some.inj h
      exact hk
    · subst h
      exact ch_th rfl hk
theorem sl_X11_check_6 {g : State} {t0 : Nat} {x1 : Int32} {a : Int32 × ch_W} {res : Except Nat Unit × ch_W} {Q : Outcome → ch_W → Prop} (h : ch_loop (fun (s : Int32 × ch_W) => c_X11_check_6 g t0 x1 s.1 s.2) a = some res) (hk : (ch_xV Q) res) : ch_FT g true mX11_check 824 6 [some (va_rf (some t0)), some (.int x1), some (.int a.1), none, none] [] (a.2) Q := by
  refine ch_loop_ind (fun (a : Int32 × ch_W) (r : Except Nat Unit × ch_W) => (ch_xV Q) r → ch_FT g true mX11_check 824 6 [some (va_rf (some t0)), some (.int x1), some (.int a.1), none, none] [] (a.2) Q) ?_ ?_ a res h hk
  · intro a a2 b h1 ih hk
    exact s_X11_check_6  h1 (ih hk)
  · intro a b h1 hk
    exact s_X11_check_6  h1 hk

def c_X11_check (g : State) (t0 : Nat) (x1 : Int32) (w : ch_W) : Option (Except Nat Unit × ch_W) := (ch_rc w (some t0) 12).bind fun _ => ch_tb (c_X11_checkClasses g t0 w) (fun a w => (.error a, w)) fun _ w3 => ch_loop (fun (s : Int32 × ch_W) => c_X11_check_6 g t0 x1 s.1 s.2) (5, w3)
theorem s_X11_check {g : State} {t0 : Nat} {x1 : Int32} {w : ch_W} {res : Except Nat Unit × ch_W} {Q : Outcome → ch_W → Prop} (h : c_X11_check g t0 x1 w = some res) (hk : (ch_xV Q) res) : ch_CT g true yX11_check 824 [.ref t0, .int x1] (w) Q := by
  unfold c_X11_check at h
  refine ch_ctL mX11_check (ls := [some (va_rf (some t0)), some (.int x1), none, none, none]) q1114 rfl (ch_lyr (r := some t0) (ch_lyi ch_ly0)) (Nat.le_of_ble_eq_true rfl) rfl ?_
  obtain ⟨_, hb1, h⟩ := ch_bd h
  refine ch_aload_n 0 (some t0) dX11_check_0 rfl (ch_iv yX11_checkClasses prog_2_method_8_code 5 none (ci := 11) (q := (RX11, TX11, 14)) (b := t0) (d' := 8) (av := []) (rest := []) rfl dX11_check_1 q1115 q1117 rfl qs35 q1118 can_X11_checkClasses (Nat.le_of_ble_eq_true rfl) (Nat.le_of_ble_eq_true rfl) (ch_rts hb1) (cp_tV h (fun p hp Q' hq => s_X11_checkClasses hp hq) (fun w3 h => ?_) (fun a w1 h => ?_)))
  · exact ch_iconst _ 5 dX11_check_4 rfl (ch_istore_n 2 _ (ls1 := [some (va_rf (some t0)), some (.int x1), some (.int 5), none, none]) dX11_check_5 (Nat.le_of_ble_eq_true rfl) rfl (ch_FT.wk (ch_wS (ch_wS (ch_wS (ch_wN (ch_wN ch_w0))))) (sl_X11_check_6  h hk)))
  · subst h
    exact ch_th rfl hk

theorem bX0_program_0 : ch_ck cX0_program 0 [42, 180, 0, 24, 60, 42, 3, 181, 0, 24, 42, 1, 181, 0, 31, 42] := ch_ckof (by decide +kernel)
theorem bX0_program_1 : ch_ck cX0_program 16 [3, 181, 0, 35, 187, 0, 39, 89, 42, 180, 0, 9, 27, 183, 0, 41] := ch_ckof (by decide +kernel)
theorem bX0_program_2 : ch_ck cX0_program 32 [77, 44, 182, 0, 44, 187, 0, 46, 89, 44, 183, 0, 48, 78, 45, 27] := ch_ckof (by decide +kernel)
theorem bX0_program_3 : ch_ck cX0_program 48 [182, 0, 51, 167, 0, 11, 58, 4, 25, 4, 180, 0, 56, 172, 42, 45] := ch_ckof (by decide +kernel)
theorem bX0_program_4 : ch_ck cX0_program 64 [181, 0, 31, 42, 45, 180, 0, 59, 182, 0, 63, 189, 0, 69, 181, 0] := ch_ckof (by decide +kernel)
theorem bX0_program_5 : ch_ck cX0_program 80 [71, 3, 54, 4, 21, 4, 42, 180, 0, 71, 190, 162, 0, 28, 42, 180] := ch_ckof (by decide +kernel)
theorem bX0_program_6 : ch_ck cX0_program 96 [0, 71, 21, 4, 45, 180, 0, 59, 21, 4, 182, 0, 74, 192, 0, 69] := ch_ckof (by decide +kernel)
theorem bX0_program_7 : ch_ck cX0_program 112 [83, 132, 4, 1, 167, 255, 224, 42, 180, 0, 71, 190, 8, 100, 172] := ch_ckof (by decide +kernel)
theorem dX0_program_0 : decode cX0_program 0 = .ok (.aload_n 0, 1) := dz_42 (bX0_program_0 0 _ rfl)
theorem dX0_program_1 : decode cX0_program 1 = .ok (.getfield 24, 3) := dz_180 (bX0_program_0 1 _ rfl) (bX0_program_0 2 _ rfl) (bX0_program_0 3 _ rfl)
theorem dX0_program_4 : decode cX0_program 4 = .ok (.istore_n 1, 1) := dz_60 (bX0_program_0 4 _ rfl)
theorem dX0_program_5 : decode cX0_program 5 = .ok (.aload_n 0, 1) := dz_42 (bX0_program_0 5 _ rfl)
theorem dX0_program_6 : decode cX0_program 6 = .ok (.iconst 0, 1) := dz_3 (bX0_program_0 6 _ rfl)
theorem dX0_program_7 : decode cX0_program 7 = .ok (.putfield 24, 3) := dz_181 (bX0_program_0 7 _ rfl) (bX0_program_0 8 _ rfl) (bX0_program_0 9 _ rfl)
theorem dX0_program_10 : decode cX0_program 10 = .ok (.aload_n 0, 1) := dz_42 (bX0_program_0 10 _ rfl)
theorem dX0_program_11 : decode cX0_program 11 = .ok (.aconst_null, 1) := dz_1 (bX0_program_0 11 _ rfl)
theorem dX0_program_12 : decode cX0_program 12 = .ok (.putfield 31, 3) := dz_181 (bX0_program_0 12 _ rfl) (bX0_program_0 13 _ rfl) (bX0_program_0 14 _ rfl)
theorem dX0_program_15 : decode cX0_program 15 = .ok (.aload_n 0, 1) := dz_42 (bX0_program_0 15 _ rfl)
theorem dX0_program_16 : decode cX0_program 16 = .ok (.iconst 0, 1) := dz_3 (bX0_program_1 0 _ rfl)
theorem dX0_program_17 : decode cX0_program 17 = .ok (.putfield 35, 3) := dz_181 (bX0_program_1 1 _ rfl) (bX0_program_1 2 _ rfl) (bX0_program_1 3 _ rfl)
theorem dX0_program_20 : decode cX0_program 20 = .ok (.new 39, 3) := dz_187 (bX0_program_1 4 _ rfl) (bX0_program_1 5 _ rfl) (bX0_program_1 6 _ rfl)
theorem dX0_program_23 : decode cX0_program 23 = .ok (.dup, 1) := dz_89 (bX0_program_1 7 _ rfl)
theorem dX0_program_24 : decode cX0_program 24 = .ok (.aload_n 0, 1) := dz_42 (bX0_program_1 8 _ rfl)
theorem dX0_program_25 : decode cX0_program 25 = .ok (.getfield 9, 3) := dz_180 (bX0_program_1 9 _ rfl) (bX0_program_1 10 _ rfl) (bX0_program_1 11 _ rfl)
theorem dX0_program_28 : decode cX0_program 28 = .ok (.iload_n 1, 1) := dz_27 (bX0_program_1 12 _ rfl)
theorem dX0_program_29 : decode cX0_program 29 = .ok (.invokespecial 41, 3) := dz_183 (bX0_program_1 13 _ rfl) (bX0_program_1 14 _ rfl) (bX0_program_1 15 _ rfl)
theorem dX0_program_32 : decode cX0_program 32 = .ok (.astore_n 2, 1) := dz_77 (bX0_program_2 0 _ rfl)
theorem dX0_program_33 : decode cX0_program 33 = .ok (.aload_n 2, 1) := dz_44 (bX0_program_2 1 _ rfl)
theorem dX0_program_34 : decode cX0_program 34 = .ok (.invokevirtual 44, 3) := dz_182 (bX0_program_2 2 _ rfl) (bX0_program_2 3 _ rfl) (bX0_program_2 4 _ rfl)
theorem dX0_program_37 : decode cX0_program 37 = .ok (.new 46, 3) := dz_187 (bX0_program_2 5 _ rfl) (bX0_program_2 6 _ rfl) (bX0_program_2 7 _ rfl)
theorem dX0_program_40 : decode cX0_program 40 = .ok (.dup, 1) := dz_89 (bX0_program_2 8 _ rfl)
theorem dX0_program_41 : decode cX0_program 41 = .ok (.aload_n 2, 1) := dz_44 (bX0_program_2 9 _ rfl)
theorem dX0_program_42 : decode cX0_program 42 = .ok (.invokespecial 48, 3) := dz_183 (bX0_program_2 10 _ rfl) (bX0_program_2 11 _ rfl) (bX0_program_2 12 _ rfl)
theorem dX0_program_45 : decode cX0_program 45 = .ok (.astore_n 3, 1) := dz_78 (bX0_program_2 13 _ rfl)
theorem dX0_program_46 : decode cX0_program 46 = .ok (.aload_n 3, 1) := dz_45 (bX0_program_2 14 _ rfl)
theorem dX0_program_47 : decode cX0_program 47 = .ok (.iload_n 1, 1) := dz_27 (bX0_program_2 15 _ rfl)
theorem dX0_program_48 : decode cX0_program 48 = .ok (.invokevirtual 51, 3) := dz_182 (bX0_program_3 0 _ rfl) (bX0_program_3 1 _ rfl) (bX0_program_3 2 _ rfl)
theorem dX0_program_51 : decode cX0_program 51 = .ok (.goto 11, 3) := dz_167 (bX0_program_3 3 _ rfl) (bX0_program_3 4 _ rfl) (bX0_program_3 5 _ rfl)
theorem dX0_program_54 : decode cX0_program 54 = .ok (.astore 4, 2) := dz_58 (bX0_program_3 6 _ rfl) (bX0_program_3 7 _ rfl)
theorem dX0_program_56 : decode cX0_program 56 = .ok (.aload 4, 2) := dz_25 (bX0_program_3 8 _ rfl) (bX0_program_3 9 _ rfl)
theorem dX0_program_58 : decode cX0_program 58 = .ok (.getfield 56, 3) := dz_180 (bX0_program_3 10 _ rfl) (bX0_program_3 11 _ rfl) (bX0_program_3 12 _ rfl)
theorem dX0_program_61 : decode cX0_program 61 = .ok (.ireturn, 1) := dz_172 (bX0_program_3 13 _ rfl)
theorem dX0_program_62 : decode cX0_program 62 = .ok (.aload_n 0, 1) := dz_42 (bX0_program_3 14 _ rfl)
theorem dX0_program_63 : decode cX0_program 63 = .ok (.aload_n 3, 1) := dz_45 (bX0_program_3 15 _ rfl)
theorem dX0_program_64 : decode cX0_program 64 = .ok (.putfield 31, 3) := dz_181 (bX0_program_4 0 _ rfl) (bX0_program_4 1 _ rfl) (bX0_program_4 2 _ rfl)
theorem dX0_program_67 : decode cX0_program 67 = .ok (.aload_n 0, 1) := dz_42 (bX0_program_4 3 _ rfl)
theorem dX0_program_68 : decode cX0_program 68 = .ok (.aload_n 3, 1) := dz_45 (bX0_program_4 4 _ rfl)
theorem dX0_program_69 : decode cX0_program 69 = .ok (.getfield 59, 3) := dz_180 (bX0_program_4 5 _ rfl) (bX0_program_4 6 _ rfl) (bX0_program_4 7 _ rfl)
theorem dX0_program_72 : decode cX0_program 72 = .ok (.invokevirtual 63, 3) := dz_182 (bX0_program_4 8 _ rfl) (bX0_program_4 9 _ rfl) (bX0_program_4 10 _ rfl)
theorem dX0_program_75 : decode cX0_program 75 = .ok (.anewarray 69, 3) := dz_189 (bX0_program_4 11 _ rfl) (bX0_program_4 12 _ rfl) (bX0_program_4 13 _ rfl)
theorem dX0_program_78 : decode cX0_program 78 = .ok (.putfield 71, 3) := dz_181 (bX0_program_4 14 _ rfl) (bX0_program_4 15 _ rfl) (bX0_program_5 0 _ rfl)
theorem dX0_program_81 : decode cX0_program 81 = .ok (.iconst 0, 1) := dz_3 (bX0_program_5 1 _ rfl)
theorem dX0_program_82 : decode cX0_program 82 = .ok (.istore 4, 2) := dz_54 (bX0_program_5 2 _ rfl) (bX0_program_5 3 _ rfl)
theorem dX0_program_84 : decode cX0_program 84 = .ok (.iload 4, 2) := dz_21 (bX0_program_5 4 _ rfl) (bX0_program_5 5 _ rfl)
theorem dX0_program_86 : decode cX0_program 86 = .ok (.aload_n 0, 1) := dz_42 (bX0_program_5 6 _ rfl)
theorem dX0_program_87 : decode cX0_program 87 = .ok (.getfield 71, 3) := dz_180 (bX0_program_5 7 _ rfl) (bX0_program_5 8 _ rfl) (bX0_program_5 9 _ rfl)
theorem dX0_program_90 : decode cX0_program 90 = .ok (.arraylength, 1) := dz_190 (bX0_program_5 10 _ rfl)
theorem dX0_program_91 : decode cX0_program 91 = .ok (.if_icmp .ge 28, 3) := dz_162 (bX0_program_5 11 _ rfl) (bX0_program_5 12 _ rfl) (bX0_program_5 13 _ rfl)
theorem dX0_program_94 : decode cX0_program 94 = .ok (.aload_n 0, 1) := dz_42 (bX0_program_5 14 _ rfl)
theorem dX0_program_95 : decode cX0_program 95 = .ok (.getfield 71, 3) := dz_180 (bX0_program_5 15 _ rfl) (bX0_program_6 0 _ rfl) (bX0_program_6 1 _ rfl)
theorem dX0_program_98 : decode cX0_program 98 = .ok (.iload 4, 2) := dz_21 (bX0_program_6 2 _ rfl) (bX0_program_6 3 _ rfl)
theorem dX0_program_100 : decode cX0_program 100 = .ok (.aload_n 3, 1) := dz_45 (bX0_program_6 4 _ rfl)
theorem dX0_program_101 : decode cX0_program 101 = .ok (.getfield 59, 3) := dz_180 (bX0_program_6 5 _ rfl) (bX0_program_6 6 _ rfl) (bX0_program_6 7 _ rfl)
theorem dX0_program_104 : decode cX0_program 104 = .ok (.iload 4, 2) := dz_21 (bX0_program_6 8 _ rfl) (bX0_program_6 9 _ rfl)
theorem dX0_program_106 : decode cX0_program 106 = .ok (.invokevirtual 74, 3) := dz_182 (bX0_program_6 10 _ rfl) (bX0_program_6 11 _ rfl) (bX0_program_6 12 _ rfl)
theorem dX0_program_109 : decode cX0_program 109 = .ok (.checkcast 69, 3) := dz_192 (bX0_program_6 13 _ rfl) (bX0_program_6 14 _ rfl) (bX0_program_6 15 _ rfl)
theorem dX0_program_112 : decode cX0_program 112 = .ok (.aastore, 1) := dz_83 (bX0_program_7 0 _ rfl)
theorem dX0_program_113 : decode cX0_program 113 = .ok (.iinc 4 1, 3) := dz_132 (bX0_program_7 1 _ rfl) (bX0_program_7 2 _ rfl) (bX0_program_7 3 _ rfl)
theorem dX0_program_116 : decode cX0_program 116 = .ok (.goto (-32), 3) := dz_167 (bX0_program_7 4 _ rfl) (bX0_program_7 5 _ rfl) (bX0_program_7 6 _ rfl)
theorem dX0_program_119 : decode cX0_program 119 = .ok (.aload_n 0, 1) := dz_42 (bX0_program_7 7 _ rfl)
theorem dX0_program_120 : decode cX0_program 120 = .ok (.getfield 71, 3) := dz_180 (bX0_program_7 8 _ rfl) (bX0_program_7 9 _ rfl) (bX0_program_7 10 _ rfl)
theorem dX0_program_123 : decode cX0_program 123 = .ok (.arraylength, 1) := dz_190 (bX0_program_7 11 _ rfl)
theorem dX0_program_124 : decode cX0_program 124 = .ok (.iconst 5, 1) := dz_8 (bX0_program_7 12 _ rfl)
theorem dX0_program_125 : decode cX0_program 125 = .ok (.isub, 1) := dz_100 (bX0_program_7 13 _ rfl)
theorem dX0_program_126 : decode cX0_program 126 = .ok (.ireturn, 1) := dz_172 (bX0_program_7 14 _ rfl)
def c_X0_program_84 (g : State) (t0 : Nat) (x3 : Option Nat) (x4 : Int32)  (w : ch_W) : Option ((Int32 × ch_W) ⊕ (Int32 × ch_W)) := (ch_gR w (some t0) 1 fX0_kinds).bind fun v1 => (ch_le w v1 29).bind fun v2 => if x4 < v2 then ((ch_gR w (some t0) 1 fX0_kinds).bind fun v5 => (ch_gR w x3 12 fX11_kinds).bind fun v6 => (ch_rc w v6 14).bind fun b8 => (c_J5_get b8 x4 w).bind fun v9 => (ch_cast w v9 7).bind fun _ => (ch_wR w v5 29 7 x4 v9).bind fun w11 => some (.inl (x4 + 1, w11))) else ((ch_gR w (some t0) 1 fX0_kinds).bind fun v3 => (ch_le w v3 29).bind fun v4 => some (.inr ((v4 - 5, w))))
theorem s_X0_program_84 {g : State} {t0 : Nat} {x3 : Option Nat} {x4 : Int32} {w : ch_W} {res : (Int32 × ch_W) ⊕ (Int32 × ch_W)} {Q : Outcome → ch_W → Prop} (h : c_X0_program_84 g t0 x3 x4 w = some res) (hk : (ch_sm (fun s => ch_FT g true mX0_program 825 84 [some (va_rf (some t0)), none, none, some (va_rf x3), some (.int s.1)] [] (s.2) Q) (ch_eI Q)) res) : ch_FT g true mX0_program 825 84 [some (va_rf (some t0)), none, none, some (va_rf x3), some (.int x4)] [] (w) Q := by
  unfold c_X0_program_84 at h
  refine ch_iload 4 _ dX0_program_84 rfl (ch_aload_n 0 (some t0) dX0_program_86 rfl (cp_gR (ci := 0) (k := 3) dX0_program_87 fl_X0_71 rfl h (fun v1 h => ?_)))
  refine cp_alen (t := 29) dX0_program_90 rfl rfl h (fun v2 h => ?_)
  refine cp_icmp_ge _ _ (tgt := 119) dX0_program_91 rfl h (fun h => ?_) (fun h => ?_)
  · refine ch_aload_n 0 (some t0) dX0_program_119 rfl (cp_gR (ci := 0) (k := 3) dX0_program_120 fl_X0_71 rfl h (fun v3 h => ?_))
    refine cp_alen (t := 29) dX0_program_123 rfl rfl h (fun v4 h => ?_)
    obtain rfl := Option.some.inj h
    exact ch_iconst _ 5 dX0_program_124 rfl (ch_isub _ _ dX0_program_125 (ch_ireturn _ dX0_program_126 rfl rfl hk))
  · refine ch_aload_n 0 (some t0) dX0_program_94 rfl (cp_gR (ci := 0) (k := 3) dX0_program_95 fl_X0_71 rfl h (fun v5 h => ?_))
    refine ch_iload 4 _ dX0_program_98 rfl (ch_aload_n 3 x3 dX0_program_100 rfl (cp_gR (ci := 11) (k := 1) dX0_program_101 fl_X0_59 rfl h (fun v6 h => ?_)))
    obtain ⟨b8, hb7, h⟩ := ch_bd h
    obtain ⟨v9, hp10, h⟩ := ch_bd h
    refine ch_iload 4 _ dX0_program_104 rfl (ch_iv yJ5_get prog_32_method_20_code 2 (some (.object "java/lang/Object")) (ci := 13) (q := (RJ5, TJ5, 3)) (b := b8) (d' := 4) (av := [.int x4]) (rest := [.int x4, va_rf v5]) (by rw [ch_rs hb7]; rfl) dX0_program_106 q1297 q612 rfl q613 q614 can_J5_get (Nat.le_of_ble_eq_true rfl) (ch_hw (Nat.le_of_ble_eq_true rfl)) (ch_rtg hb7) (cp_kR (v := v9) (w1 := w) (fun Q' hq => s_J5_get hp10 hq) ?_))
    refine cp_cast (ci := 6) (q := (RX6, TX6, 8)) dX0_program_109 rfl q1295 h (fun h => ?_)
    refine cp_aast (t := 29) (c := 7) dX0_program_112 rfl (Nat.le_of_ble_eq_true rfl) rfl el_7 h (fun w11 h => ?_)
    refine ch_iinc 4 _ _ (x4 + 1) (ls1 := [some (va_rf (some t0)), none, none, some (va_rf x3), some (.int (x4 + 1))]) dX0_program_113 rfl rfl (Nat.le_of_ble_eq_true rfl) (ch_s1o rfl rfl) (ch_goto 84 dX0_program_116 rfl (ch_FT.wk (ch_wS (ch_wN (ch_wN (ch_wS (ch_wS ch_w0))))) ?_))
    obtain rfl := Option.some.inj h
    exact hk
theorem sl_X0_program_84 {g : State} {t0 : Nat} {x3 : Option Nat} {a : Int32 × ch_W} {res : Int32 × ch_W} {Q : Outcome → ch_W → Prop} (h : ch_loop (fun (s : Int32 × ch_W) => c_X0_program_84 g t0 x3 s.1 s.2) a = some res) (hk : (ch_eI Q) res) : ch_FT g true mX0_program 825 84 [some (va_rf (some t0)), none, none, some (va_rf x3), some (.int a.1)] [] (a.2) Q := by
  refine ch_loop_ind (fun (a : Int32 × ch_W) (r : Int32 × ch_W) => (ch_eI Q) r → ch_FT g true mX0_program 825 84 [some (va_rf (some t0)), none, none, some (va_rf x3), some (.int a.1)] [] (a.2) Q) ?_ ?_ a res h hk
  · intro a a2 b h1 ih hk
    exact s_X0_program_84  h1 (ih hk)
  · intro a b h1 hk
    exact s_X0_program_84  h1 hk

def c_X0_program (g : State) (t0 : Nat)  (w : ch_W) : Option (Int32 × ch_W) := (ch_gI w (some t0) 1 fX0_fed).bind fun v1 => (ch_pI w (some t0) 1 fX0_fed 0).bind fun w2 => (ch_pR w2 (some t0) 1 fX0_program none).bind fun w3 => (ch_bit 0).bind fun _ => (ch_pI w3 (some t0) 1 fX0_isBegun 0).bind fun w4 => (ch_nO w4 5 9).bind fun w5 => (ch_gR w5 (some t0) 1 fX0_tape).bind fun v6 => (c_X4_init g (ch_nx w4) v6 v1 w5).bind fun p7 => (ch_rc p7 (some (ch_nx w4)) 5).bind fun _ => ch_tbh (c_X4_program g (ch_nx w4) p7) (fun a11 w12 => if ch_tg w12 a11 = 6 then ((ch_gI w12 (some a11) 6 fX5_answer).bind fun v29 => some ((v29, w12))) else (none)) fun _ w10 => (ch_nO w10 12 14).bind fun w13 => (c_X11_init g (ch_nx w10) (some (ch_nx w4)) w13).bind fun p14 => (ch_rc p14 (some (ch_nx w10)) 12).bind fun _ => ch_tbh (c_X11_check g (ch_nx w10) v1 p14) (fun a18 w19 => if ch_tg w19 a18 = 6 then ((ch_gI w19 (some a18) 6 fX5_answer).bind fun v28 => some ((v28, w19))) else (none)) fun _ w17 => (ch_pR w17 (some t0) 1 fX0_program (some (ch_nx w10))).bind fun w20 => (ch_gR w20 (some (ch_nx w10)) 12 fX11_kinds).bind fun v21 => (ch_rc w20 v21 14).bind fun b23 => (c_J5_size b23 w20).bind fun v24 => (ch_nA w20 29 v24).bind fun w26 => (ch_pR w26 (some t0) 1 fX0_kinds (some (ch_nx w20))).bind fun w27 => ch_loop (fun (s : Int32 × ch_W) => c_X0_program_84 g t0 (some (ch_nx w10)) s.1 s.2) (0, w27)
theorem s_X0_program {g : State} {t0 : Nat} {w : ch_W} {res : Int32 × ch_W} {Q : Outcome → ch_W → Prop} (h : c_X0_program g t0 w = some res) (hk : (ch_eI Q) res) : ch_CT g true yX0_program 825 [.ref t0] (w) Q := by
  unfold c_X0_program at h
  refine ch_ctH mX0_program (ls := [some (va_rf (some t0)), none, none, none, none]) q430 (ch_lyr (r := some t0) ch_ly0) (Nat.le_of_ble_eq_true rfl) rfl ?_
  refine ch_aload_n 0 (some t0) dX0_program_0 rfl (cp_gI (ci := 0) (k := 1) dX0_program_1 fl_X0_24 rfl h (fun v1 h => ?_))
  refine ch_istore_n 1 _ (ls1 := [some (va_rf (some t0)), some (.int v1), none, none, none]) dX0_program_4 (Nat.le_of_ble_eq_true rfl) rfl (ch_aload_n 0 (some t0) dX0_program_5 rfl (ch_iconst _ 0 dX0_program_6 rfl (cp_pI (ci := 0) (k := 1) dX0_program_7 fl_X0_24 rfl rfl rfl h (fun w2 h => ?_))))
  refine ch_aload_n 0 (some t0) dX0_program_10 rfl (ch_null dX0_program_11 (cp_pR (ci := 0) (k := 2) dX0_program_12 fl_X0_31 rfl rfl rfl h (fun w3 h => ?_)))
  refine ch_aload_n 0 (some t0) dX0_program_15 rfl (ch_iconst _ 0 dX0_program_16 rfl (cp_pZ (ci := 0) (k := 6) dX0_program_17 fl_X0_35 rfl rfl rfl h (fun w4 h => ?_)))
  refine cp_new (ci := 4) (n := 9) (q := (RX4, TX4, 9)) dX0_program_20 rfl q432 q433 q207 h (fun w5 h => ?_)
  refine ch_dup dX0_program_23 (ch_cat _) (ch_aload_n 0 (some t0) dX0_program_24 rfl (cp_gR (ci := 0) (k := 0) dX0_program_25 fl_X0_9 rfl h (fun v6 h => ?_)))
  obtain ⟨p7, hp8, h⟩ := ch_bd h
  refine ch_iload_n 1 _ dX0_program_28 rfl (ch_ii yX4_init prog_7_method_1_code 3 (b := (ch_nx w4)) (d' := 5) (av := [va_rf v6, .int v1]) (rest := [va_rf (some (ch_nx w4))]) rfl dX0_program_29 rfl q434 q435 q436 can_X4_init (Nat.le_of_ble_eq_true rfl) (ch_hw (Nat.le_of_ble_eq_true rfl)) (cp_kV (w1 := p7) (fun Q' hq => s_X4_init hp8 hq) ?_))
  obtain ⟨_, hb9, h⟩ := ch_bd h
  refine ch_astore_n 2 (some (ch_nx w4)) (ls1 := [some (va_rf (some t0)), some (.int v1), some (va_rf (some (ch_nx w4))), none, none]) dX0_program_32 (Nat.le_of_ble_eq_true rfl) rfl (ch_aload_n 2 (some (ch_nx w4)) dX0_program_33 rfl (ch_iv yX4_program prog_7_method_17_code 2 none (ci := 4) (q := (RX4, TX4, 9)) (b := (ch_nx w4)) (d' := 446) (av := []) (rest := []) rfl dX0_program_34 q493 q494 rfl q495 q496 can_X4_program (Nat.le_of_ble_eq_true rfl) (Nat.le_of_ble_eq_true rfl) (ch_rts hb9) (cp_tVH h (fun p hp Q' hq => s_X4_program hp hq) (fun w10 h => ?_) (fun a11 w12 h => ?_))))
  · refine cp_new (ci := 11) (n := 14) (q := (RX11, TX11, 14)) dX0_program_37 rfl q1037 q1038 q226 h (fun w13 h => ?_)
    obtain ⟨p14, hp15, h⟩ := ch_bd h
    refine ch_dup dX0_program_40 (ch_cat _) (ch_aload_n 2 (some (ch_nx w4)) dX0_program_41 rfl (ch_ii yX11_init prog_2_method_1_code 4 (b := (ch_nx w10)) (d' := 11) (av := [va_rf (some (ch_nx w4))]) (rest := [va_rf (some (ch_nx w10))]) rfl dX0_program_42 rfl q1039 q1040 q1041 can_X11_init (Nat.le_of_ble_eq_true rfl) (ch_hw (Nat.le_of_ble_eq_true rfl)) (cp_kV (w1 := p14) (fun Q' hq => s_X11_init hp15 hq) ?_)))
    obtain ⟨_, hb16, h⟩ := ch_bd h
    refine ch_astore_n 3 (some (ch_nx w10)) (ls1 := [some (va_rf (some t0)), some (.int v1), some (va_rf (some (ch_nx w4))), some (va_rf (some (ch_nx w10))), none]) dX0_program_45 (Nat.le_of_ble_eq_true rfl) rfl (ch_aload_n 3 (some (ch_nx w10)) dX0_program_46 rfl (ch_iload_n 1 _ dX0_program_47 rfl (ch_iv yX11_check prog_2_method_7_code 5 none (ci := 11) (q := (RX11, TX11, 14)) (b := (ch_nx w10)) (d' := 824) (av := [.int v1]) (rest := []) rfl dX0_program_48 q1111 q1112 rfl q1113 q1114 can_X11_check (Nat.le_of_ble_eq_true rfl) (Nat.le_of_ble_eq_true rfl) (ch_rts hb16) (cp_tVH h (fun p hp Q' hq => s_X11_check hp hq) (fun w17 h => ?_) (fun a18 w19 h => ?_)))))
    · refine ch_goto 62 dX0_program_51 rfl (ch_aload_n 0 (some t0) dX0_program_62 rfl (ch_aload_n 3 (some (ch_nx w10)) dX0_program_63 rfl (cp_pR (ci := 0) (k := 2) dX0_program_64 fl_X0_31 rfl rfl rfl h (fun w20 h => ?_))))
      refine ch_aload_n 0 (some t0) dX0_program_67 rfl (ch_aload_n 3 (some (ch_nx w10)) dX0_program_68 rfl (cp_gR (ci := 11) (k := 1) dX0_program_69 fl_X0_59 rfl h (fun v21 h => ?_)))
      obtain ⟨b23, hb22, h⟩ := ch_bd h
      obtain ⟨v24, hp25, h⟩ := ch_bd h
      refine ch_iv yJ5_size prog_32_method_8_code 1 (some .int) (ci := 13) (q := (RJ5, TJ5, 3)) (b := b23) (d' := 2) (av := []) (rest := [va_rf (some t0)]) (by rw [ch_rs hb22]; rfl) dX0_program_72 q1294 q608 rfl q609 q610 can_J5_size (Nat.le_of_ble_eq_true rfl) (ch_hw (Nat.le_of_ble_eq_true rfl)) (ch_rtg hb22) (cp_kI (v := v24) (w1 := w20) (fun Q' hq => s_J5_size hp25 hq) ?_)
      refine cp_newR (t := 29) (C := "ClassHouse$Kind") dX0_program_75 rfl (Nat.le_of_ble_eq_true rfl) q1295 q1296 h (fun w26 h => ?_)
      refine cp_pR (ci := 0) (k := 3) dX0_program_78 fl_X0_71 rfl rfl rfl h (fun w27 h => ?_)
      exact ch_iconst _ 0 dX0_program_81 rfl (ch_istore 4 _ (ls1 := [some (va_rf (some t0)), some (.int v1), some (va_rf (some (ch_nx w4))), some (va_rf (some (ch_nx w10))), some (.int 0)]) dX0_program_82 (Nat.le_of_ble_eq_true rfl) rfl (ch_FT.wk (ch_wS (ch_wN (ch_wN (ch_wS (ch_wS ch_w0))))) (sl_X0_program_84  h hk)))
    · by_cases et0 : ch_tg w19 a18 = 6
      · replace h := ch_ifT et0 h
        refine ch_th1 (ci := 5) (q := (RX5, TX5, 7)) rfl (by decide) (by decide) (by decide) rfl q431 et0 ?_
        refine ch_astore 4 (some a18) (ls1 := [some (va_rf (some t0)), some (.int v1), some (va_rf (some (ch_nx w4))), some (va_rf (some (ch_nx w10))), some (va_rf (some a18))]) dX0_program_54 (Nat.le_of_ble_eq_true rfl) rfl (ch_aload 4 (some a18) dX0_program_56 rfl (cp_gI (ci := 5) (k := 6) dX0_program_58 fl_X0_56 rfl h (fun v28 h => ?_)))
        obtain rfl := Option.some.inj h
        exact ch_ireturn _ dX0_program_61 rfl rfl hk
      replace h := ch_ifF et0 h
      cases h
  · by_cases et0 : ch_tg w12 a11 = 6
    · replace h := ch_ifT et0 h
      refine ch_th1 (ci := 5) (q := (RX5, TX5, 7)) rfl (by decide) (by decide) (by decide) rfl q431 et0 ?_
      refine ch_astore 4 (some a11) (ls1 := [some (va_rf (some t0)), some (.int v1), some (va_rf (some (ch_nx w4))), none, some (va_rf (some a11))]) dX0_program_54 (Nat.le_of_ble_eq_true rfl) rfl (ch_aload 4 (some a11) dX0_program_56 rfl (cp_gI (ci := 5) (k := 6) dX0_program_58 fl_X0_56 rfl h (fun v29 h => ?_)))
      obtain rfl := Option.some.inj h
      exact ch_ireturn _ dX0_program_61 rfl rfl hk
    replace h := ch_ifF et0 h
    cases h

theorem bX0_heap_0 : ch_ck cX0_heap 0 [27, 16, 10, 161, 0, 10, 27, 17, 39, 16, 164, 0, 5, 2, 172, 42] := ch_ckof (by decide +kernel)
theorem bX0_heap_1 : ch_ck cX0_heap 16 [27, 181, 0, 13, 4, 172] := ch_ckof (by decide +kernel)
theorem dX0_heap_0 : decode cX0_heap 0 = .ok (.iload_n 1, 1) := dz_27 (bX0_heap_0 0 _ rfl)
theorem dX0_heap_1 : decode cX0_heap 1 = .ok (.bipush 10, 2) := dz_16 (bX0_heap_0 1 _ rfl) (bX0_heap_0 2 _ rfl)
theorem dX0_heap_3 : decode cX0_heap 3 = .ok (.if_icmp .lt 10, 3) := dz_161 (bX0_heap_0 3 _ rfl) (bX0_heap_0 4 _ rfl) (bX0_heap_0 5 _ rfl)
theorem dX0_heap_6 : decode cX0_heap 6 = .ok (.iload_n 1, 1) := dz_27 (bX0_heap_0 6 _ rfl)
theorem dX0_heap_7 : decode cX0_heap 7 = .ok (.sipush 10000, 3) := dz_17 (bX0_heap_0 7 _ rfl) (bX0_heap_0 8 _ rfl) (bX0_heap_0 9 _ rfl)
theorem dX0_heap_10 : decode cX0_heap 10 = .ok (.if_icmp .le 5, 3) := dz_164 (bX0_heap_0 10 _ rfl) (bX0_heap_0 11 _ rfl) (bX0_heap_0 12 _ rfl)
theorem dX0_heap_13 : decode cX0_heap 13 = .ok (.iconst (-1), 1) := dz_2 (bX0_heap_0 13 _ rfl)
theorem dX0_heap_14 : decode cX0_heap 14 = .ok (.ireturn, 1) := dz_172 (bX0_heap_0 14 _ rfl)
theorem dX0_heap_15 : decode cX0_heap 15 = .ok (.aload_n 0, 1) := dz_42 (bX0_heap_0 15 _ rfl)
theorem dX0_heap_16 : decode cX0_heap 16 = .ok (.iload_n 1, 1) := dz_27 (bX0_heap_1 0 _ rfl)
theorem dX0_heap_17 : decode cX0_heap 17 = .ok (.putfield 13, 3) := dz_181 (bX0_heap_1 1 _ rfl) (bX0_heap_1 2 _ rfl) (bX0_heap_1 3 _ rfl)
theorem dX0_heap_20 : decode cX0_heap 20 = .ok (.iconst 1, 1) := dz_4 (bX0_heap_1 4 _ rfl)
theorem dX0_heap_21 : decode cX0_heap 21 = .ok (.ireturn, 1) := dz_172 (bX0_heap_1 5 _ rfl)
def c_X0_heap (t0 : Nat) (x1 : Int32) (w : ch_W) : Option (Int32 × ch_W) := if x1 < 10 then (some (((-1), w))) else (if 10000 < x1 then (some (((-1), w))) else ((ch_pI w (some t0) 1 fX0_cells x1).bind fun w1 => some ((1, w1))))
theorem s_X0_heap {g : State} {t0 : Nat} {x1 : Int32} {w : ch_W} {res : Int32 × ch_W} {Q : Outcome → ch_W → Prop} (h : c_X0_heap t0 x1 w = some res) (hk : (ch_eI Q) res) : ch_CT g true yX0_heap 2 [.ref t0, .int x1] (w) Q := by
  unfold c_X0_heap at h
  refine ch_ctL mX0_heap (ls := [some (va_rf (some t0)), some (.int x1)]) q1301 rfl (ch_lyr (r := some t0) (ch_lyi ch_ly0)) (Nat.le_of_ble_eq_true rfl) rfl ?_
  refine ch_iload_n 1 _ dX0_heap_0 rfl (ch_bipush _ 10 dX0_heap_1 rfl (cp_icmp_lt _ _ (tgt := 13) dX0_heap_3 rfl h (fun h => ?_) (fun h => ?_)))
  · obtain rfl := Option.some.inj h
    exact ch_iconst _ (-1) dX0_heap_13 rfl (ch_ireturn _ dX0_heap_14 rfl rfl hk)
  · refine ch_iload_n 1 _ dX0_heap_6 rfl (ch_sipush _ 10000 dX0_heap_7 rfl (cp_icmp_le _ _ (tgt := 15) dX0_heap_10 rfl h (fun h => ?_) (fun h => ?_)))
    · refine ch_aload_n 0 (some t0) dX0_heap_15 rfl (ch_iload_n 1 _ dX0_heap_16 rfl (cp_pI (ci := 0) (k := 4) dX0_heap_17 fl_X0_13 rfl rfl rfl h (fun w1 h => ?_)))
      obtain rfl := Option.some.inj h
      exact ch_iconst _ 1 dX0_heap_20 rfl (ch_ireturn _ dX0_heap_21 rfl rfl hk)
    · obtain rfl := Option.some.inj h
      exact ch_iconst _ (-1) dX0_heap_13 rfl (ch_ireturn _ dX0_heap_14 rfl rfl hk)

theorem bX0_give_0 : ch_ck cX0_give 0 [42, 180, 0, 20, 180, 0, 84, 42, 180, 0, 20, 180, 0, 88, 42, 180] := ch_ckof (by decide +kernel)
theorem bX0_give_1 : ch_ck cX0_give 16 [0, 20, 180, 0, 78, 96, 17, 1, 44, 112, 27, 79, 42, 180, 0, 20] := ch_ckof (by decide +kernel)
theorem bX0_give_2 : ch_ck cX0_give 32 [89, 180, 0, 78, 4, 96, 181, 0, 78, 177] := ch_ckof (by decide +kernel)
theorem dX0_give_0 : decode cX0_give 0 = .ok (.aload_n 0, 1) := dz_42 (bX0_give_0 0 _ rfl)
theorem dX0_give_1 : decode cX0_give 1 = .ok (.getfield 20, 3) := dz_180 (bX0_give_0 1 _ rfl) (bX0_give_0 2 _ rfl) (bX0_give_0 3 _ rfl)
theorem dX0_give_4 : decode cX0_give 4 = .ok (.getfield 84, 3) := dz_180 (bX0_give_0 4 _ rfl) (bX0_give_0 5 _ rfl) (bX0_give_0 6 _ rfl)
theorem dX0_give_7 : decode cX0_give 7 = .ok (.aload_n 0, 1) := dz_42 (bX0_give_0 7 _ rfl)
theorem dX0_give_8 : decode cX0_give 8 = .ok (.getfield 20, 3) := dz_180 (bX0_give_0 8 _ rfl) (bX0_give_0 9 _ rfl) (bX0_give_0 10 _ rfl)
theorem dX0_give_11 : decode cX0_give 11 = .ok (.getfield 88, 3) := dz_180 (bX0_give_0 11 _ rfl) (bX0_give_0 12 _ rfl) (bX0_give_0 13 _ rfl)
theorem dX0_give_14 : decode cX0_give 14 = .ok (.aload_n 0, 1) := dz_42 (bX0_give_0 14 _ rfl)
theorem dX0_give_15 : decode cX0_give 15 = .ok (.getfield 20, 3) := dz_180 (bX0_give_0 15 _ rfl) (bX0_give_1 0 _ rfl) (bX0_give_1 1 _ rfl)
theorem dX0_give_18 : decode cX0_give 18 = .ok (.getfield 78, 3) := dz_180 (bX0_give_1 2 _ rfl) (bX0_give_1 3 _ rfl) (bX0_give_1 4 _ rfl)
theorem dX0_give_21 : decode cX0_give 21 = .ok (.iadd, 1) := dz_96 (bX0_give_1 5 _ rfl)
theorem dX0_give_22 : decode cX0_give 22 = .ok (.sipush 300, 3) := dz_17 (bX0_give_1 6 _ rfl) (bX0_give_1 7 _ rfl) (bX0_give_1 8 _ rfl)
theorem dX0_give_25 : decode cX0_give 25 = .ok (.irem, 1) := dz_112 (bX0_give_1 9 _ rfl)
theorem dX0_give_26 : decode cX0_give 26 = .ok (.iload_n 1, 1) := dz_27 (bX0_give_1 10 _ rfl)
theorem dX0_give_27 : decode cX0_give 27 = .ok (.iastore, 1) := dz_79 (bX0_give_1 11 _ rfl)
theorem dX0_give_28 : decode cX0_give 28 = .ok (.aload_n 0, 1) := dz_42 (bX0_give_1 12 _ rfl)
theorem dX0_give_29 : decode cX0_give 29 = .ok (.getfield 20, 3) := dz_180 (bX0_give_1 13 _ rfl) (bX0_give_1 14 _ rfl) (bX0_give_1 15 _ rfl)
theorem dX0_give_32 : decode cX0_give 32 = .ok (.dup, 1) := dz_89 (bX0_give_2 0 _ rfl)
theorem dX0_give_33 : decode cX0_give 33 = .ok (.getfield 78, 3) := dz_180 (bX0_give_2 1 _ rfl) (bX0_give_2 2 _ rfl) (bX0_give_2 3 _ rfl)
theorem dX0_give_36 : decode cX0_give 36 = .ok (.iconst 1, 1) := dz_4 (bX0_give_2 4 _ rfl)
theorem dX0_give_37 : decode cX0_give 37 = .ok (.iadd, 1) := dz_96 (bX0_give_2 5 _ rfl)
theorem dX0_give_38 : decode cX0_give 38 = .ok (.putfield 78, 3) := dz_181 (bX0_give_2 6 _ rfl) (bX0_give_2 7 _ rfl) (bX0_give_2 8 _ rfl)
theorem dX0_give_41 : decode cX0_give 41 = .ok (.return_, 1) := dz_177 (bX0_give_2 9 _ rfl)
def c_X0_give (t0 : Nat) (x1 : Int32) (w : ch_W) : Option (ch_W) := (ch_gR w (some t0) 1 fX0_machine).bind fun v1 => (ch_gR w v1 2 fX1_given).bind fun v2 => (ch_gR w (some t0) 1 fX0_machine).bind fun v3 => (ch_gI w v3 2 fX1_givenFirst).bind fun v4 => (ch_gR w (some t0) 1 fX0_machine).bind fun v5 => (ch_gI w v5 2 fX1_givenMany).bind fun v6 => (ch_nz 300).bind fun _ => (ch_wI w v2 21 ((v4 + v6) - (v4 + v6) / 300 * 300) x1).bind fun w7 => (ch_gR w7 (some t0) 1 fX0_machine).bind fun v8 => (ch_gI w7 v8 2 fX1_givenMany).bind fun v9 => (ch_pI w7 v8 2 fX1_givenMany (v9 + 1)).bind fun w10 => some (w10)
theorem s_X0_give {g : State} {t0 : Nat} {x1 : Int32} {w : ch_W} {res : ch_W} {Q : Outcome → ch_W → Prop} (h : c_X0_give t0 x1 w = some res) (hk : (ch_eV Q) res) : ch_CT g true yX0_give 2 [.ref t0, .int x1] (w) Q := by
  unfold c_X0_give at h
  refine ch_ctL mX0_give (ls := [some (va_rf (some t0)), some (.int x1)]) q1309 rfl (ch_lyr (r := some t0) (ch_lyi ch_ly0)) (Nat.le_of_ble_eq_true rfl) rfl ?_
  refine ch_aload_n 0 (some t0) dX0_give_0 rfl (cp_gR (ci := 0) (k := 5) dX0_give_1 fl_X0_20 rfl h (fun v1 h => ?_))
  refine cp_gR (ci := 1) (k := 11) dX0_give_4 fl_X0_84 rfl h (fun v2 h => ?_)
  refine ch_aload_n 0 (some t0) dX0_give_7 rfl (cp_gR (ci := 0) (k := 5) dX0_give_8 fl_X0_20 rfl h (fun v3 h => ?_))
  refine cp_gI (ci := 1) (k := 12) dX0_give_11 fl_X0_88 rfl h (fun v4 h => ?_)
  refine ch_aload_n 0 (some t0) dX0_give_14 rfl (cp_gR (ci := 0) (k := 5) dX0_give_15 fl_X0_20 rfl h (fun v5 h => ?_))
  refine cp_gI (ci := 1) (k := 13) dX0_give_18 fl_X0_78 rfl h (fun v6 h => ?_)
  refine ch_iadd _ _ dX0_give_21 (ch_sipush _ 300 dX0_give_22 rfl (cp_rem dX0_give_25 h (fun h => ?_)))
  refine ch_iload_n 1 _ dX0_give_26 rfl (cp_iast (t := 21) dX0_give_27 rfl (Nat.le_of_ble_eq_true rfl) rfl h (fun w7 h => ?_))
  refine ch_aload_n 0 (some t0) dX0_give_28 rfl (cp_gR (ci := 0) (k := 5) dX0_give_29 fl_X0_20 rfl h (fun v8 h => ?_))
  refine ch_dup dX0_give_32 (ch_cat _) (cp_gI (ci := 1) (k := 13) dX0_give_33 fl_X0_78 rfl h (fun v9 h => ?_))
  refine ch_iconst _ 1 dX0_give_36 rfl (ch_iadd _ _ dX0_give_37 (cp_pI (ci := 1) (k := 13) dX0_give_38 fl_X0_78 rfl rfl rfl h (fun w10 h => ?_)))
  obtain rfl := Option.some.inj h
  exact ch_return dX0_give_41 rfl hk

theorem bX0_input_0 : ch_ck cX0_input 0 [42, 180, 0, 20, 180, 0, 78, 6, 96, 17, 1, 44, 164, 0, 5, 2] := ch_ckof (by decide +kernel)
theorem bX0_input_1 : ch_ck cX0_input 16 [172, 42, 27, 182, 0, 81, 42, 28, 182, 0, 81, 42, 29, 182, 0, 81] := ch_ckof (by decide +kernel)
theorem bX0_input_2 : ch_ck cX0_input 32 [42, 180, 0, 20, 180, 0, 78, 172] := ch_ckof (by decide +kernel)
theorem dX0_input_0 : decode cX0_input 0 = .ok (.aload_n 0, 1) := dz_42 (bX0_input_0 0 _ rfl)
theorem dX0_input_1 : decode cX0_input 1 = .ok (.getfield 20, 3) := dz_180 (bX0_input_0 1 _ rfl) (bX0_input_0 2 _ rfl) (bX0_input_0 3 _ rfl)
theorem dX0_input_4 : decode cX0_input 4 = .ok (.getfield 78, 3) := dz_180 (bX0_input_0 4 _ rfl) (bX0_input_0 5 _ rfl) (bX0_input_0 6 _ rfl)
theorem dX0_input_7 : decode cX0_input 7 = .ok (.iconst 3, 1) := dz_6 (bX0_input_0 7 _ rfl)
theorem dX0_input_8 : decode cX0_input 8 = .ok (.iadd, 1) := dz_96 (bX0_input_0 8 _ rfl)
theorem dX0_input_9 : decode cX0_input 9 = .ok (.sipush 300, 3) := dz_17 (bX0_input_0 9 _ rfl) (bX0_input_0 10 _ rfl) (bX0_input_0 11 _ rfl)
theorem dX0_input_12 : decode cX0_input 12 = .ok (.if_icmp .le 5, 3) := dz_164 (bX0_input_0 12 _ rfl) (bX0_input_0 13 _ rfl) (bX0_input_0 14 _ rfl)
theorem dX0_input_15 : decode cX0_input 15 = .ok (.iconst (-1), 1) := dz_2 (bX0_input_0 15 _ rfl)
theorem dX0_input_16 : decode cX0_input 16 = .ok (.ireturn, 1) := dz_172 (bX0_input_1 0 _ rfl)
theorem dX0_input_17 : decode cX0_input 17 = .ok (.aload_n 0, 1) := dz_42 (bX0_input_1 1 _ rfl)
theorem dX0_input_18 : decode cX0_input 18 = .ok (.iload_n 1, 1) := dz_27 (bX0_input_1 2 _ rfl)
theorem dX0_input_19 : decode cX0_input 19 = .ok (.invokevirtual 81, 3) := dz_182 (bX0_input_1 3 _ rfl) (bX0_input_1 4 _ rfl) (bX0_input_1 5 _ rfl)
theorem dX0_input_22 : decode cX0_input 22 = .ok (.aload_n 0, 1) := dz_42 (bX0_input_1 6 _ rfl)
theorem dX0_input_23 : decode cX0_input 23 = .ok (.iload_n 2, 1) := dz_28 (bX0_input_1 7 _ rfl)
theorem dX0_input_24 : decode cX0_input 24 = .ok (.invokevirtual 81, 3) := dz_182 (bX0_input_1 8 _ rfl) (bX0_input_1 9 _ rfl) (bX0_input_1 10 _ rfl)
theorem dX0_input_27 : decode cX0_input 27 = .ok (.aload_n 0, 1) := dz_42 (bX0_input_1 11 _ rfl)
theorem dX0_input_28 : decode cX0_input 28 = .ok (.iload_n 3, 1) := dz_29 (bX0_input_1 12 _ rfl)
theorem dX0_input_29 : decode cX0_input 29 = .ok (.invokevirtual 81, 3) := dz_182 (bX0_input_1 13 _ rfl) (bX0_input_1 14 _ rfl) (bX0_input_1 15 _ rfl)
theorem dX0_input_32 : decode cX0_input 32 = .ok (.aload_n 0, 1) := dz_42 (bX0_input_2 0 _ rfl)
theorem dX0_input_33 : decode cX0_input 33 = .ok (.getfield 20, 3) := dz_180 (bX0_input_2 1 _ rfl) (bX0_input_2 2 _ rfl) (bX0_input_2 3 _ rfl)
theorem dX0_input_36 : decode cX0_input 36 = .ok (.getfield 78, 3) := dz_180 (bX0_input_2 4 _ rfl) (bX0_input_2 5 _ rfl) (bX0_input_2 6 _ rfl)
theorem dX0_input_39 : decode cX0_input 39 = .ok (.ireturn, 1) := dz_172 (bX0_input_2 7 _ rfl)
def c_X0_input (t0 : Nat) (x1 : Int32) (x2 : Int32) (x3 : Int32) (w : ch_W) : Option (Int32 × ch_W) := (ch_gR w (some t0) 1 fX0_machine).bind fun v1 => (ch_gI w v1 2 fX1_givenMany).bind fun v2 => if 300 < (v2 + 3) then (some (((-1), w))) else ((ch_rc w (some t0) 1).bind fun _ => (c_X0_give t0 x1 w).bind fun p4 => (ch_rc p4 (some t0) 1).bind fun _ => (c_X0_give t0 x2 p4).bind fun p7 => (ch_rc p7 (some t0) 1).bind fun _ => (c_X0_give t0 x3 p7).bind fun p10 => (ch_gR p10 (some t0) 1 fX0_machine).bind fun v12 => (ch_gI p10 v12 2 fX1_givenMany).bind fun v13 => some ((v13, p10)))
theorem s_X0_input {g : State} {t0 : Nat} {x1 : Int32} {x2 : Int32} {x3 : Int32} {w : ch_W} {res : Int32 × ch_W} {Q : Outcome → ch_W → Prop} (h : c_X0_input t0 x1 x2 x3 w = some res) (hk : (ch_eI Q) res) : ch_CT g true yX0_input 3 [.ref t0, .int x1, .int x2, .int x3] (w) Q := by
  unfold c_X0_input at h
  refine ch_ctL mX0_input (ls := [some (va_rf (some t0)), some (.int x1), some (.int x2), some (.int x3)]) q1305 rfl (ch_lyr (r := some t0) (ch_lyi (ch_lyi (ch_lyi ch_ly0)))) (Nat.le_of_ble_eq_true rfl) rfl ?_
  refine ch_aload_n 0 (some t0) dX0_input_0 rfl (cp_gR (ci := 0) (k := 5) dX0_input_1 fl_X0_20 rfl h (fun v1 h => ?_))
  refine cp_gI (ci := 1) (k := 13) dX0_input_4 fl_X0_78 rfl h (fun v2 h => ?_)
  refine ch_iconst _ 3 dX0_input_7 rfl (ch_iadd _ _ dX0_input_8 (ch_sipush _ 300 dX0_input_9 rfl (cp_icmp_le _ _ (tgt := 17) dX0_input_12 rfl h (fun h => ?_) (fun h => ?_))))
  · obtain ⟨_, hb3, h⟩ := ch_bd h
    obtain ⟨p4, hp5, h⟩ := ch_bd h
    refine ch_aload_n 0 (some t0) dX0_input_17 rfl (ch_iload_n 1 _ dX0_input_18 rfl (ch_iv yX0_give prog_1_method_13_code 2 none (ci := 0) (q := (RX0, TX0, 7)) (b := t0) (d' := 2) (av := [.int x1]) (rest := []) rfl dX0_input_19 q1306 q1308 rfl qs65 q1309 can_X0_give (Nat.le_of_ble_eq_true rfl) (Nat.le_of_ble_eq_true rfl) (ch_rts hb3) (cp_kV (w1 := p4) (fun Q' hq => s_X0_give hp5 hq) ?_)))
    obtain ⟨_, hb6, h⟩ := ch_bd h
    obtain ⟨p7, hp8, h⟩ := ch_bd h
    refine ch_aload_n 0 (some t0) dX0_input_22 rfl (ch_iload_n 2 _ dX0_input_23 rfl (ch_iv yX0_give prog_1_method_13_code 2 none (ci := 0) (q := (RX0, TX0, 7)) (b := t0) (d' := 2) (av := [.int x2]) (rest := []) rfl dX0_input_24 q1306 q1308 rfl qs65 q1309 can_X0_give (Nat.le_of_ble_eq_true rfl) (Nat.le_of_ble_eq_true rfl) (ch_rts hb6) (cp_kV (w1 := p7) (fun Q' hq => s_X0_give hp8 hq) ?_)))
    obtain ⟨_, hb9, h⟩ := ch_bd h
    obtain ⟨p10, hp11, h⟩ := ch_bd h
    refine ch_aload_n 0 (some t0) dX0_input_27 rfl (ch_iload_n 3 _ dX0_input_28 rfl (ch_iv yX0_give prog_1_method_13_code 2 none (ci := 0) (q := (RX0, TX0, 7)) (b := t0) (d' := 2) (av := [.int x3]) (rest := []) rfl dX0_input_29 q1306 q1308 rfl qs65 q1309 can_X0_give (Nat.le_of_ble_eq_true rfl) (Nat.le_of_ble_eq_true rfl) (ch_rts hb9) (cp_kV (w1 := p10) (fun Q' hq => s_X0_give hp11 hq) ?_)))
    refine ch_aload_n 0 (some t0) dX0_input_32 rfl (cp_gR (ci := 0) (k := 5) dX0_input_33 fl_X0_20 rfl h (fun v12 h => ?_))
    refine cp_gI (ci := 1) (k := 13) dX0_input_36 fl_X0_78 rfl h (fun v13 h => ?_)
    obtain rfl := Option.some.inj h
    exact ch_ireturn _ dX0_input_39 rfl rfl hk
  · obtain rfl := Option.some.inj h
    exact ch_iconst _ (-1) dX0_input_15 rfl (ch_ireturn _ dX0_input_16 rfl rfl hk)

theorem bX0_isPlace_0 : ch_ck cX0_isPlace 0 [30, 10, 127, 10, 148, 154, 0, 7, 4, 167, 0, 4, 3, 172] := ch_ckof (by decide +kernel)
theorem dX0_isPlace_0 : decode cX0_isPlace 0 = .ok (.lload_n 0, 1) := dz_30 (bX0_isPlace_0 0 _ rfl)
theorem dX0_isPlace_1 : decode cX0_isPlace 1 = .ok (.lconst 1, 1) := dz_10 (bX0_isPlace_0 1 _ rfl)
theorem dX0_isPlace_2 : decode cX0_isPlace 2 = .ok (.land, 1) := dz_127 (bX0_isPlace_0 2 _ rfl)
theorem dX0_isPlace_3 : decode cX0_isPlace 3 = .ok (.lconst 1, 1) := dz_10 (bX0_isPlace_0 3 _ rfl)
theorem dX0_isPlace_4 : decode cX0_isPlace 4 = .ok (.lcmp, 1) := dz_148 (bX0_isPlace_0 4 _ rfl)
theorem dX0_isPlace_5 : decode cX0_isPlace 5 = .ok (.ifCond .ne 7, 3) := dz_154 (bX0_isPlace_0 5 _ rfl) (bX0_isPlace_0 6 _ rfl) (bX0_isPlace_0 7 _ rfl)
theorem dX0_isPlace_8 : decode cX0_isPlace 8 = .ok (.iconst 1, 1) := dz_4 (bX0_isPlace_0 8 _ rfl)
theorem dX0_isPlace_9 : decode cX0_isPlace 9 = .ok (.goto 4, 3) := dz_167 (bX0_isPlace_0 9 _ rfl) (bX0_isPlace_0 10 _ rfl) (bX0_isPlace_0 11 _ rfl)
theorem dX0_isPlace_12 : decode cX0_isPlace 12 = .ok (.iconst 0, 1) := dz_3 (bX0_isPlace_0 12 _ rfl)
theorem dX0_isPlace_13 : decode cX0_isPlace 13 = .ok (.ireturn, 1) := dz_172 (bX0_isPlace_0 13 _ rfl)
def c_X0_isPlace (x0 : Int64) (w : ch_W) : Option (Int32) := if (lg_cmp (x0 &&& 1) 1) = 0 then (some (1)) else (some (0))
theorem s_X0_isPlace {g : State} {kb : Bool} {x0 : Int64} {w : ch_W} {res : Int32} {Q : Outcome → ch_W → Prop} (h : c_X0_isPlace x0 w = some res) (hk : (fun r => ch_eI Q (r, w)) res) : ch_CT g kb yX0_isPlace 2 [.long x0] (w) Q := by
  unfold c_X0_isPlace at h
  refine ch_ctL mX0_isPlace (ls := [some (.long x0), none]) q1337 rfl (ch_lyl ch_ly0) (Nat.le_of_ble_eq_true rfl) rfl ?_
  refine ch_lload_n 0 _ dX0_isPlace_0 rfl (ch_lconst _ 1 dX0_isPlace_1 rfl (ch_land _ _ dX0_isPlace_2 (ch_lconst _ 1 dX0_isPlace_3 rfl (ch_lcmp _ _ dX0_isPlace_4 (cp_if_ne _ (tgt := 12) dX0_isPlace_5 rfl h (fun h => ?_) (fun h => ?_))))))
  · obtain rfl := Option.some.inj h
    exact ch_iconst _ 0 dX0_isPlace_12 rfl (ch_ireturn _ dX0_isPlace_13 rfl rfl hk)
  · obtain rfl := Option.some.inj h
    exact ch_iconst _ 1 dX0_isPlace_8 rfl (ch_goto 13 dX0_isPlace_9 rfl (ch_ireturn _ dX0_isPlace_13 rfl rfl hk))

theorem bX0_placeOf_0 : ch_ck cX0_placeOf 0 [30, 4, 123, 136, 172] := ch_ckof (by decide +kernel)
theorem dX0_placeOf_0 : decode cX0_placeOf 0 = .ok (.lload_n 0, 1) := dz_30 (bX0_placeOf_0 0 _ rfl)
theorem dX0_placeOf_1 : decode cX0_placeOf 1 = .ok (.iconst 1, 1) := dz_4 (bX0_placeOf_0 1 _ rfl)
theorem dX0_placeOf_2 : decode cX0_placeOf 2 = .ok (.lshr, 1) := dz_123 (bX0_placeOf_0 2 _ rfl)
theorem dX0_placeOf_3 : decode cX0_placeOf 3 = .ok (.l2i, 1) := dz_136 (bX0_placeOf_0 3 _ rfl)
theorem dX0_placeOf_4 : decode cX0_placeOf 4 = .ok (.ireturn, 1) := dz_172 (bX0_placeOf_0 4 _ rfl)
def c_X0_placeOf (x0 : Int64) (w : ch_W) : Option (Int32) := some (Int64.toInt32 (x0 >>> (Int32.toInt64 1 &&& 63)))
theorem s_X0_placeOf {g : State} {kb : Bool} {x0 : Int64} {w : ch_W} {res : Int32} {Q : Outcome → ch_W → Prop} (h : c_X0_placeOf x0 w = some res) (hk : (fun r => ch_eI Q (r, w)) res) : ch_CT g kb yX0_placeOf 2 [.long x0] (w) Q := by
  unfold c_X0_placeOf at h
  refine ch_ctL mX0_placeOf (ls := [some (.long x0), none]) q1340 rfl (ch_lyl ch_ly0) (Nat.le_of_ble_eq_true rfl) rfl ?_
  obtain rfl := Option.some.inj h
  exact ch_lload_n 0 _ dX0_placeOf_0 rfl (ch_iconst _ 1 dX0_placeOf_1 rfl (ch_lshr _ _ dX0_placeOf_2 (ch_l2i _ dX0_placeOf_3 (ch_ireturn _ dX0_placeOf_4 rfl rfl hk))))

theorem bX0_placeWord_0 : ch_ck cX0_placeWord 0 [26, 133, 4, 121, 10, 129, 173] := ch_ckof (by decide +kernel)
theorem dX0_placeWord_0 : decode cX0_placeWord 0 = .ok (.iload_n 0, 1) := dz_26 (bX0_placeWord_0 0 _ rfl)
theorem dX0_placeWord_1 : decode cX0_placeWord 1 = .ok (.i2l, 1) := dz_133 (bX0_placeWord_0 1 _ rfl)
theorem dX0_placeWord_2 : decode cX0_placeWord 2 = .ok (.iconst 1, 1) := dz_4 (bX0_placeWord_0 2 _ rfl)
theorem dX0_placeWord_3 : decode cX0_placeWord 3 = .ok (.lshl, 1) := dz_121 (bX0_placeWord_0 3 _ rfl)
theorem dX0_placeWord_4 : decode cX0_placeWord 4 = .ok (.lconst 1, 1) := dz_10 (bX0_placeWord_0 4 _ rfl)
theorem dX0_placeWord_5 : decode cX0_placeWord 5 = .ok (.lor, 1) := dz_129 (bX0_placeWord_0 5 _ rfl)
theorem dX0_placeWord_6 : decode cX0_placeWord 6 = .ok (.lreturn, 1) := dz_173 (bX0_placeWord_0 6 _ rfl)
def c_X0_placeWord (x0 : Int32) (w : ch_W) : Option (Int64) := some (((Int32.toInt64 x0) <<< (Int32.toInt64 1 &&& 63)) ||| 1)
theorem s_X0_placeWord {g : State} {kb : Bool} {x0 : Int32} {w : ch_W} {res : Int64} {Q : Outcome → ch_W → Prop} (h : c_X0_placeWord x0 w = some res) (hk : (fun r => ch_eL Q (r, w)) res) : ch_CT g kb yX0_placeWord 2 [.int x0] (w) Q := by
  unfold c_X0_placeWord at h
  refine ch_ctL mX0_placeWord (ls := [some (.int x0)]) q1345 rfl (ch_lyi ch_ly0) (Nat.le_of_ble_eq_true rfl) rfl ?_
  obtain rfl := Option.some.inj h
  exact ch_iload_n 0 _ dX0_placeWord_0 rfl (ch_i2l _ dX0_placeWord_1 (ch_iconst _ 1 dX0_placeWord_2 rfl (ch_lshl _ _ dX0_placeWord_3 (ch_lconst _ 1 dX0_placeWord_4 rfl (ch_lor _ _ dX0_placeWord_5 (ch_lreturn _ dX0_placeWord_6 rfl hk))))))

theorem bX1_moved_0 : ch_ck cX1_moved 0 [31, 184, 0, 168, 153, 0, 10, 31, 184, 0, 172, 156, 0, 5, 31, 173] := ch_ckof (by decide +kernel)
theorem bX1_moved_1 : ch_ck cX1_moved 16 [31, 184, 0, 172, 62, 42, 180, 0, 9, 29, 47, 20, 0, 176, 127, 20] := ch_ckof (by decide +kernel)
theorem bX1_moved_2 : ch_ck cX1_moved 32 [0, 178, 148, 154, 0, 16, 42, 180, 0, 9, 29, 4, 96, 47, 136, 184] := ch_ckof (by decide +kernel)
theorem bX1_moved_3 : ch_ck cX1_moved 48 [0, 48, 173, 5, 42, 180, 0, 9, 29, 4, 96, 47, 136, 96, 54, 4] := ch_ckof (by decide +kernel)
theorem bX1_moved_4 : ch_ck cX1_moved 64 [42, 180, 0, 9, 29, 42, 180, 0, 15, 42, 180, 0, 75, 21, 4, 184] := ch_ckof (by decide +kernel)
theorem bX1_moved_5 : ch_ck cX1_moved 80 [0, 180, 42, 180, 0, 9, 29, 20, 0, 178, 80, 42, 180, 0, 9, 29] := ch_ckof (by decide +kernel)
theorem bX1_moved_6 : ch_ck cX1_moved 96 [4, 96, 42, 180, 0, 75, 133, 80, 42, 89, 180, 0, 75, 21, 4, 96] := ch_ckof (by decide +kernel)
theorem bX1_moved_7 : ch_ck cX1_moved 112 [181, 0, 75, 42, 180, 0, 75, 21, 4, 100, 184, 0, 48, 173] := ch_ckof (by decide +kernel)
theorem dX1_moved_0 : decode cX1_moved 0 = .ok (.lload_n 1, 1) := dz_31 (bX1_moved_0 0 _ rfl)
theorem dX1_moved_1 : decode cX1_moved 1 = .ok (.invokestatic 168, 3) := dz_184 (bX1_moved_0 1 _ rfl) (bX1_moved_0 2 _ rfl) (bX1_moved_0 3 _ rfl)
theorem dX1_moved_4 : decode cX1_moved 4 = .ok (.ifCond .eq 10, 3) := dz_153 (bX1_moved_0 4 _ rfl) (bX1_moved_0 5 _ rfl) (bX1_moved_0 6 _ rfl)
theorem dX1_moved_7 : decode cX1_moved 7 = .ok (.lload_n 1, 1) := dz_31 (bX1_moved_0 7 _ rfl)
theorem dX1_moved_8 : decode cX1_moved 8 = .ok (.invokestatic 172, 3) := dz_184 (bX1_moved_0 8 _ rfl) (bX1_moved_0 9 _ rfl) (bX1_moved_0 10 _ rfl)
theorem dX1_moved_11 : decode cX1_moved 11 = .ok (.ifCond .ge 5, 3) := dz_156 (bX1_moved_0 11 _ rfl) (bX1_moved_0 12 _ rfl) (bX1_moved_0 13 _ rfl)
theorem dX1_moved_14 : decode cX1_moved 14 = .ok (.lload_n 1, 1) := dz_31 (bX1_moved_0 14 _ rfl)
theorem dX1_moved_15 : decode cX1_moved 15 = .ok (.lreturn, 1) := dz_173 (bX1_moved_0 15 _ rfl)
theorem dX1_moved_16 : decode cX1_moved 16 = .ok (.lload_n 1, 1) := dz_31 (bX1_moved_1 0 _ rfl)
theorem dX1_moved_17 : decode cX1_moved 17 = .ok (.invokestatic 172, 3) := dz_184 (bX1_moved_1 1 _ rfl) (bX1_moved_1 2 _ rfl) (bX1_moved_1 3 _ rfl)
theorem dX1_moved_20 : decode cX1_moved 20 = .ok (.istore_n 3, 1) := dz_62 (bX1_moved_1 4 _ rfl)
theorem dX1_moved_21 : decode cX1_moved 21 = .ok (.aload_n 0, 1) := dz_42 (bX1_moved_1 5 _ rfl)
theorem dX1_moved_22 : decode cX1_moved 22 = .ok (.getfield 9, 3) := dz_180 (bX1_moved_1 6 _ rfl) (bX1_moved_1 7 _ rfl) (bX1_moved_1 8 _ rfl)
theorem dX1_moved_25 : decode cX1_moved 25 = .ok (.iload_n 3, 1) := dz_29 (bX1_moved_1 9 _ rfl)
theorem dX1_moved_26 : decode cX1_moved 26 = .ok (.laload, 1) := dz_47 (bX1_moved_1 10 _ rfl)
theorem dX1_moved_27 : decode cX1_moved 27 = .ok (.ldc2_w 176, 3) := dz_20 (bX1_moved_1 11 _ rfl) (bX1_moved_1 12 _ rfl) (bX1_moved_1 13 _ rfl)
theorem dX1_moved_30 : decode cX1_moved 30 = .ok (.land, 1) := dz_127 (bX1_moved_1 14 _ rfl)
theorem dX1_moved_31 : decode cX1_moved 31 = .ok (.ldc2_w 178, 3) := dz_20 (bX1_moved_1 15 _ rfl) (bX1_moved_2 0 _ rfl) (bX1_moved_2 1 _ rfl)
theorem dX1_moved_34 : decode cX1_moved 34 = .ok (.lcmp, 1) := dz_148 (bX1_moved_2 2 _ rfl)
theorem dX1_moved_35 : decode cX1_moved 35 = .ok (.ifCond .ne 16, 3) := dz_154 (bX1_moved_2 3 _ rfl) (bX1_moved_2 4 _ rfl) (bX1_moved_2 5 _ rfl)
theorem dX1_moved_38 : decode cX1_moved 38 = .ok (.aload_n 0, 1) := dz_42 (bX1_moved_2 6 _ rfl)
theorem dX1_moved_39 : decode cX1_moved 39 = .ok (.getfield 9, 3) := dz_180 (bX1_moved_2 7 _ rfl) (bX1_moved_2 8 _ rfl) (bX1_moved_2 9 _ rfl)
theorem dX1_moved_42 : decode cX1_moved 42 = .ok (.iload_n 3, 1) := dz_29 (bX1_moved_2 10 _ rfl)
theorem dX1_moved_43 : decode cX1_moved 43 = .ok (.iconst 1, 1) := dz_4 (bX1_moved_2 11 _ rfl)
theorem dX1_moved_44 : decode cX1_moved 44 = .ok (.iadd, 1) := dz_96 (bX1_moved_2 12 _ rfl)
theorem dX1_moved_45 : decode cX1_moved 45 = .ok (.laload, 1) := dz_47 (bX1_moved_2 13 _ rfl)
theorem dX1_moved_46 : decode cX1_moved 46 = .ok (.l2i, 1) := dz_136 (bX1_moved_2 14 _ rfl)
theorem dX1_moved_47 : decode cX1_moved 47 = .ok (.invokestatic 48, 3) := dz_184 (bX1_moved_2 15 _ rfl) (bX1_moved_3 0 _ rfl) (bX1_moved_3 1 _ rfl)
theorem dX1_moved_50 : decode cX1_moved 50 = .ok (.lreturn, 1) := dz_173 (bX1_moved_3 2 _ rfl)
theorem dX1_moved_51 : decode cX1_moved 51 = .ok (.iconst 2, 1) := dz_5 (bX1_moved_3 3 _ rfl)
theorem dX1_moved_52 : decode cX1_moved 52 = .ok (.aload_n 0, 1) := dz_42 (bX1_moved_3 4 _ rfl)
theorem dX1_moved_53 : decode cX1_moved 53 = .ok (.getfield 9, 3) := dz_180 (bX1_moved_3 5 _ rfl) (bX1_moved_3 6 _ rfl) (bX1_moved_3 7 _ rfl)
theorem dX1_moved_56 : decode cX1_moved 56 = .ok (.iload_n 3, 1) := dz_29 (bX1_moved_3 8 _ rfl)
theorem dX1_moved_57 : decode cX1_moved 57 = .ok (.iconst 1, 1) := dz_4 (bX1_moved_3 9 _ rfl)
theorem dX1_moved_58 : decode cX1_moved 58 = .ok (.iadd, 1) := dz_96 (bX1_moved_3 10 _ rfl)
theorem dX1_moved_59 : decode cX1_moved 59 = .ok (.laload, 1) := dz_47 (bX1_moved_3 11 _ rfl)
theorem dX1_moved_60 : decode cX1_moved 60 = .ok (.l2i, 1) := dz_136 (bX1_moved_3 12 _ rfl)
theorem dX1_moved_61 : decode cX1_moved 61 = .ok (.iadd, 1) := dz_96 (bX1_moved_3 13 _ rfl)
theorem dX1_moved_62 : decode cX1_moved 62 = .ok (.istore 4, 2) := dz_54 (bX1_moved_3 14 _ rfl) (bX1_moved_3 15 _ rfl)
theorem dX1_moved_64 : decode cX1_moved 64 = .ok (.aload_n 0, 1) := dz_42 (bX1_moved_4 0 _ rfl)
theorem dX1_moved_65 : decode cX1_moved 65 = .ok (.getfield 9, 3) := dz_180 (bX1_moved_4 1 _ rfl) (bX1_moved_4 2 _ rfl) (bX1_moved_4 3 _ rfl)
theorem dX1_moved_68 : decode cX1_moved 68 = .ok (.iload_n 3, 1) := dz_29 (bX1_moved_4 4 _ rfl)
theorem dX1_moved_69 : decode cX1_moved 69 = .ok (.aload_n 0, 1) := dz_42 (bX1_moved_4 5 _ rfl)
theorem dX1_moved_70 : decode cX1_moved 70 = .ok (.getfield 15, 3) := dz_180 (bX1_moved_4 6 _ rfl) (bX1_moved_4 7 _ rfl) (bX1_moved_4 8 _ rfl)
theorem dX1_moved_73 : decode cX1_moved 73 = .ok (.aload_n 0, 1) := dz_42 (bX1_moved_4 9 _ rfl)
theorem dX1_moved_74 : decode cX1_moved 74 = .ok (.getfield 75, 3) := dz_180 (bX1_moved_4 10 _ rfl) (bX1_moved_4 11 _ rfl) (bX1_moved_4 12 _ rfl)
theorem dX1_moved_77 : decode cX1_moved 77 = .ok (.iload 4, 2) := dz_21 (bX1_moved_4 13 _ rfl) (bX1_moved_4 14 _ rfl)
theorem dX1_moved_79 : decode cX1_moved 79 = .ok (.invokestatic 180, 3) := dz_184 (bX1_moved_4 15 _ rfl) (bX1_moved_5 0 _ rfl) (bX1_moved_5 1 _ rfl)
theorem dX1_moved_82 : decode cX1_moved 82 = .ok (.aload_n 0, 1) := dz_42 (bX1_moved_5 2 _ rfl)
theorem dX1_moved_83 : decode cX1_moved 83 = .ok (.getfield 9, 3) := dz_180 (bX1_moved_5 3 _ rfl) (bX1_moved_5 4 _ rfl) (bX1_moved_5 5 _ rfl)
theorem dX1_moved_86 : decode cX1_moved 86 = .ok (.iload_n 3, 1) := dz_29 (bX1_moved_5 6 _ rfl)
theorem dX1_moved_87 : decode cX1_moved 87 = .ok (.ldc2_w 178, 3) := dz_20 (bX1_moved_5 7 _ rfl) (bX1_moved_5 8 _ rfl) (bX1_moved_5 9 _ rfl)
theorem dX1_moved_90 : decode cX1_moved 90 = .ok (.lastore, 1) := dz_80 (bX1_moved_5 10 _ rfl)
theorem dX1_moved_91 : decode cX1_moved 91 = .ok (.aload_n 0, 1) := dz_42 (bX1_moved_5 11 _ rfl)
theorem dX1_moved_92 : decode cX1_moved 92 = .ok (.getfield 9, 3) := dz_180 (bX1_moved_5 12 _ rfl) (bX1_moved_5 13 _ rfl) (bX1_moved_5 14 _ rfl)
theorem dX1_moved_95 : decode cX1_moved 95 = .ok (.iload_n 3, 1) := dz_29 (bX1_moved_5 15 _ rfl)
theorem dX1_moved_96 : decode cX1_moved 96 = .ok (.iconst 1, 1) := dz_4 (bX1_moved_6 0 _ rfl)
theorem dX1_moved_97 : decode cX1_moved 97 = .ok (.iadd, 1) := dz_96 (bX1_moved_6 1 _ rfl)
theorem dX1_moved_98 : decode cX1_moved 98 = .ok (.aload_n 0, 1) := dz_42 (bX1_moved_6 2 _ rfl)
theorem dX1_moved_99 : decode cX1_moved 99 = .ok (.getfield 75, 3) := dz_180 (bX1_moved_6 3 _ rfl) (bX1_moved_6 4 _ rfl) (bX1_moved_6 5 _ rfl)
theorem dX1_moved_102 : decode cX1_moved 102 = .ok (.i2l, 1) := dz_133 (bX1_moved_6 6 _ rfl)
theorem dX1_moved_103 : decode cX1_moved 103 = .ok (.lastore, 1) := dz_80 (bX1_moved_6 7 _ rfl)
theorem dX1_moved_104 : decode cX1_moved 104 = .ok (.aload_n 0, 1) := dz_42 (bX1_moved_6 8 _ rfl)
theorem dX1_moved_105 : decode cX1_moved 105 = .ok (.dup, 1) := dz_89 (bX1_moved_6 9 _ rfl)
theorem dX1_moved_106 : decode cX1_moved 106 = .ok (.getfield 75, 3) := dz_180 (bX1_moved_6 10 _ rfl) (bX1_moved_6 11 _ rfl) (bX1_moved_6 12 _ rfl)
theorem dX1_moved_109 : decode cX1_moved 109 = .ok (.iload 4, 2) := dz_21 (bX1_moved_6 13 _ rfl) (bX1_moved_6 14 _ rfl)
theorem dX1_moved_111 : decode cX1_moved 111 = .ok (.iadd, 1) := dz_96 (bX1_moved_6 15 _ rfl)
theorem dX1_moved_112 : decode cX1_moved 112 = .ok (.putfield 75, 3) := dz_181 (bX1_moved_7 0 _ rfl) (bX1_moved_7 1 _ rfl) (bX1_moved_7 2 _ rfl)
theorem dX1_moved_115 : decode cX1_moved 115 = .ok (.aload_n 0, 1) := dz_42 (bX1_moved_7 3 _ rfl)
theorem dX1_moved_116 : decode cX1_moved 116 = .ok (.getfield 75, 3) := dz_180 (bX1_moved_7 4 _ rfl) (bX1_moved_7 5 _ rfl) (bX1_moved_7 6 _ rfl)
theorem dX1_moved_119 : decode cX1_moved 119 = .ok (.iload 4, 2) := dz_21 (bX1_moved_7 7 _ rfl) (bX1_moved_7 8 _ rfl)
theorem dX1_moved_121 : decode cX1_moved 121 = .ok (.isub, 1) := dz_100 (bX1_moved_7 9 _ rfl)
theorem dX1_moved_122 : decode cX1_moved 122 = .ok (.invokestatic 48, 3) := dz_184 (bX1_moved_7 10 _ rfl) (bX1_moved_7 11 _ rfl) (bX1_moved_7 12 _ rfl)
theorem dX1_moved_125 : decode cX1_moved 125 = .ok (.lreturn, 1) := dz_173 (bX1_moved_7 13 _ rfl)
def c_X1_moved (t0 : Nat) (x1 : Int64) (w : ch_W) : Option (Int64 × ch_W) := (c_X0_isPlace x1 w).bind fun v1 => if v1 = 0 then (some ((x1, w))) else ((c_X0_placeOf x1 w).bind fun v3 => if v3 < 0 then (some ((x1, w))) else ((c_X0_placeOf x1 w).bind fun v5 => (ch_gR w (some t0) 2 fX1_heap).bind fun v7 => (ch_lL w v7 24 v5).bind fun v8 => if (lg_cmp (v8 &&& 3) 2) = 0 then ((ch_gR w (some t0) 2 fX1_heap).bind fun v25 => (ch_lL w v25 24 (v5 + 1)).bind fun v26 => (c_X0_placeWord (Int64.toInt32 v26) w).bind fun v27 => some ((v27, w))) else ((ch_gR w (some t0) 2 fX1_heap).bind fun v9 => (ch_lL w v9 24 (v5 + 1)).bind fun v10 => (ch_gR w (some t0) 2 fX1_heap).bind fun v11 => (ch_gR w (some t0) 2 fX1_other).bind fun v12 => (ch_gI w (some t0) 2 fX1_used).bind fun v13 => (ch_cp w 24 v11 v5 v12 v13 (2 + (Int64.toInt32 v10))).bind fun w14 => (ch_gR w14 (some t0) 2 fX1_heap).bind fun v15 => (ch_wL w14 v15 24 v5 2).bind fun w16 => (ch_gR w16 (some t0) 2 fX1_heap).bind fun v17 => (ch_gI w16 (some t0) 2 fX1_used).bind fun v18 => (ch_wL w16 v17 24 (v5 + 1) (Int32.toInt64 v18)).bind fun w19 => (ch_gI w19 (some t0) 2 fX1_used).bind fun v20 => (ch_pI w19 (some t0) 2 fX1_used (v20 + (2 + (Int64.toInt32 v10)))).bind fun w21 => (ch_gI w21 (some t0) 2 fX1_used).bind fun v22 => (c_X0_placeWord (v22 - (2 + (Int64.toInt32 v10))) w21).bind fun v23 => some ((v23, w21)))))
theorem s_X1_moved {g : State} {t0 : Nat} {x1 : Int64} {w : ch_W} {res : Int64 × ch_W} {Q : Outcome → ch_W → Prop} (h : c_X1_moved t0 x1 w = some res) (hk : (ch_eL Q) res) : ch_CT g true yX1_moved 3 [.ref t0, .long x1] (w) Q := by
  unfold c_X1_moved at h
  refine ch_ctL mX1_moved (ls := [some (va_rf (some t0)), some (.long x1), none, none, none]) q1334 rfl (ch_lyr (r := some t0) (ch_lyl ch_ly0)) (Nat.le_of_ble_eq_true rfl) rfl ?_
  obtain ⟨v1, hp2, h⟩ := ch_bd h
  refine ch_lload_n 1 _ dX1_moved_0 rfl (ch_isT yX0_isPlace prog_1_method_2_code 2 (some .boolean) (d' := 2) (av := [.long x1]) (rest := []) rfl dX1_moved_1 q1335 q1336 q200 q1337 can_X0_isPlace (Nat.le_of_ble_eq_true rfl) (Nat.le_of_ble_eq_true rfl) (cp_kI (v := v1) (w1 := w) (fun Q' hq => s_X0_isPlace hp2 hq) ?_))
  refine cp_if_eq _ (tgt := 14) dX1_moved_4 rfl h (fun h => ?_) (fun h => ?_)
  · obtain rfl := Option.some.inj h
    exact ch_lload_n 1 _ dX1_moved_14 rfl (ch_lreturn _ dX1_moved_15 rfl hk)
  · obtain ⟨v3, hp4, h⟩ := ch_bd h
    refine ch_lload_n 1 _ dX1_moved_7 rfl (ch_isT yX0_placeOf prog_1_method_3_code 2 (some .int) (d' := 2) (av := [.long x1]) (rest := []) rfl dX1_moved_8 q1338 q1339 q200 q1340 can_X0_placeOf (Nat.le_of_ble_eq_true rfl) (Nat.le_of_ble_eq_true rfl) (cp_kI (v := v3) (w1 := w) (fun Q' hq => s_X0_placeOf hp4 hq) ?_))
    refine cp_if_ge _ (tgt := 16) dX1_moved_11 rfl h (fun h => ?_) (fun h => ?_)
    · obtain ⟨v5, hp6, h⟩ := ch_bd h
      refine ch_lload_n 1 _ dX1_moved_16 rfl (ch_isT yX0_placeOf prog_1_method_3_code 2 (some .int) (d' := 2) (av := [.long x1]) (rest := []) rfl dX1_moved_17 q1338 q1339 q200 q1340 can_X0_placeOf (Nat.le_of_ble_eq_true rfl) (Nat.le_of_ble_eq_true rfl) (cp_kI (v := v5) (w1 := w) (fun Q' hq => s_X0_placeOf hp6 hq) ?_))
      refine ch_istore_n 3 _ (ls1 := [some (va_rf (some t0)), some (.long x1), none, some (.int v5), none]) dX1_moved_20 (Nat.le_of_ble_eq_true rfl) rfl (ch_aload_n 0 (some t0) dX1_moved_21 rfl (cp_gR (ci := 1) (k := 2) dX1_moved_22 fl_X1_9 rfl h (fun v7 h => ?_)))
      refine ch_iload_n 3 _ dX1_moved_25 rfl (cp_lald (t := 24) dX1_moved_26 rfl rfl h (fun v8 h => ?_))
      refine ch_ldc2 176 3 dX1_moved_27 q1341 (ch_land _ _ dX1_moved_30 (ch_ldc2 178 2 dX1_moved_31 q1342 (ch_lcmp _ _ dX1_moved_34 (cp_if_ne _ (tgt := 51) dX1_moved_35 rfl h (fun h => ?_) (fun h => ?_)))))
      · refine ch_iconst _ 2 dX1_moved_51 rfl (ch_aload_n 0 (some t0) dX1_moved_52 rfl (cp_gR (ci := 1) (k := 2) dX1_moved_53 fl_X1_9 rfl h (fun v9 h => ?_)))
        refine ch_iload_n 3 _ dX1_moved_56 rfl (ch_iconst _ 1 dX1_moved_57 rfl (ch_iadd _ _ dX1_moved_58 (cp_lald (t := 24) dX1_moved_59 rfl rfl h (fun v10 h => ?_))))
        refine ch_l2i _ dX1_moved_60 (ch_iadd _ _ dX1_moved_61 (ch_istore 4 _ (ls1 := [some (va_rf (some t0)), some (.long x1), none, some (.int v5), some (.int (2 + (Int64.toInt32 v10)))]) dX1_moved_62 (Nat.le_of_ble_eq_true rfl) rfl (ch_aload_n 0 (some t0) dX1_moved_64 rfl (cp_gR (ci := 1) (k := 2) dX1_moved_65 fl_X1_9 rfl h (fun v11 h => ?_)))))
        refine ch_iload_n 3 _ dX1_moved_68 rfl (ch_aload_n 0 (some t0) dX1_moved_69 rfl (cp_gR (ci := 1) (k := 3) dX1_moved_70 fl_X1_15 rfl h (fun v12 h => ?_)))
        refine ch_aload_n 0 (some t0) dX1_moved_73 rfl (cp_gI (ci := 1) (k := 4) dX1_moved_74 fl_X1_75 rfl h (fun v13 h => ?_))
        refine ch_iload 4 _ dX1_moved_77 rfl (cp_copy (t := 24) dX1_moved_79 rfl (Nat.le_of_ble_eq_true rfl) ft_24 rfl rfl q1346 (Nat.le_of_ble_eq_true rfl) (Nat.le_of_ble_eq_true rfl) h (fun w14 h => ?_))
        refine ch_aload_n 0 (some t0) dX1_moved_82 rfl (cp_gR (ci := 1) (k := 2) dX1_moved_83 fl_X1_9 rfl h (fun v15 h => ?_))
        refine ch_iload_n 3 _ dX1_moved_86 rfl (ch_ldc2 178 2 dX1_moved_87 q1342 (cp_last (t := 24) dX1_moved_90 rfl (Nat.le_of_ble_eq_true rfl) rfl h (fun w16 h => ?_)))
        refine ch_aload_n 0 (some t0) dX1_moved_91 rfl (cp_gR (ci := 1) (k := 2) dX1_moved_92 fl_X1_9 rfl h (fun v17 h => ?_))
        refine ch_iload_n 3 _ dX1_moved_95 rfl (ch_iconst _ 1 dX1_moved_96 rfl (ch_iadd _ _ dX1_moved_97 (ch_aload_n 0 (some t0) dX1_moved_98 rfl (cp_gI (ci := 1) (k := 4) dX1_moved_99 fl_X1_75 rfl h (fun v18 h => ?_)))))
        refine ch_i2l _ dX1_moved_102 (cp_last (t := 24) dX1_moved_103 rfl (Nat.le_of_ble_eq_true rfl) rfl h (fun w19 h => ?_))
        refine ch_aload_n 0 (some t0) dX1_moved_104 rfl (ch_dup dX1_moved_105 (ch_cat _) (cp_gI (ci := 1) (k := 4) dX1_moved_106 fl_X1_75 rfl h (fun v20 h => ?_)))
        refine ch_iload 4 _ dX1_moved_109 rfl (ch_iadd _ _ dX1_moved_111 (cp_pI (ci := 1) (k := 4) dX1_moved_112 fl_X1_75 rfl rfl rfl h (fun w21 h => ?_)))
        refine ch_aload_n 0 (some t0) dX1_moved_115 rfl (cp_gI (ci := 1) (k := 4) dX1_moved_116 fl_X1_75 rfl h (fun v22 h => ?_))
        obtain ⟨v23, hp24, h⟩ := ch_bd h
        refine ch_iload 4 _ dX1_moved_119 rfl (ch_isub _ _ dX1_moved_121 (ch_isT yX0_placeWord prog_1_method_1_code 1 (some .long) (d' := 2) (av := [.int (v22 - (2 + (Int64.toInt32 v10)))]) (rest := []) rfl dX1_moved_122 q1343 q1344 q200 q1345 can_X0_placeWord (Nat.le_of_ble_eq_true rfl) (Nat.le_of_ble_eq_true rfl) (cp_kL (v := v23) (w1 := w21) (fun Q' hq => s_X0_placeWord hp24 hq) ?_)))
        obtain rfl := Option.some.inj h
        exact ch_lreturn _ dX1_moved_125 rfl hk
      · refine ch_aload_n 0 (some t0) dX1_moved_38 rfl (cp_gR (ci := 1) (k := 2) dX1_moved_39 fl_X1_9 rfl h (fun v25 h => ?_))
        refine ch_iload_n 3 _ dX1_moved_42 rfl (ch_iconst _ 1 dX1_moved_43 rfl (ch_iadd _ _ dX1_moved_44 (cp_lald (t := 24) dX1_moved_45 rfl rfl h (fun v26 h => ?_))))
        obtain ⟨v27, hp28, h⟩ := ch_bd h
        refine ch_l2i _ dX1_moved_46 (ch_isT yX0_placeWord prog_1_method_1_code 1 (some .long) (d' := 2) (av := [.int (Int64.toInt32 v26)]) (rest := []) rfl dX1_moved_47 q1343 q1344 q200 q1345 can_X0_placeWord (Nat.le_of_ble_eq_true rfl) (Nat.le_of_ble_eq_true rfl) (cp_kL (v := v27) (w1 := w) (fun Q' hq => s_X0_placeWord hp28 hq) ?_))
        obtain rfl := Option.some.inj h
        exact ch_lreturn _ dX1_moved_50 rfl hk
    · obtain rfl := Option.some.inj h
      exact ch_lload_n 1 _ dX1_moved_14 rfl (ch_lreturn _ dX1_moved_15 rfl hk)

theorem bX1_collect_0 : ch_ck cX1_collect 0 [42, 3, 181, 0, 75, 3, 60, 27, 42, 180, 0, 78, 162, 0, 25, 42] := ch_ckof (by decide +kernel)
theorem bX1_collect_1 : ch_ck cX1_collect 16 [180, 0, 19, 27, 42, 42, 180, 0, 19, 27, 47, 182, 0, 186, 80, 132] := ch_ckof (by decide +kernel)
theorem bX1_collect_2 : ch_ck cX1_collect 32 [1, 1, 167, 255, 229, 3, 60, 27, 42, 180, 0, 75, 162, 0, 72, 42] := ch_ckof (by decide +kernel)
theorem bX1_collect_3 : ch_ck cX1_collect 48 [180, 0, 15, 27, 4, 96, 47, 136, 61, 27, 5, 96, 62, 29, 27, 5] := ch_ckof (by decide +kernel)
theorem bX1_collect_4 : ch_ck cX1_collect 64 [96, 28, 96, 162, 0, 40, 42, 180, 0, 15, 27, 47, 20, 0, 176, 127] := ch_ckof (by decide +kernel)
theorem bX1_collect_5 : ch_ck cX1_collect 80 [9, 148, 154, 0, 25, 42, 180, 0, 15, 29, 42, 42, 180, 0, 15, 29] := ch_ckof (by decide +kernel)
theorem bX1_collect_6 : ch_ck cX1_collect 96 [47, 182, 0, 186, 80, 132, 3, 1, 167, 255, 213, 27, 5, 28, 96, 96] := ch_ckof (by decide +kernel)
theorem bX1_collect_7 : ch_ck cX1_collect 112 [60, 167, 255, 182, 42, 180, 0, 9, 77, 42, 42, 180, 0, 15, 181, 0] := ch_ckof (by decide +kernel)
theorem bX1_collect_8 : ch_ck cX1_collect 128 [9, 42, 44, 181, 0, 15, 177] := ch_ckof (by decide +kernel)
theorem dX1_collect_0 : decode cX1_collect 0 = .ok (.aload_n 0, 1) := dz_42 (bX1_collect_0 0 _ rfl)
theorem dX1_collect_1 : decode cX1_collect 1 = .ok (.iconst 0, 1) := dz_3 (bX1_collect_0 1 _ rfl)
theorem dX1_collect_2 : decode cX1_collect 2 = .ok (.putfield 75, 3) := dz_181 (bX1_collect_0 2 _ rfl) (bX1_collect_0 3 _ rfl) (bX1_collect_0 4 _ rfl)
theorem dX1_collect_5 : decode cX1_collect 5 = .ok (.iconst 0, 1) := dz_3 (bX1_collect_0 5 _ rfl)
theorem dX1_collect_6 : decode cX1_collect 6 = .ok (.istore_n 1, 1) := dz_60 (bX1_collect_0 6 _ rfl)
theorem dX1_collect_7 : decode cX1_collect 7 = .ok (.iload_n 1, 1) := dz_27 (bX1_collect_0 7 _ rfl)
theorem dX1_collect_8 : decode cX1_collect 8 = .ok (.aload_n 0, 1) := dz_42 (bX1_collect_0 8 _ rfl)
theorem dX1_collect_9 : decode cX1_collect 9 = .ok (.getfield 78, 3) := dz_180 (bX1_collect_0 9 _ rfl) (bX1_collect_0 10 _ rfl) (bX1_collect_0 11 _ rfl)
theorem dX1_collect_12 : decode cX1_collect 12 = .ok (.if_icmp .ge 25, 3) := dz_162 (bX1_collect_0 12 _ rfl) (bX1_collect_0 13 _ rfl) (bX1_collect_0 14 _ rfl)
theorem dX1_collect_15 : decode cX1_collect 15 = .ok (.aload_n 0, 1) := dz_42 (bX1_collect_0 15 _ rfl)
theorem dX1_collect_16 : decode cX1_collect 16 = .ok (.getfield 19, 3) := dz_180 (bX1_collect_1 0 _ rfl) (bX1_collect_1 1 _ rfl) (bX1_collect_1 2 _ rfl)
theorem dX1_collect_19 : decode cX1_collect 19 = .ok (.iload_n 1, 1) := dz_27 (bX1_collect_1 3 _ rfl)
theorem dX1_collect_20 : decode cX1_collect 20 = .ok (.aload_n 0, 1) := dz_42 (bX1_collect_1 4 _ rfl)
theorem dX1_collect_21 : decode cX1_collect 21 = .ok (.aload_n 0, 1) := dz_42 (bX1_collect_1 5 _ rfl)
theorem dX1_collect_22 : decode cX1_collect 22 = .ok (.getfield 19, 3) := dz_180 (bX1_collect_1 6 _ rfl) (bX1_collect_1 7 _ rfl) (bX1_collect_1 8 _ rfl)
theorem dX1_collect_25 : decode cX1_collect 25 = .ok (.iload_n 1, 1) := dz_27 (bX1_collect_1 9 _ rfl)
theorem dX1_collect_26 : decode cX1_collect 26 = .ok (.laload, 1) := dz_47 (bX1_collect_1 10 _ rfl)
theorem dX1_collect_27 : decode cX1_collect 27 = .ok (.invokevirtual 186, 3) := dz_182 (bX1_collect_1 11 _ rfl) (bX1_collect_1 12 _ rfl) (bX1_collect_1 13 _ rfl)
theorem dX1_collect_30 : decode cX1_collect 30 = .ok (.lastore, 1) := dz_80 (bX1_collect_1 14 _ rfl)
theorem dX1_collect_31 : decode cX1_collect 31 = .ok (.iinc 1 1, 3) := dz_132 (bX1_collect_1 15 _ rfl) (bX1_collect_2 0 _ rfl) (bX1_collect_2 1 _ rfl)
theorem dX1_collect_34 : decode cX1_collect 34 = .ok (.goto (-27), 3) := dz_167 (bX1_collect_2 2 _ rfl) (bX1_collect_2 3 _ rfl) (bX1_collect_2 4 _ rfl)
theorem dX1_collect_37 : decode cX1_collect 37 = .ok (.iconst 0, 1) := dz_3 (bX1_collect_2 5 _ rfl)
theorem dX1_collect_38 : decode cX1_collect 38 = .ok (.istore_n 1, 1) := dz_60 (bX1_collect_2 6 _ rfl)
theorem dX1_collect_39 : decode cX1_collect 39 = .ok (.iload_n 1, 1) := dz_27 (bX1_collect_2 7 _ rfl)
theorem dX1_collect_40 : decode cX1_collect 40 = .ok (.aload_n 0, 1) := dz_42 (bX1_collect_2 8 _ rfl)
theorem dX1_collect_41 : decode cX1_collect 41 = .ok (.getfield 75, 3) := dz_180 (bX1_collect_2 9 _ rfl) (bX1_collect_2 10 _ rfl) (bX1_collect_2 11 _ rfl)
theorem dX1_collect_44 : decode cX1_collect 44 = .ok (.if_icmp .ge 72, 3) := dz_162 (bX1_collect_2 12 _ rfl) (bX1_collect_2 13 _ rfl) (bX1_collect_2 14 _ rfl)
theorem dX1_collect_47 : decode cX1_collect 47 = .ok (.aload_n 0, 1) := dz_42 (bX1_collect_2 15 _ rfl)
theorem dX1_collect_48 : decode cX1_collect 48 = .ok (.getfield 15, 3) := dz_180 (bX1_collect_3 0 _ rfl) (bX1_collect_3 1 _ rfl) (bX1_collect_3 2 _ rfl)
theorem dX1_collect_51 : decode cX1_collect 51 = .ok (.iload_n 1, 1) := dz_27 (bX1_collect_3 3 _ rfl)
theorem dX1_collect_52 : decode cX1_collect 52 = .ok (.iconst 1, 1) := dz_4 (bX1_collect_3 4 _ rfl)
theorem dX1_collect_53 : decode cX1_collect 53 = .ok (.iadd, 1) := dz_96 (bX1_collect_3 5 _ rfl)
theorem dX1_collect_54 : decode cX1_collect 54 = .ok (.laload, 1) := dz_47 (bX1_collect_3 6 _ rfl)
theorem dX1_collect_55 : decode cX1_collect 55 = .ok (.l2i, 1) := dz_136 (bX1_collect_3 7 _ rfl)
theorem dX1_collect_56 : decode cX1_collect 56 = .ok (.istore_n 2, 1) := dz_61 (bX1_collect_3 8 _ rfl)
theorem dX1_collect_57 : decode cX1_collect 57 = .ok (.iload_n 1, 1) := dz_27 (bX1_collect_3 9 _ rfl)
theorem dX1_collect_58 : decode cX1_collect 58 = .ok (.iconst 2, 1) := dz_5 (bX1_collect_3 10 _ rfl)
theorem dX1_collect_59 : decode cX1_collect 59 = .ok (.iadd, 1) := dz_96 (bX1_collect_3 11 _ rfl)
theorem dX1_collect_60 : decode cX1_collect 60 = .ok (.istore_n 3, 1) := dz_62 (bX1_collect_3 12 _ rfl)
theorem dX1_collect_61 : decode cX1_collect 61 = .ok (.iload_n 3, 1) := dz_29 (bX1_collect_3 13 _ rfl)
theorem dX1_collect_62 : decode cX1_collect 62 = .ok (.iload_n 1, 1) := dz_27 (bX1_collect_3 14 _ rfl)
theorem dX1_collect_63 : decode cX1_collect 63 = .ok (.iconst 2, 1) := dz_5 (bX1_collect_3 15 _ rfl)
theorem dX1_collect_64 : decode cX1_collect 64 = .ok (.iadd, 1) := dz_96 (bX1_collect_4 0 _ rfl)
theorem dX1_collect_65 : decode cX1_collect 65 = .ok (.iload_n 2, 1) := dz_28 (bX1_collect_4 1 _ rfl)
theorem dX1_collect_66 : decode cX1_collect 66 = .ok (.iadd, 1) := dz_96 (bX1_collect_4 2 _ rfl)
theorem dX1_collect_67 : decode cX1_collect 67 = .ok (.if_icmp .ge 40, 3) := dz_162 (bX1_collect_4 3 _ rfl) (bX1_collect_4 4 _ rfl) (bX1_collect_4 5 _ rfl)
theorem dX1_collect_70 : decode cX1_collect 70 = .ok (.aload_n 0, 1) := dz_42 (bX1_collect_4 6 _ rfl)
theorem dX1_collect_71 : decode cX1_collect 71 = .ok (.getfield 15, 3) := dz_180 (bX1_collect_4 7 _ rfl) (bX1_collect_4 8 _ rfl) (bX1_collect_4 9 _ rfl)
theorem dX1_collect_74 : decode cX1_collect 74 = .ok (.iload_n 1, 1) := dz_27 (bX1_collect_4 10 _ rfl)
theorem dX1_collect_75 : decode cX1_collect 75 = .ok (.laload, 1) := dz_47 (bX1_collect_4 11 _ rfl)
theorem dX1_collect_76 : decode cX1_collect 76 = .ok (.ldc2_w 176, 3) := dz_20 (bX1_collect_4 12 _ rfl) (bX1_collect_4 13 _ rfl) (bX1_collect_4 14 _ rfl)
theorem dX1_collect_79 : decode cX1_collect 79 = .ok (.land, 1) := dz_127 (bX1_collect_4 15 _ rfl)
theorem dX1_collect_80 : decode cX1_collect 80 = .ok (.lconst 0, 1) := dz_9 (bX1_collect_5 0 _ rfl)
theorem dX1_collect_81 : decode cX1_collect 81 = .ok (.lcmp, 1) := dz_148 (bX1_collect_5 1 _ rfl)
theorem dX1_collect_82 : decode cX1_collect 82 = .ok (.ifCond .ne 25, 3) := dz_154 (bX1_collect_5 2 _ rfl) (bX1_collect_5 3 _ rfl) (bX1_collect_5 4 _ rfl)
theorem dX1_collect_85 : decode cX1_collect 85 = .ok (.aload_n 0, 1) := dz_42 (bX1_collect_5 5 _ rfl)
theorem dX1_collect_86 : decode cX1_collect 86 = .ok (.getfield 15, 3) := dz_180 (bX1_collect_5 6 _ rfl) (bX1_collect_5 7 _ rfl) (bX1_collect_5 8 _ rfl)
theorem dX1_collect_89 : decode cX1_collect 89 = .ok (.iload_n 3, 1) := dz_29 (bX1_collect_5 9 _ rfl)
theorem dX1_collect_90 : decode cX1_collect 90 = .ok (.aload_n 0, 1) := dz_42 (bX1_collect_5 10 _ rfl)
theorem dX1_collect_91 : decode cX1_collect 91 = .ok (.aload_n 0, 1) := dz_42 (bX1_collect_5 11 _ rfl)
theorem dX1_collect_92 : decode cX1_collect 92 = .ok (.getfield 15, 3) := dz_180 (bX1_collect_5 12 _ rfl) (bX1_collect_5 13 _ rfl) (bX1_collect_5 14 _ rfl)
theorem dX1_collect_95 : decode cX1_collect 95 = .ok (.iload_n 3, 1) := dz_29 (bX1_collect_5 15 _ rfl)
theorem dX1_collect_96 : decode cX1_collect 96 = .ok (.laload, 1) := dz_47 (bX1_collect_6 0 _ rfl)
theorem dX1_collect_97 : decode cX1_collect 97 = .ok (.invokevirtual 186, 3) := dz_182 (bX1_collect_6 1 _ rfl) (bX1_collect_6 2 _ rfl) (bX1_collect_6 3 _ rfl)
theorem dX1_collect_100 : decode cX1_collect 100 = .ok (.lastore, 1) := dz_80 (bX1_collect_6 4 _ rfl)
theorem dX1_collect_101 : decode cX1_collect 101 = .ok (.iinc 3 1, 3) := dz_132 (bX1_collect_6 5 _ rfl) (bX1_collect_6 6 _ rfl) (bX1_collect_6 7 _ rfl)
theorem dX1_collect_104 : decode cX1_collect 104 = .ok (.goto (-43), 3) := dz_167 (bX1_collect_6 8 _ rfl) (bX1_collect_6 9 _ rfl) (bX1_collect_6 10 _ rfl)
theorem dX1_collect_107 : decode cX1_collect 107 = .ok (.iload_n 1, 1) := dz_27 (bX1_collect_6 11 _ rfl)
theorem dX1_collect_108 : decode cX1_collect 108 = .ok (.iconst 2, 1) := dz_5 (bX1_collect_6 12 _ rfl)
theorem dX1_collect_109 : decode cX1_collect 109 = .ok (.iload_n 2, 1) := dz_28 (bX1_collect_6 13 _ rfl)
theorem dX1_collect_110 : decode cX1_collect 110 = .ok (.iadd, 1) := dz_96 (bX1_collect_6 14 _ rfl)
theorem dX1_collect_111 : decode cX1_collect 111 = .ok (.iadd, 1) := dz_96 (bX1_collect_6 15 _ rfl)
theorem dX1_collect_112 : decode cX1_collect 112 = .ok (.istore_n 1, 1) := dz_60 (bX1_collect_7 0 _ rfl)
theorem dX1_collect_113 : decode cX1_collect 113 = .ok (.goto (-74), 3) := dz_167 (bX1_collect_7 1 _ rfl) (bX1_collect_7 2 _ rfl) (bX1_collect_7 3 _ rfl)
theorem dX1_collect_116 : decode cX1_collect 116 = .ok (.aload_n 0, 1) := dz_42 (bX1_collect_7 4 _ rfl)
theorem dX1_collect_117 : decode cX1_collect 117 = .ok (.getfield 9, 3) := dz_180 (bX1_collect_7 5 _ rfl) (bX1_collect_7 6 _ rfl) (bX1_collect_7 7 _ rfl)
theorem dX1_collect_120 : decode cX1_collect 120 = .ok (.astore_n 2, 1) := dz_77 (bX1_collect_7 8 _ rfl)
theorem dX1_collect_121 : decode cX1_collect 121 = .ok (.aload_n 0, 1) := dz_42 (bX1_collect_7 9 _ rfl)
theorem dX1_collect_122 : decode cX1_collect 122 = .ok (.aload_n 0, 1) := dz_42 (bX1_collect_7 10 _ rfl)
theorem dX1_collect_123 : decode cX1_collect 123 = .ok (.getfield 15, 3) := dz_180 (bX1_collect_7 11 _ rfl) (bX1_collect_7 12 _ rfl) (bX1_collect_7 13 _ rfl)
theorem dX1_collect_126 : decode cX1_collect 126 = .ok (.putfield 9, 3) := dz_181 (bX1_collect_7 14 _ rfl) (bX1_collect_7 15 _ rfl) (bX1_collect_8 0 _ rfl)
theorem dX1_collect_129 : decode cX1_collect 129 = .ok (.aload_n 0, 1) := dz_42 (bX1_collect_8 1 _ rfl)
theorem dX1_collect_130 : decode cX1_collect 130 = .ok (.aload_n 2, 1) := dz_44 (bX1_collect_8 2 _ rfl)
theorem dX1_collect_131 : decode cX1_collect 131 = .ok (.putfield 15, 3) := dz_181 (bX1_collect_8 3 _ rfl) (bX1_collect_8 4 _ rfl) (bX1_collect_8 5 _ rfl)
theorem dX1_collect_134 : decode cX1_collect 134 = .ok (.return_, 1) := dz_177 (bX1_collect_8 6 _ rfl)
def c_X1_collect_107 (t0 : Nat) (x1 : Int32) (x2 : Int32)  (w : ch_W) : Option ((Int32 × ch_W) ⊕ (ch_W)) := some (.inl (x1 + (2 + x2), w))
theorem s_X1_collect_107 {g : State} {t0 : Nat} {x1 : Int32} {x2 : Int32} {w : ch_W} {res : (Int32 × ch_W) ⊕ (ch_W)} {Q : Outcome → ch_W → Prop} (h : c_X1_collect_107 t0 x1 x2 w = some res) (hk : (ch_sm (fun s => ch_FT g true mX1_collect 4 39 [some (va_rf (some t0)), some (.int s.1), none, none] [] (s.2) Q) (ch_eV Q)) res) : ch_FT g true mX1_collect 4 107 [some (va_rf (some t0)), some (.int x1), some (.int x2), none] [] (w) Q := by
  unfold c_X1_collect_107 at h
  refine ch_iload_n 1 _ dX1_collect_107 rfl (ch_iconst _ 2 dX1_collect_108 rfl (ch_iload_n 2 _ dX1_collect_109 rfl (ch_iadd _ _ dX1_collect_110 (ch_iadd _ _ dX1_collect_111 (ch_istore_n 1 _ (ls1 := [some (va_rf (some t0)), some (.int (x1 + (2 + x2))), some (.int x2), none]) dX1_collect_112 (Nat.le_of_ble_eq_true rfl) rfl (ch_goto 39 dX1_collect_113 rfl (ch_FT.wk (ch_wS (ch_wS (ch_wN (ch_wN ch_w0)))) ?_)))))))
  obtain rfl := Option.some.inj h
  exact hk

def c_X1_collect_61 (t0 : Nat) (x1 : Int32) (x2 : Int32) (x3 : Int32)  (w : ch_W) : Option ((Int32 × ch_W) ⊕ ((Int32 × ch_W) ⊕ (ch_W))) := if x3 < ((x1 + 2) + x2) then ((ch_gR w (some t0) 2 fX1_other).bind fun v1 => (ch_lL w v1 24 x1).bind fun v2 => if (lg_cmp (v2 &&& 3) 0) = 0 then ((ch_gR w (some t0) 2 fX1_other).bind fun v3 => (ch_gR w (some t0) 2 fX1_other).bind fun v4 => (ch_lL w v4 24 x3).bind fun v5 => (ch_rc w (some t0) 2).bind fun _ => (c_X1_moved t0 v5 w).bind fun p7 => (ch_wL p7.2 v3 24 x3 p7.1).bind fun w9 => some (.inl (x3 + 1, w9))) else ((c_X1_collect_107 t0 x1 x2 w).bind fun r => some (.inr (r)))) else ((c_X1_collect_107 t0 x1 x2 w).bind fun r => some (.inr (r)))
theorem s_X1_collect_61 {g : State} {t0 : Nat} {x1 : Int32} {x2 : Int32} {x3 : Int32} {w : ch_W} {res : (Int32 × ch_W) ⊕ ((Int32 × ch_W) ⊕ (ch_W))} {Q : Outcome → ch_W → Prop} (h : c_X1_collect_61 t0 x1 x2 x3 w = some res) (hk : (ch_sm (fun s => ch_FT g true mX1_collect 4 61 [some (va_rf (some t0)), some (.int x1), some (.int x2), some (.int s.1)] [] (s.2) Q) (ch_sm (fun s => ch_FT g true mX1_collect 4 39 [some (va_rf (some t0)), some (.int s.1), none, none] [] (s.2) Q) (ch_eV Q))) res) : ch_FT g true mX1_collect 4 61 [some (va_rf (some t0)), some (.int x1), some (.int x2), some (.int x3)] [] (w) Q := by
  unfold c_X1_collect_61 at h
  refine ch_iload_n 3 _ dX1_collect_61 rfl (ch_iload_n 1 _ dX1_collect_62 rfl (ch_iconst _ 2 dX1_collect_63 rfl (ch_iadd _ _ dX1_collect_64 (ch_iload_n 2 _ dX1_collect_65 rfl (ch_iadd _ _ dX1_collect_66 (cp_icmp_ge _ _ (tgt := 107) dX1_collect_67 rfl h (fun h => ?_) (fun h => ?_)))))))
  · obtain ⟨r, hr, h⟩ := ch_bd h
    obtain rfl := Option.some.inj h
    exact ch_FT.wk (ch_wS (ch_wS (ch_wS (ch_wN ch_w0)))) (s_X1_collect_107  hr hk)
  · refine ch_aload_n 0 (some t0) dX1_collect_70 rfl (cp_gR (ci := 1) (k := 3) dX1_collect_71 fl_X1_15 rfl h (fun v1 h => ?_))
    refine ch_iload_n 1 _ dX1_collect_74 rfl (cp_lald (t := 24) dX1_collect_75 rfl rfl h (fun v2 h => ?_))
    refine ch_ldc2 176 3 dX1_collect_76 q1341 (ch_land _ _ dX1_collect_79 (ch_lconst _ 0 dX1_collect_80 rfl (ch_lcmp _ _ dX1_collect_81 (cp_if_ne _ (tgt := 107) dX1_collect_82 rfl h (fun h => ?_) (fun h => ?_)))))
    · obtain ⟨r, hr, h⟩ := ch_bd h
      obtain rfl := Option.some.inj h
      exact ch_FT.wk (ch_wS (ch_wS (ch_wS (ch_wN ch_w0)))) (s_X1_collect_107  hr hk)
    · refine ch_aload_n 0 (some t0) dX1_collect_85 rfl (cp_gR (ci := 1) (k := 3) dX1_collect_86 fl_X1_15 rfl h (fun v3 h => ?_))
      refine ch_iload_n 3 _ dX1_collect_89 rfl (ch_aload_n 0 (some t0) dX1_collect_90 rfl (ch_aload_n 0 (some t0) dX1_collect_91 rfl (cp_gR (ci := 1) (k := 3) dX1_collect_92 fl_X1_15 rfl h (fun v4 h => ?_))))
      refine ch_iload_n 3 _ dX1_collect_95 rfl (cp_lald (t := 24) dX1_collect_96 rfl rfl h (fun v5 h => ?_))
      obtain ⟨_, hb6, h⟩ := ch_bd h
      obtain ⟨p7, hp8, h⟩ := ch_bd h
      refine ch_iv yX1_moved prog_5_method_9_code 5 (some .long) (ci := 1) (q := (RX1, TX1, 22)) (b := t0) (d' := 3) (av := [.long v5]) (rest := [.int x3, va_rf v3]) rfl dX1_collect_97 q1331 q1333 rfl qs69 q1334 can_X1_moved (Nat.le_of_ble_eq_true rfl) (ch_hw (Nat.le_of_ble_eq_true rfl)) (ch_rts hb6) (cp_kL (v := p7.1) (w1 := p7.2) (fun Q' hq => s_X1_moved hp8 hq) ?_)
      refine cp_last (t := 24) dX1_collect_100 rfl (Nat.le_of_ble_eq_true rfl) rfl h (fun w9 h => ?_)
      refine ch_iinc 3 _ _ (x3 + 1) (ls1 := [some (va_rf (some t0)), some (.int x1), some (.int x2), some (.int (x3 + 1))]) dX1_collect_101 rfl rfl (Nat.le_of_ble_eq_true rfl) rfl (ch_goto 61 dX1_collect_104 rfl (ch_FT.wk (ch_wS (ch_wS (ch_wS (ch_wS ch_w0)))) ?_))
      obtain rfl := Option.some.inj h
      exact hk
theorem sl_X1_collect_61 {g : State} {t0 : Nat} {x1 : Int32} {x2 : Int32} {a : Int32 × ch_W} {res : (Int32 × ch_W) ⊕ (ch_W)} {Q : Outcome → ch_W → Prop} (h : ch_loop (fun (s : Int32 × ch_W) => c_X1_collect_61 t0 x1 x2 s.1 s.2) a = some res) (hk : (ch_sm (fun s => ch_FT g true mX1_collect 4 39 [some (va_rf (some t0)), some (.int s.1), none, none] [] (s.2) Q) (ch_eV Q)) res) : ch_FT g true mX1_collect 4 61 [some (va_rf (some t0)), some (.int x1), some (.int x2), some (.int a.1)] [] (a.2) Q := by
  refine ch_loop_ind (fun (a : Int32 × ch_W) (r : (Int32 × ch_W) ⊕ (ch_W)) => (ch_sm (fun s => ch_FT g true mX1_collect 4 39 [some (va_rf (some t0)), some (.int s.1), none, none] [] (s.2) Q) (ch_eV Q)) r → ch_FT g true mX1_collect 4 61 [some (va_rf (some t0)), some (.int x1), some (.int x2), some (.int a.1)] [] (a.2) Q) ?_ ?_ a res h hk
  · intro a a2 b h1 ih hk
    exact s_X1_collect_61  h1 (ih hk)
  · intro a b h1 hk
    exact s_X1_collect_61  h1 hk

def c_X1_collect_39 (t0 : Nat) (x1 : Int32)  (w : ch_W) : Option ((Int32 × ch_W) ⊕ (ch_W)) := (ch_gI w (some t0) 2 fX1_used).bind fun v1 => if x1 < v1 then ((ch_gR w (some t0) 2 fX1_other).bind fun v6 => (ch_lL w v6 24 (x1 + 1)).bind fun v7 => ch_loop (fun (s : Int32 × ch_W) => c_X1_collect_61 t0 x1 (Int64.toInt32 v7) s.1 s.2) (x1 + 2, w)) else ((ch_gR w (some t0) 2 fX1_heap).bind fun v2 => (ch_gR w (some t0) 2 fX1_other).bind fun v3 => (ch_pR w (some t0) 2 fX1_heap v3).bind fun w4 => (ch_pR w4 (some t0) 2 fX1_other v2).bind fun w5 => some (.inr (w5)))
theorem s_X1_collect_39 {g : State} {t0 : Nat} {x1 : Int32} {w : ch_W} {res : (Int32 × ch_W) ⊕ (ch_W)} {Q : Outcome → ch_W → Prop} (h : c_X1_collect_39 t0 x1 w = some res) (hk : (ch_sm (fun s => ch_FT g true mX1_collect 4 39 [some (va_rf (some t0)), some (.int s.1), none, none] [] (s.2) Q) (ch_eV Q)) res) : ch_FT g true mX1_collect 4 39 [some (va_rf (some t0)), some (.int x1), none, none] [] (w) Q := by
  unfold c_X1_collect_39 at h
  refine ch_iload_n 1 _ dX1_collect_39 rfl (ch_aload_n 0 (some t0) dX1_collect_40 rfl (cp_gI (ci := 1) (k := 4) dX1_collect_41 fl_X1_75 rfl h (fun v1 h => ?_)))
  refine cp_icmp_ge _ _ (tgt := 116) dX1_collect_44 rfl h (fun h => ?_) (fun h => ?_)
  · refine ch_aload_n 0 (some t0) dX1_collect_116 rfl (cp_gR (ci := 1) (k := 2) dX1_collect_117 fl_X1_9 rfl h (fun v2 h => ?_))
    refine ch_astore_n 2 v2 (ls1 := [some (va_rf (some t0)), some (.int x1), some (va_rf v2), none]) dX1_collect_120 (Nat.le_of_ble_eq_true rfl) rfl (ch_aload_n 0 (some t0) dX1_collect_121 rfl (ch_aload_n 0 (some t0) dX1_collect_122 rfl (cp_gR (ci := 1) (k := 3) dX1_collect_123 fl_X1_15 rfl h (fun v3 h => ?_))))
    refine cp_pR (ci := 1) (k := 2) dX1_collect_126 fl_X1_9 rfl rfl rfl h (fun w4 h => ?_)
    refine ch_aload_n 0 (some t0) dX1_collect_129 rfl (ch_aload_n 2 v2 dX1_collect_130 rfl (cp_pR (ci := 1) (k := 3) dX1_collect_131 fl_X1_15 rfl rfl rfl h (fun w5 h => ?_)))
    obtain rfl := Option.some.inj h
    exact ch_return dX1_collect_134 rfl hk
  · refine ch_aload_n 0 (some t0) dX1_collect_47 rfl (cp_gR (ci := 1) (k := 3) dX1_collect_48 fl_X1_15 rfl h (fun v6 h => ?_))
    refine ch_iload_n 1 _ dX1_collect_51 rfl (ch_iconst _ 1 dX1_collect_52 rfl (ch_iadd _ _ dX1_collect_53 (cp_lald (t := 24) dX1_collect_54 rfl rfl h (fun v7 h => ?_))))
    exact ch_l2i _ dX1_collect_55 (ch_istore_n 2 _ (ls1 := [some (va_rf (some t0)), some (.int x1), some (.int (Int64.toInt32 v7)), none]) dX1_collect_56 (Nat.le_of_ble_eq_true rfl) rfl (ch_iload_n 1 _ dX1_collect_57 rfl (ch_iconst _ 2 dX1_collect_58 rfl (ch_iadd _ _ dX1_collect_59 (ch_istore_n 3 _ (ls1 := [some (va_rf (some t0)), some (.int x1), some (.int (Int64.toInt32 v7)), some (.int (x1 + 2))]) dX1_collect_60 (Nat.le_of_ble_eq_true rfl) rfl (ch_FT.wk (ch_wS (ch_wS (ch_wS (ch_wS ch_w0)))) (sl_X1_collect_61  h hk)))))))
theorem sl_X1_collect_39 {g : State} {t0 : Nat} {a : Int32 × ch_W} {res : ch_W} {Q : Outcome → ch_W → Prop} (h : ch_loop (fun (s : Int32 × ch_W) => c_X1_collect_39 t0 s.1 s.2) a = some res) (hk : (ch_eV Q) res) : ch_FT g true mX1_collect 4 39 [some (va_rf (some t0)), some (.int a.1), none, none] [] (a.2) Q := by
  refine ch_loop_ind (fun (a : Int32 × ch_W) (r : ch_W) => (ch_eV Q) r → ch_FT g true mX1_collect 4 39 [some (va_rf (some t0)), some (.int a.1), none, none] [] (a.2) Q) ?_ ?_ a res h hk
  · intro a a2 b h1 ih hk
    exact s_X1_collect_39  h1 (ih hk)
  · intro a b h1 hk
    exact s_X1_collect_39  h1 hk

def c_X1_collect_7 (t0 : Nat) (x1 : Int32)  (w : ch_W) : Option ((Int32 × ch_W) ⊕ (ch_W)) := (ch_gI w (some t0) 2 fX1_top).bind fun v1 => if x1 < v1 then ((ch_gR w (some t0) 2 fX1_pile).bind fun v2 => (ch_gR w (some t0) 2 fX1_pile).bind fun v3 => (ch_lL w v3 24 x1).bind fun v4 => (ch_rc w (some t0) 2).bind fun _ => (c_X1_moved t0 v4 w).bind fun p6 => (ch_wL p6.2 v2 24 x1 p6.1).bind fun w8 => some (.inl (x1 + 1, w8))) else ((ch_loop (fun (s : Int32 × ch_W) => c_X1_collect_39 t0 s.1 s.2) (0, w)).bind fun r => some (.inr (r)))
theorem s_X1_collect_7 {g : State} {t0 : Nat} {x1 : Int32} {w : ch_W} {res : (Int32 × ch_W) ⊕ (ch_W)} {Q : Outcome → ch_W → Prop} (h : c_X1_collect_7 t0 x1 w = some res) (hk : (ch_sm (fun s => ch_FT g true mX1_collect 4 7 [some (va_rf (some t0)), some (.int s.1), none, none] [] (s.2) Q) (ch_eV Q)) res) : ch_FT g true mX1_collect 4 7 [some (va_rf (some t0)), some (.int x1), none, none] [] (w) Q := by
  unfold c_X1_collect_7 at h
  refine ch_iload_n 1 _ dX1_collect_7 rfl (ch_aload_n 0 (some t0) dX1_collect_8 rfl (cp_gI (ci := 1) (k := 6) dX1_collect_9 fl_X1_78 rfl h (fun v1 h => ?_)))
  refine cp_icmp_ge _ _ (tgt := 37) dX1_collect_12 rfl h (fun h => ?_) (fun h => ?_)
  · obtain ⟨r, hr, h⟩ := ch_bd h
    obtain rfl := Option.some.inj h
    exact ch_iconst _ 0 dX1_collect_37 rfl (ch_istore_n 1 _ (ls1 := [some (va_rf (some t0)), some (.int 0), none, none]) dX1_collect_38 (Nat.le_of_ble_eq_true rfl) rfl (ch_FT.wk (ch_wS (ch_wS (ch_wN (ch_wN ch_w0)))) (sl_X1_collect_39  hr hk)))
  · refine ch_aload_n 0 (some t0) dX1_collect_15 rfl (cp_gR (ci := 1) (k := 5) dX1_collect_16 fl_X1_19 rfl h (fun v2 h => ?_))
    refine ch_iload_n 1 _ dX1_collect_19 rfl (ch_aload_n 0 (some t0) dX1_collect_20 rfl (ch_aload_n 0 (some t0) dX1_collect_21 rfl (cp_gR (ci := 1) (k := 5) dX1_collect_22 fl_X1_19 rfl h (fun v3 h => ?_))))
    refine ch_iload_n 1 _ dX1_collect_25 rfl (cp_lald (t := 24) dX1_collect_26 rfl rfl h (fun v4 h => ?_))
    obtain ⟨_, hb5, h⟩ := ch_bd h
    obtain ⟨p6, hp7, h⟩ := ch_bd h
    refine ch_iv yX1_moved prog_5_method_9_code 5 (some .long) (ci := 1) (q := (RX1, TX1, 22)) (b := t0) (d' := 3) (av := [.long v4]) (rest := [.int x1, va_rf v2]) rfl dX1_collect_27 q1331 q1333 rfl qs69 q1334 can_X1_moved (Nat.le_of_ble_eq_true rfl) (ch_hw (Nat.le_of_ble_eq_true rfl)) (ch_rts hb5) (cp_kL (v := p6.1) (w1 := p6.2) (fun Q' hq => s_X1_moved hp7 hq) ?_)
    refine cp_last (t := 24) dX1_collect_30 rfl (Nat.le_of_ble_eq_true rfl) rfl h (fun w8 h => ?_)
    refine ch_iinc 1 _ _ (x1 + 1) (ls1 := [some (va_rf (some t0)), some (.int (x1 + 1)), none, none]) dX1_collect_31 rfl rfl (Nat.le_of_ble_eq_true rfl) rfl (ch_goto 7 dX1_collect_34 rfl (ch_FT.wk (ch_wS (ch_wS (ch_wN (ch_wN ch_w0)))) ?_))
    obtain rfl := Option.some.inj h
    exact hk
theorem sl_X1_collect_7 {g : State} {t0 : Nat} {a : Int32 × ch_W} {res : ch_W} {Q : Outcome → ch_W → Prop} (h : ch_loop (fun (s : Int32 × ch_W) => c_X1_collect_7 t0 s.1 s.2) a = some res) (hk : (ch_eV Q) res) : ch_FT g true mX1_collect 4 7 [some (va_rf (some t0)), some (.int a.1), none, none] [] (a.2) Q := by
  refine ch_loop_ind (fun (a : Int32 × ch_W) (r : ch_W) => (ch_eV Q) r → ch_FT g true mX1_collect 4 7 [some (va_rf (some t0)), some (.int a.1), none, none] [] (a.2) Q) ?_ ?_ a res h hk
  · intro a a2 b h1 ih hk
    exact s_X1_collect_7  h1 (ih hk)
  · intro a b h1 hk
    exact s_X1_collect_7  h1 hk

def c_X1_collect (t0 : Nat)  (w : ch_W) : Option (ch_W) := (ch_pI w (some t0) 2 fX1_used 0).bind fun w1 => ch_loop (fun (s : Int32 × ch_W) => c_X1_collect_7 t0 s.1 s.2) (0, w1)
theorem s_X1_collect {g : State} {t0 : Nat} {w : ch_W} {res : ch_W} {Q : Outcome → ch_W → Prop} (h : c_X1_collect t0 w = some res) (hk : (ch_eV Q) res) : ch_CT g true yX1_collect 4 [.ref t0] (w) Q := by
  unfold c_X1_collect at h
  refine ch_ctL mX1_collect (ls := [some (va_rf (some t0)), none, none, none]) q1330 rfl (ch_lyr (r := some t0) ch_ly0) (Nat.le_of_ble_eq_true rfl) rfl ?_
  refine ch_aload_n 0 (some t0) dX1_collect_0 rfl (ch_iconst _ 0 dX1_collect_1 rfl (cp_pI (ci := 1) (k := 4) dX1_collect_2 fl_X1_75 rfl rfl rfl h (fun w1 h => ?_)))
  exact ch_iconst _ 0 dX1_collect_5 rfl (ch_istore_n 1 _ (ls1 := [some (va_rf (some t0)), some (.int 0), none, none]) dX1_collect_6 (Nat.le_of_ble_eq_true rfl) rfl (ch_FT.wk (ch_wS (ch_wS (ch_wN (ch_wN ch_w0)))) (sl_X1_collect_7  h hk)))

theorem bX12_init_0 : ch_ck cX12_init 0 [42, 183, 0, 1, 42, 27, 181, 0, 7, 177] := ch_ckof (by decide +kernel)
theorem dX12_init_0 : decode cX12_init 0 = .ok (.aload_n 0, 1) := dz_42 (bX12_init_0 0 _ rfl)
theorem dX12_init_1 : decode cX12_init 1 = .ok (.invokespecial 1, 3) := dz_183 (bX12_init_0 1 _ rfl) (bX12_init_0 2 _ rfl) (bX12_init_0 3 _ rfl)
theorem dX12_init_4 : decode cX12_init 4 = .ok (.aload_n 0, 1) := dz_42 (bX12_init_0 4 _ rfl)
theorem dX12_init_5 : decode cX12_init 5 = .ok (.iload_n 1, 1) := dz_27 (bX12_init_0 5 _ rfl)
theorem dX12_init_6 : decode cX12_init 6 = .ok (.putfield 7, 3) := dz_181 (bX12_init_0 6 _ rfl) (bX12_init_0 7 _ rfl) (bX12_init_0 8 _ rfl)
theorem dX12_init_9 : decode cX12_init 9 = .ok (.return_, 1) := dz_177 (bX12_init_0 9 _ rfl)
def c_X12_init (g : State) (t0 : Nat) (x1 : Int32) (w : ch_W) : Option (ch_W) := (ch_thr g w (some t0) 13).bind fun w1 => (ch_pI w1 (some t0) 13 fX12_how x1).bind fun w2 => some (w2)
theorem s_X12_init {g : State} {t0 : Nat} {x1 : Int32} {w : ch_W} {res : ch_W} {Q : Outcome → ch_W → Prop} (h : c_X12_init g t0 x1 w = some res) (hk : (ch_eV Q) res) : ch_CT g true yX12_init 6 [.ref t0, .int x1] (w) Q := by
  unfold c_X12_init at h
  refine ch_ctL mX12_init (ls := [some (va_rf (some t0)), some (.int x1)]) q1358 rfl (ch_lyr (r := some t0) (ch_lyi ch_ly0)) (Nat.le_of_ble_eq_true rfl) rfl ?_
  refine ch_aload_n 0 (some t0) dX12_init_0 rfl (cp_thr th_X12 dX12_init_1 q1359 (Nat.le_of_ble_eq_true rfl) (Nat.le_of_ble_eq_true rfl) h (fun w1 h => ?_))
  refine ch_aload_n 0 (some t0) dX12_init_4 rfl (ch_iload_n 1 _ dX12_init_5 rfl (cp_pI (ci := 12) (k := 6) dX12_init_6 fl_X12_7 rfl rfl rfl h (fun w2 h => ?_)))
  obtain rfl := Option.some.inj h
  exact ch_return dX12_init_9 rfl hk

theorem bX1_room_0 : ch_ck cX1_room 0 [42, 180, 0, 75, 27, 96, 42, 180, 0, 72, 164, 0, 7, 42, 182, 0] := ch_ckof (by decide +kernel)
theorem bX1_room_1 : ch_ck cX1_room 16 [119, 42, 180, 0, 75, 27, 96, 42, 180, 0, 72, 164, 0, 12, 187, 0] := ch_ckof (by decide +kernel)
theorem bX1_room_2 : ch_ck cX1_room 32 [122, 89, 6, 183, 0, 124, 191, 177] := ch_ckof (by decide +kernel)
theorem dX1_room_0 : decode cX1_room 0 = .ok (.aload_n 0, 1) := dz_42 (bX1_room_0 0 _ rfl)
theorem dX1_room_1 : decode cX1_room 1 = .ok (.getfield 75, 3) := dz_180 (bX1_room_0 1 _ rfl) (bX1_room_0 2 _ rfl) (bX1_room_0 3 _ rfl)
theorem dX1_room_4 : decode cX1_room 4 = .ok (.iload_n 1, 1) := dz_27 (bX1_room_0 4 _ rfl)
theorem dX1_room_5 : decode cX1_room 5 = .ok (.iadd, 1) := dz_96 (bX1_room_0 5 _ rfl)
theorem dX1_room_6 : decode cX1_room 6 = .ok (.aload_n 0, 1) := dz_42 (bX1_room_0 6 _ rfl)
theorem dX1_room_7 : decode cX1_room 7 = .ok (.getfield 72, 3) := dz_180 (bX1_room_0 7 _ rfl) (bX1_room_0 8 _ rfl) (bX1_room_0 9 _ rfl)
theorem dX1_room_10 : decode cX1_room 10 = .ok (.if_icmp .le 7, 3) := dz_164 (bX1_room_0 10 _ rfl) (bX1_room_0 11 _ rfl) (bX1_room_0 12 _ rfl)
theorem dX1_room_13 : decode cX1_room 13 = .ok (.aload_n 0, 1) := dz_42 (bX1_room_0 13 _ rfl)
theorem dX1_room_14 : decode cX1_room 14 = .ok (.invokevirtual 119, 3) := dz_182 (bX1_room_0 14 _ rfl) (bX1_room_0 15 _ rfl) (bX1_room_1 0 _ rfl)
theorem dX1_room_17 : decode cX1_room 17 = .ok (.aload_n 0, 1) := dz_42 (bX1_room_1 1 _ rfl)
theorem dX1_room_18 : decode cX1_room 18 = .ok (.getfield 75, 3) := dz_180 (bX1_room_1 2 _ rfl) (bX1_room_1 3 _ rfl) (bX1_room_1 4 _ rfl)
theorem dX1_room_21 : decode cX1_room 21 = .ok (.iload_n 1, 1) := dz_27 (bX1_room_1 5 _ rfl)
theorem dX1_room_22 : decode cX1_room 22 = .ok (.iadd, 1) := dz_96 (bX1_room_1 6 _ rfl)
theorem dX1_room_23 : decode cX1_room 23 = .ok (.aload_n 0, 1) := dz_42 (bX1_room_1 7 _ rfl)
theorem dX1_room_24 : decode cX1_room 24 = .ok (.getfield 72, 3) := dz_180 (bX1_room_1 8 _ rfl) (bX1_room_1 9 _ rfl) (bX1_room_1 10 _ rfl)
theorem dX1_room_27 : decode cX1_room 27 = .ok (.if_icmp .le 12, 3) := dz_164 (bX1_room_1 11 _ rfl) (bX1_room_1 12 _ rfl) (bX1_room_1 13 _ rfl)
theorem dX1_room_30 : decode cX1_room 30 = .ok (.new 122, 3) := dz_187 (bX1_room_1 14 _ rfl) (bX1_room_1 15 _ rfl) (bX1_room_2 0 _ rfl)
theorem dX1_room_33 : decode cX1_room 33 = .ok (.dup, 1) := dz_89 (bX1_room_2 1 _ rfl)
theorem dX1_room_34 : decode cX1_room 34 = .ok (.iconst 3, 1) := dz_6 (bX1_room_2 2 _ rfl)
theorem dX1_room_35 : decode cX1_room 35 = .ok (.invokespecial 124, 3) := dz_183 (bX1_room_2 3 _ rfl) (bX1_room_2 4 _ rfl) (bX1_room_2 5 _ rfl)
theorem dX1_room_38 : decode cX1_room 38 = .ok (.athrow, 1) := dz_191 (bX1_room_2 6 _ rfl)
theorem dX1_room_39 : decode cX1_room 39 = .ok (.return_, 1) := dz_177 (bX1_room_2 7 _ rfl)
def c_X1_room_17 (g : State) (t0 : Nat) (x1 : Int32)  (w : ch_W) : Option (Except Nat Unit × ch_W) := (ch_gI w (some t0) 2 fX1_used).bind fun v1 => (ch_gI w (some t0) 2 fX1_size).bind fun v2 => if v2 < (v1 + x1) then ((ch_nO w 13 7).bind fun w3 => (c_X12_init g (ch_nx w) 3 w3).bind fun p4 => (some (ch_nx w)).bind fun a6 => some ((.error a6, p4))) else (some ((.ok (), w)))
theorem s_X1_room_17 {g : State} {t0 : Nat} {x1 : Int32} {w : ch_W} {res : Except Nat Unit × ch_W} {Q : Outcome → ch_W → Prop} (h : c_X1_room_17 g t0 x1 w = some res) (hk : (ch_xV Q) res) : ch_FT g true mX1_room 7 17 [some (va_rf (some t0)), some (.int x1)] [] (w) Q := by
  unfold c_X1_room_17 at h
  refine ch_aload_n 0 (some t0) dX1_room_17 rfl (cp_gI (ci := 1) (k := 4) dX1_room_18 fl_X1_75 rfl h (fun v1 h => ?_))
  refine ch_iload_n 1 _ dX1_room_21 rfl (ch_iadd _ _ dX1_room_22 (ch_aload_n 0 (some t0) dX1_room_23 rfl (cp_gI (ci := 1) (k := 1) dX1_room_24 fl_X1_72 rfl h (fun v2 h => ?_))))
  refine cp_icmp_le _ _ (tgt := 39) dX1_room_27 rfl h (fun h => ?_) (fun h => ?_)
  · obtain rfl := Option.some.inj h
    exact ch_return dX1_room_39 rfl hk
  · refine cp_new (ci := 12) (n := 7) (q := (RX12, TX12, 7)) dX1_room_30 rfl q1347 q1348 q227 h (fun w3 h => ?_)
    obtain ⟨p4, hp5, h⟩ := ch_bd h
    refine ch_dup dX1_room_33 (ch_cat _) (ch_iconst _ 3 dX1_room_34 rfl (ch_ii yX12_init prog_3_method_1_code 2 (b := (ch_nx w)) (d' := 6) (av := [.int 3]) (rest := [va_rf (some (ch_nx w))]) rfl dX1_room_35 rfl q1356 q1357 q1358 can_X12_init (Nat.le_of_ble_eq_true rfl) (ch_hw (Nat.le_of_ble_eq_true rfl)) (cp_kV (w1 := p4) (fun Q' hq => s_X12_init hp5 hq) ?_)))
    obtain ⟨a6, ha, h⟩ := ch_bd h
    obtain rfl := Option.some.inj h
    exact ch_athrow (some (ch_nx w)) ha dX1_room_38 rfl hk

def c_X1_room (g : State) (t0 : Nat) (x1 : Int32) (w : ch_W) : Option (Except Nat Unit × ch_W) := (ch_gI w (some t0) 2 fX1_used).bind fun v1 => (ch_gI w (some t0) 2 fX1_size).bind fun v2 => if v2 < (v1 + x1) then ((ch_rc w (some t0) 2).bind fun _ => (c_X1_collect t0 w).bind fun p4 => c_X1_room_17 g t0 x1 p4) else (c_X1_room_17 g t0 x1 w)
theorem s_X1_room {g : State} {t0 : Nat} {x1 : Int32} {w : ch_W} {res : Except Nat Unit × ch_W} {Q : Outcome → ch_W → Prop} (h : c_X1_room g t0 x1 w = some res) (hk : (ch_xV Q) res) : ch_CT g true yX1_room 7 [.ref t0, .int x1] (w) Q := by
  unfold c_X1_room at h
  refine ch_ctL mX1_room (ls := [some (va_rf (some t0)), some (.int x1)]) q1326 rfl (ch_lyr (r := some t0) (ch_lyi ch_ly0)) (Nat.le_of_ble_eq_true rfl) rfl ?_
  refine ch_aload_n 0 (some t0) dX1_room_0 rfl (cp_gI (ci := 1) (k := 4) dX1_room_1 fl_X1_75 rfl h (fun v1 h => ?_))
  refine ch_iload_n 1 _ dX1_room_4 rfl (ch_iadd _ _ dX1_room_5 (ch_aload_n 0 (some t0) dX1_room_6 rfl (cp_gI (ci := 1) (k := 1) dX1_room_7 fl_X1_72 rfl h (fun v2 h => ?_))))
  refine cp_icmp_le _ _ (tgt := 17) dX1_room_10 rfl h (fun h => ?_) (fun h => ?_)
  · exact ch_FT.wk (ch_wS (ch_wS ch_w0)) (s_X1_room_17  h hk)
  · obtain ⟨_, hb3, h⟩ := ch_bd h
    obtain ⟨p4, hp5, h⟩ := ch_bd h
    refine ch_aload_n 0 (some t0) dX1_room_13 rfl (ch_iv yX1_collect prog_5_method_10_code 4 none (ci := 1) (q := (RX1, TX1, 22)) (b := t0) (d' := 4) (av := []) (rest := []) rfl dX1_room_14 q1327 q1329 rfl qs68 q1330 can_X1_collect (Nat.le_of_ble_eq_true rfl) (Nat.le_of_ble_eq_true rfl) (ch_rts hb3) (cp_kV (w1 := p4) (fun Q' hq => s_X1_collect hp5 hq) ?_))
    exact ch_FT.wk (ch_wS (ch_wS ch_w0)) (s_X1_room_17  h hk)

theorem bX1_make_0 : ch_ck cX1_make 0 [42, 180, 0, 75, 62, 42, 180, 0, 9, 29, 27, 133, 80, 42, 180, 0] := ch_ckof (by decide +kernel)
theorem bX1_make_1 : ch_ck cX1_make 16 [9, 29, 4, 96, 28, 133, 80, 42, 89, 180, 0, 75, 5, 28, 96, 96] := ch_ckof (by decide +kernel)
theorem bX1_make_2 : ch_ck cX1_make 32 [181, 0, 75, 42, 89, 180, 0, 90, 5, 28, 96, 96, 181, 0, 90, 29] := ch_ckof (by decide +kernel)
theorem bX1_make_3 : ch_ck cX1_make 48 [172] := ch_ckof (by decide +kernel)
theorem dX1_make_0 : decode cX1_make 0 = .ok (.aload_n 0, 1) := dz_42 (bX1_make_0 0 _ rfl)
theorem dX1_make_1 : decode cX1_make 1 = .ok (.getfield 75, 3) := dz_180 (bX1_make_0 1 _ rfl) (bX1_make_0 2 _ rfl) (bX1_make_0 3 _ rfl)
theorem dX1_make_4 : decode cX1_make 4 = .ok (.istore_n 3, 1) := dz_62 (bX1_make_0 4 _ rfl)
theorem dX1_make_5 : decode cX1_make 5 = .ok (.aload_n 0, 1) := dz_42 (bX1_make_0 5 _ rfl)
theorem dX1_make_6 : decode cX1_make 6 = .ok (.getfield 9, 3) := dz_180 (bX1_make_0 6 _ rfl) (bX1_make_0 7 _ rfl) (bX1_make_0 8 _ rfl)
theorem dX1_make_9 : decode cX1_make 9 = .ok (.iload_n 3, 1) := dz_29 (bX1_make_0 9 _ rfl)
theorem dX1_make_10 : decode cX1_make 10 = .ok (.iload_n 1, 1) := dz_27 (bX1_make_0 10 _ rfl)
theorem dX1_make_11 : decode cX1_make 11 = .ok (.i2l, 1) := dz_133 (bX1_make_0 11 _ rfl)
theorem dX1_make_12 : decode cX1_make 12 = .ok (.lastore, 1) := dz_80 (bX1_make_0 12 _ rfl)
theorem dX1_make_13 : decode cX1_make 13 = .ok (.aload_n 0, 1) := dz_42 (bX1_make_0 13 _ rfl)
theorem dX1_make_14 : decode cX1_make 14 = .ok (.getfield 9, 3) := dz_180 (bX1_make_0 14 _ rfl) (bX1_make_0 15 _ rfl) (bX1_make_1 0 _ rfl)
theorem dX1_make_17 : decode cX1_make 17 = .ok (.iload_n 3, 1) := dz_29 (bX1_make_1 1 _ rfl)
theorem dX1_make_18 : decode cX1_make 18 = .ok (.iconst 1, 1) := dz_4 (bX1_make_1 2 _ rfl)
theorem dX1_make_19 : decode cX1_make 19 = .ok (.iadd, 1) := dz_96 (bX1_make_1 3 _ rfl)
theorem dX1_make_20 : decode cX1_make 20 = .ok (.iload_n 2, 1) := dz_28 (bX1_make_1 4 _ rfl)
theorem dX1_make_21 : decode cX1_make 21 = .ok (.i2l, 1) := dz_133 (bX1_make_1 5 _ rfl)
theorem dX1_make_22 : decode cX1_make 22 = .ok (.lastore, 1) := dz_80 (bX1_make_1 6 _ rfl)
theorem dX1_make_23 : decode cX1_make 23 = .ok (.aload_n 0, 1) := dz_42 (bX1_make_1 7 _ rfl)
theorem dX1_make_24 : decode cX1_make 24 = .ok (.dup, 1) := dz_89 (bX1_make_1 8 _ rfl)
theorem dX1_make_25 : decode cX1_make 25 = .ok (.getfield 75, 3) := dz_180 (bX1_make_1 9 _ rfl) (bX1_make_1 10 _ rfl) (bX1_make_1 11 _ rfl)
theorem dX1_make_28 : decode cX1_make 28 = .ok (.iconst 2, 1) := dz_5 (bX1_make_1 12 _ rfl)
theorem dX1_make_29 : decode cX1_make 29 = .ok (.iload_n 2, 1) := dz_28 (bX1_make_1 13 _ rfl)
theorem dX1_make_30 : decode cX1_make 30 = .ok (.iadd, 1) := dz_96 (bX1_make_1 14 _ rfl)
theorem dX1_make_31 : decode cX1_make 31 = .ok (.iadd, 1) := dz_96 (bX1_make_1 15 _ rfl)
theorem dX1_make_32 : decode cX1_make 32 = .ok (.putfield 75, 3) := dz_181 (bX1_make_2 0 _ rfl) (bX1_make_2 1 _ rfl) (bX1_make_2 2 _ rfl)
theorem dX1_make_35 : decode cX1_make 35 = .ok (.aload_n 0, 1) := dz_42 (bX1_make_2 3 _ rfl)
theorem dX1_make_36 : decode cX1_make 36 = .ok (.dup, 1) := dz_89 (bX1_make_2 4 _ rfl)
theorem dX1_make_37 : decode cX1_make 37 = .ok (.getfield 90, 3) := dz_180 (bX1_make_2 5 _ rfl) (bX1_make_2 6 _ rfl) (bX1_make_2 7 _ rfl)
theorem dX1_make_40 : decode cX1_make 40 = .ok (.iconst 2, 1) := dz_5 (bX1_make_2 8 _ rfl)
theorem dX1_make_41 : decode cX1_make 41 = .ok (.iload_n 2, 1) := dz_28 (bX1_make_2 9 _ rfl)
theorem dX1_make_42 : decode cX1_make 42 = .ok (.iadd, 1) := dz_96 (bX1_make_2 10 _ rfl)
theorem dX1_make_43 : decode cX1_make 43 = .ok (.iadd, 1) := dz_96 (bX1_make_2 11 _ rfl)
theorem dX1_make_44 : decode cX1_make 44 = .ok (.putfield 90, 3) := dz_181 (bX1_make_2 12 _ rfl) (bX1_make_2 13 _ rfl) (bX1_make_2 14 _ rfl)
theorem dX1_make_47 : decode cX1_make 47 = .ok (.iload_n 3, 1) := dz_29 (bX1_make_2 15 _ rfl)
theorem dX1_make_48 : decode cX1_make 48 = .ok (.ireturn, 1) := dz_172 (bX1_make_3 0 _ rfl)
def c_X1_make (t0 : Nat) (x1 : Int32) (x2 : Int32) (w : ch_W) : Option (Int32 × ch_W) := (ch_gI w (some t0) 2 fX1_used).bind fun v1 => (ch_gR w (some t0) 2 fX1_heap).bind fun v2 => (ch_wL w v2 24 v1 (Int32.toInt64 x1)).bind fun w3 => (ch_gR w3 (some t0) 2 fX1_heap).bind fun v4 => (ch_wL w3 v4 24 (v1 + 1) (Int32.toInt64 x2)).bind fun w5 => (ch_gI w5 (some t0) 2 fX1_used).bind fun v6 => (ch_pI w5 (some t0) 2 fX1_used (v6 + (2 + x2))).bind fun w7 => (ch_gI w7 (some t0) 2 fX1_made).bind fun v8 => (ch_pI w7 (some t0) 2 fX1_made (v8 + (2 + x2))).bind fun w9 => some ((v1, w9))
theorem s_X1_make {g : State} {t0 : Nat} {x1 : Int32} {x2 : Int32} {w : ch_W} {res : Int32 × ch_W} {Q : Outcome → ch_W → Prop} (h : c_X1_make t0 x1 x2 w = some res) (hk : (ch_eI Q) res) : ch_CT g true yX1_make 2 [.ref t0, .int x1, .int x2] (w) Q := by
  unfold c_X1_make at h
  refine ch_ctL mX1_make (ls := [some (va_rf (some t0)), some (.int x1), some (.int x2), none]) q1369 rfl (ch_lyr (r := some t0) (ch_lyi (ch_lyi ch_ly0))) (Nat.le_of_ble_eq_true rfl) rfl ?_
  refine ch_aload_n 0 (some t0) dX1_make_0 rfl (cp_gI (ci := 1) (k := 4) dX1_make_1 fl_X1_75 rfl h (fun v1 h => ?_))
  refine ch_istore_n 3 _ (ls1 := [some (va_rf (some t0)), some (.int x1), some (.int x2), some (.int v1)]) dX1_make_4 (Nat.le_of_ble_eq_true rfl) rfl (ch_aload_n 0 (some t0) dX1_make_5 rfl (cp_gR (ci := 1) (k := 2) dX1_make_6 fl_X1_9 rfl h (fun v2 h => ?_)))
  refine ch_iload_n 3 _ dX1_make_9 rfl (ch_iload_n 1 _ dX1_make_10 rfl (ch_i2l _ dX1_make_11 (cp_last (t := 24) dX1_make_12 rfl (Nat.le_of_ble_eq_true rfl) rfl h (fun w3 h => ?_))))
  refine ch_aload_n 0 (some t0) dX1_make_13 rfl (cp_gR (ci := 1) (k := 2) dX1_make_14 fl_X1_9 rfl h (fun v4 h => ?_))
  refine ch_iload_n 3 _ dX1_make_17 rfl (ch_iconst _ 1 dX1_make_18 rfl (ch_iadd _ _ dX1_make_19 (ch_iload_n 2 _ dX1_make_20 rfl (ch_i2l _ dX1_make_21 (cp_last (t := 24) dX1_make_22 rfl (Nat.le_of_ble_eq_true rfl) rfl h (fun w5 h => ?_))))))
  refine ch_aload_n 0 (some t0) dX1_make_23 rfl (ch_dup dX1_make_24 (ch_cat _) (cp_gI (ci := 1) (k := 4) dX1_make_25 fl_X1_75 rfl h (fun v6 h => ?_)))
  refine ch_iconst _ 2 dX1_make_28 rfl (ch_iload_n 2 _ dX1_make_29 rfl (ch_iadd _ _ dX1_make_30 (ch_iadd _ _ dX1_make_31 (cp_pI (ci := 1) (k := 4) dX1_make_32 fl_X1_75 rfl rfl rfl h (fun w7 h => ?_)))))
  refine ch_aload_n 0 (some t0) dX1_make_35 rfl (ch_dup dX1_make_36 (ch_cat _) (cp_gI (ci := 1) (k := 17) dX1_make_37 fl_X1_90 rfl h (fun v8 h => ?_)))
  refine ch_iconst _ 2 dX1_make_40 rfl (ch_iload_n 2 _ dX1_make_41 rfl (ch_iadd _ _ dX1_make_42 (ch_iadd _ _ dX1_make_43 (cp_pI (ci := 1) (k := 17) dX1_make_44 fl_X1_90 rfl rfl rfl h (fun w9 h => ?_)))))
  obtain rfl := Option.some.inj h
  exact ch_iload_n 3 _ dX1_make_47 rfl (ch_ireturn _ dX1_make_48 rfl rfl hk)

theorem bX1_fill_0 : ch_ck cX1_fill 0 [27, 44, 180, 0, 141, 96, 62, 3, 54, 4, 21, 4, 44, 180, 0, 144] := ch_ckof (by decide +kernel)
theorem bX1_fill_1 : ch_ck cX1_fill 16 [182, 0, 148, 162, 0, 66, 44, 180, 0, 144, 21, 4, 182, 0, 153, 192] := ch_ckof (by decide +kernel)
theorem bX1_fill_2 : ch_ck cX1_fill 32 [0, 22, 58, 5, 25, 5, 180, 0, 157, 154, 0, 38, 42, 180, 0, 9] := ch_ckof (by decide +kernel)
theorem bX1_fill_3 : ch_ck cX1_fill 48 [29, 25, 5, 180, 0, 161, 2, 159, 0, 13, 25, 5, 180, 0, 161, 16] := ch_ckof (by decide +kernel)
theorem bX1_fill_4 : ch_ck cX1_fill 64 [254, 160, 0, 7, 9, 167, 0, 6, 20, 0, 162, 80, 132, 3, 1, 132] := ch_ckof (by decide +kernel)
theorem bX1_fill_5 : ch_ck cX1_fill 80 [4, 1, 167, 255, 184, 177] := ch_ckof (by decide +kernel)
theorem dX1_fill_0 : decode cX1_fill 0 = .ok (.iload_n 1, 1) := dz_27 (bX1_fill_0 0 _ rfl)
theorem dX1_fill_1 : decode cX1_fill 1 = .ok (.aload_n 2, 1) := dz_44 (bX1_fill_0 1 _ rfl)
theorem dX1_fill_2 : decode cX1_fill 2 = .ok (.getfield 141, 3) := dz_180 (bX1_fill_0 2 _ rfl) (bX1_fill_0 3 _ rfl) (bX1_fill_0 4 _ rfl)
theorem dX1_fill_5 : decode cX1_fill 5 = .ok (.iadd, 1) := dz_96 (bX1_fill_0 5 _ rfl)
theorem dX1_fill_6 : decode cX1_fill 6 = .ok (.istore_n 3, 1) := dz_62 (bX1_fill_0 6 _ rfl)
theorem dX1_fill_7 : decode cX1_fill 7 = .ok (.iconst 0, 1) := dz_3 (bX1_fill_0 7 _ rfl)
theorem dX1_fill_8 : decode cX1_fill 8 = .ok (.istore 4, 2) := dz_54 (bX1_fill_0 8 _ rfl) (bX1_fill_0 9 _ rfl)
theorem dX1_fill_10 : decode cX1_fill 10 = .ok (.iload 4, 2) := dz_21 (bX1_fill_0 10 _ rfl) (bX1_fill_0 11 _ rfl)
theorem dX1_fill_12 : decode cX1_fill 12 = .ok (.aload_n 2, 1) := dz_44 (bX1_fill_0 12 _ rfl)
theorem dX1_fill_13 : decode cX1_fill 13 = .ok (.getfield 144, 3) := dz_180 (bX1_fill_0 13 _ rfl) (bX1_fill_0 14 _ rfl) (bX1_fill_0 15 _ rfl)
theorem dX1_fill_16 : decode cX1_fill 16 = .ok (.invokevirtual 148, 3) := dz_182 (bX1_fill_1 0 _ rfl) (bX1_fill_1 1 _ rfl) (bX1_fill_1 2 _ rfl)
theorem dX1_fill_19 : decode cX1_fill 19 = .ok (.if_icmp .ge 66, 3) := dz_162 (bX1_fill_1 3 _ rfl) (bX1_fill_1 4 _ rfl) (bX1_fill_1 5 _ rfl)
theorem dX1_fill_22 : decode cX1_fill 22 = .ok (.aload_n 2, 1) := dz_44 (bX1_fill_1 6 _ rfl)
theorem dX1_fill_23 : decode cX1_fill 23 = .ok (.getfield 144, 3) := dz_180 (bX1_fill_1 7 _ rfl) (bX1_fill_1 8 _ rfl) (bX1_fill_1 9 _ rfl)
theorem dX1_fill_26 : decode cX1_fill 26 = .ok (.iload 4, 2) := dz_21 (bX1_fill_1 10 _ rfl) (bX1_fill_1 11 _ rfl)
theorem dX1_fill_28 : decode cX1_fill 28 = .ok (.invokevirtual 153, 3) := dz_182 (bX1_fill_1 12 _ rfl) (bX1_fill_1 13 _ rfl) (bX1_fill_1 14 _ rfl)
theorem dX1_fill_31 : decode cX1_fill 31 = .ok (.checkcast 22, 3) := dz_192 (bX1_fill_1 15 _ rfl) (bX1_fill_2 0 _ rfl) (bX1_fill_2 1 _ rfl)
theorem dX1_fill_34 : decode cX1_fill 34 = .ok (.astore 5, 2) := dz_58 (bX1_fill_2 2 _ rfl) (bX1_fill_2 3 _ rfl)
theorem dX1_fill_36 : decode cX1_fill 36 = .ok (.aload 5, 2) := dz_25 (bX1_fill_2 4 _ rfl) (bX1_fill_2 5 _ rfl)
theorem dX1_fill_38 : decode cX1_fill 38 = .ok (.getfield 157, 3) := dz_180 (bX1_fill_2 6 _ rfl) (bX1_fill_2 7 _ rfl) (bX1_fill_2 8 _ rfl)
theorem dX1_fill_41 : decode cX1_fill 41 = .ok (.ifCond .ne 38, 3) := dz_154 (bX1_fill_2 9 _ rfl) (bX1_fill_2 10 _ rfl) (bX1_fill_2 11 _ rfl)
theorem dX1_fill_44 : decode cX1_fill 44 = .ok (.aload_n 0, 1) := dz_42 (bX1_fill_2 12 _ rfl)
theorem dX1_fill_45 : decode cX1_fill 45 = .ok (.getfield 9, 3) := dz_180 (bX1_fill_2 13 _ rfl) (bX1_fill_2 14 _ rfl) (bX1_fill_2 15 _ rfl)
theorem dX1_fill_48 : decode cX1_fill 48 = .ok (.iload_n 3, 1) := dz_29 (bX1_fill_3 0 _ rfl)
theorem dX1_fill_49 : decode cX1_fill 49 = .ok (.aload 5, 2) := dz_25 (bX1_fill_3 1 _ rfl) (bX1_fill_3 2 _ rfl)
theorem dX1_fill_51 : decode cX1_fill 51 = .ok (.getfield 161, 3) := dz_180 (bX1_fill_3 3 _ rfl) (bX1_fill_3 4 _ rfl) (bX1_fill_3 5 _ rfl)
theorem dX1_fill_54 : decode cX1_fill 54 = .ok (.iconst (-1), 1) := dz_2 (bX1_fill_3 6 _ rfl)
theorem dX1_fill_55 : decode cX1_fill 55 = .ok (.if_icmp .eq 13, 3) := dz_159 (bX1_fill_3 7 _ rfl) (bX1_fill_3 8 _ rfl) (bX1_fill_3 9 _ rfl)
theorem dX1_fill_58 : decode cX1_fill 58 = .ok (.aload 5, 2) := dz_25 (bX1_fill_3 10 _ rfl) (bX1_fill_3 11 _ rfl)
theorem dX1_fill_60 : decode cX1_fill 60 = .ok (.getfield 161, 3) := dz_180 (bX1_fill_3 12 _ rfl) (bX1_fill_3 13 _ rfl) (bX1_fill_3 14 _ rfl)
theorem dX1_fill_63 : decode cX1_fill 63 = .ok (.bipush (-2), 2) := dz_16 (bX1_fill_3 15 _ rfl) (bX1_fill_4 0 _ rfl)
theorem dX1_fill_65 : decode cX1_fill 65 = .ok (.if_icmp .ne 7, 3) := dz_160 (bX1_fill_4 1 _ rfl) (bX1_fill_4 2 _ rfl) (bX1_fill_4 3 _ rfl)
theorem dX1_fill_68 : decode cX1_fill 68 = .ok (.lconst 0, 1) := dz_9 (bX1_fill_4 4 _ rfl)
theorem dX1_fill_69 : decode cX1_fill 69 = .ok (.goto 6, 3) := dz_167 (bX1_fill_4 5 _ rfl) (bX1_fill_4 6 _ rfl) (bX1_fill_4 7 _ rfl)
theorem dX1_fill_72 : decode cX1_fill 72 = .ok (.ldc2_w 162, 3) := dz_20 (bX1_fill_4 8 _ rfl) (bX1_fill_4 9 _ rfl) (bX1_fill_4 10 _ rfl)
theorem dX1_fill_75 : decode cX1_fill 75 = .ok (.lastore, 1) := dz_80 (bX1_fill_4 11 _ rfl)
theorem dX1_fill_76 : decode cX1_fill 76 = .ok (.iinc 3 1, 3) := dz_132 (bX1_fill_4 12 _ rfl) (bX1_fill_4 13 _ rfl) (bX1_fill_4 14 _ rfl)
theorem dX1_fill_79 : decode cX1_fill 79 = .ok (.iinc 4 1, 3) := dz_132 (bX1_fill_4 15 _ rfl) (bX1_fill_5 0 _ rfl) (bX1_fill_5 1 _ rfl)
theorem dX1_fill_82 : decode cX1_fill 82 = .ok (.goto (-72), 3) := dz_167 (bX1_fill_5 2 _ rfl) (bX1_fill_5 3 _ rfl) (bX1_fill_5 4 _ rfl)
theorem dX1_fill_85 : decode cX1_fill 85 = .ok (.return_, 1) := dz_177 (bX1_fill_5 5 _ rfl)
def c_X1_fill_10 (t0 : Nat) (x2 : Option Nat) (x3 : Int32) (x4 : Int32)  (w : ch_W) : Option ((Int32 × Int32 × ch_W) ⊕ (ch_W)) := (ch_gR w x2 7 fX6_members).bind fun v1 => (ch_rc w v1 14).bind fun b3 => (c_J5_size b3 w).bind fun v4 => if x4 < v4 then ((ch_gR w x2 7 fX6_members).bind fun v6 => (ch_rc w v6 14).bind fun b8 => (c_J5_get b8 x4 w).bind fun v9 => (ch_cast w v9 8).bind fun _ => (ch_gI w v9 8 fX7_isMethod).bind fun v11 => if v11 = 0 then ((ch_gR w (some t0) 2 fX1_heap).bind fun v12 => (ch_gI w v9 8 fX7_result).bind fun v13 => if v13 = (-1) then ((ch_wL w v12 24 x3 0).bind fun w14 => some (.inl (x3 + 1, x4 + 1, w14))) else ((ch_gI w v9 8 fX7_result).bind fun v15 => if v15 = (-2) then ((ch_wL w v12 24 x3 0).bind fun w17 => some (.inl (x3 + 1, x4 + 1, w17))) else ((ch_wL w v12 24 x3 (-1)).bind fun w16 => some (.inl (x3 + 1, x4 + 1, w16))))) else (some (.inl (x3, x4 + 1, w)))) else (some (.inr (w)))
theorem s_X1_fill_10 {g : State} {t0 : Nat} {x2 : Option Nat} {x3 : Int32} {x4 : Int32} {w : ch_W} {res : (Int32 × Int32 × ch_W) ⊕ (ch_W)} {Q : Outcome → ch_W → Prop} (h : c_X1_fill_10 t0 x2 x3 x4 w = some res) (hk : (ch_sm (fun s => ch_FT g true mX1_fill 5 10 [some (va_rf (some t0)), none, some (va_rf x2), some (.int s.1), some (.int s.2.1), none] [] (s.2.2) Q) (ch_eV Q)) res) : ch_FT g true mX1_fill 5 10 [some (va_rf (some t0)), none, some (va_rf x2), some (.int x3), some (.int x4), none] [] (w) Q := by
  unfold c_X1_fill_10 at h
  refine ch_iload 4 _ dX1_fill_10 rfl (ch_aload_n 2 x2 dX1_fill_12 rfl (cp_gR (ci := 6) (k := 5) dX1_fill_13 fl_X1_144 rfl h (fun v1 h => ?_)))
  obtain ⟨b3, hb2, h⟩ := ch_bd h
  obtain ⟨v4, hp5, h⟩ := ch_bd h
  refine ch_iv yJ5_size prog_32_method_8_code 1 (some .int) (ci := 13) (q := (RJ5, TJ5, 3)) (b := b3) (d' := 2) (av := []) (rest := [.int x4]) (by rw [ch_rs hb2]; rfl) dX1_fill_16 q1374 q608 rfl q609 q610 can_J5_size (Nat.le_of_ble_eq_true rfl) (ch_hw (Nat.le_of_ble_eq_true rfl)) (ch_rtg hb2) (cp_kI (v := v4) (w1 := w) (fun Q' hq => s_J5_size hp5 hq) ?_)
  refine cp_icmp_ge _ _ (tgt := 85) dX1_fill_19 rfl h (fun h => ?_) (fun h => ?_)
  · obtain rfl := Option.some.inj h
    exact ch_return dX1_fill_85 rfl hk
  · refine ch_aload_n 2 x2 dX1_fill_22 rfl (cp_gR (ci := 6) (k := 5) dX1_fill_23 fl_X1_144 rfl h (fun v6 h => ?_))
    obtain ⟨b8, hb7, h⟩ := ch_bd h
    obtain ⟨v9, hp10, h⟩ := ch_bd h
    refine ch_iload 4 _ dX1_fill_26 rfl (ch_iv yJ5_get prog_32_method_20_code 2 (some (.object "java/lang/Object")) (ci := 13) (q := (RJ5, TJ5, 3)) (b := b8) (d' := 4) (av := [.int x4]) (rest := []) (by rw [ch_rs hb7]; rfl) dX1_fill_28 q1375 q612 rfl q613 q614 can_J5_get (Nat.le_of_ble_eq_true rfl) (Nat.le_of_ble_eq_true rfl) (ch_rtg hb7) (cp_kR (v := v9) (w1 := w) (fun Q' hq => s_J5_get hp10 hq) ?_))
    refine cp_cast (ci := 7) (q := (RX7, TX7, 12)) dX1_fill_31 rfl q243 h (fun h => ?_)
    refine ch_astore 5 v9 (ls1 := [some (va_rf (some t0)), none, some (va_rf x2), some (.int x3), some (.int x4), some (va_rf v9)]) dX1_fill_34 (Nat.le_of_ble_eq_true rfl) rfl (ch_aload 5 v9 dX1_fill_36 rfl (cp_gI (ci := 7) (k := 0) dX1_fill_38 fl_X1_157 rfl h (fun v11 h => ?_)))
    refine cp_if_ne _ (tgt := 79) dX1_fill_41 rfl h (fun h => ?_) (fun h => ?_)
    · refine ch_iinc 4 _ _ (x4 + 1) (ls1 := [some (va_rf (some t0)), none, some (va_rf x2), some (.int x3), some (.int (x4 + 1)), some (va_rf v9)]) dX1_fill_79 rfl rfl (Nat.le_of_ble_eq_true rfl) rfl (ch_goto 10 dX1_fill_82 rfl (ch_FT.wk (ch_wS (ch_wN (ch_wS (ch_wS (ch_wS (ch_wN ch_w0)))))) ?_))
      obtain rfl := Option.some.inj h
      exact hk
    · refine ch_aload_n 0 (some t0) dX1_fill_44 rfl (cp_gR (ci := 1) (k := 2) dX1_fill_45 fl_X1_9 rfl h (fun v12 h => ?_))
      refine ch_iload_n 3 _ dX1_fill_48 rfl (ch_aload 5 v9 dX1_fill_49 rfl (cp_gI (ci := 7) (k := 11) dX1_fill_51 fl_X1_161 rfl h (fun v13 h => ?_)))
      refine ch_iconst _ (-1) dX1_fill_54 rfl (cp_icmp_eq _ _ (tgt := 68) dX1_fill_55 rfl h (fun h => ?_) (fun h => ?_))
      · refine ch_lconst _ 0 dX1_fill_68 rfl (ch_goto 75 dX1_fill_69 rfl (cp_last (t := 24) dX1_fill_75 rfl (Nat.le_of_ble_eq_true rfl) rfl h (fun w14 h => ?_)))
        refine ch_iinc 3 _ _ (x3 + 1) (ls1 := [some (va_rf (some t0)), none, some (va_rf x2), some (.int (x3 + 1)), some (.int x4), some (va_rf v9)]) dX1_fill_76 rfl rfl (Nat.le_of_ble_eq_true rfl) (ch_s1o rfl rfl) (ch_iinc 4 _ _ (x4 + 1) (ls1 := [some (va_rf (some t0)), none, some (va_rf x2), some (.int (x3 + 1)), some (.int (x4 + 1)), some (va_rf v9)]) dX1_fill_79 rfl rfl (Nat.le_of_ble_eq_true rfl) rfl (ch_goto 10 dX1_fill_82 rfl (ch_FT.wk (ch_wS (ch_wN (ch_wS (ch_wS (ch_wS (ch_wN ch_w0)))))) ?_)))
        obtain rfl := Option.some.inj h
        exact hk
      · refine ch_aload 5 v9 dX1_fill_58 rfl (cp_gI (ci := 7) (k := 11) dX1_fill_60 fl_X1_161 rfl h (fun v15 h => ?_))
        refine ch_bipush _ (-2) dX1_fill_63 rfl (cp_icmp_ne _ _ (tgt := 72) dX1_fill_65 rfl h (fun h => ?_) (fun h => ?_))
        · refine ch_ldc2 162 (-1) dX1_fill_72 q1376 (cp_last (t := 24) dX1_fill_75 rfl (Nat.le_of_ble_eq_true rfl) rfl h (fun w16 h => ?_))
          refine ch_iinc 3 _ _ (x3 + 1) (ls1 := [some (va_rf (some t0)), none, some (va_rf x2), some (.int (x3 + 1)), some (.int x4), some (va_rf v9)]) dX1_fill_76 rfl rfl (Nat.le_of_ble_eq_true rfl) (ch_s1o rfl rfl) (ch_iinc 4 _ _ (x4 + 1) (ls1 := [some (va_rf (some t0)), none, some (va_rf x2), some (.int (x3 + 1)), some (.int (x4 + 1)), some (va_rf v9)]) dX1_fill_79 rfl rfl (Nat.le_of_ble_eq_true rfl) rfl (ch_goto 10 dX1_fill_82 rfl (ch_FT.wk (ch_wS (ch_wN (ch_wS (ch_wS (ch_wS (ch_wN ch_w0)))))) ?_)))
          obtain rfl := Option.some.inj h
          exact hk
        · refine ch_lconst _ 0 dX1_fill_68 rfl (ch_goto 75 dX1_fill_69 rfl (cp_last (t := 24) dX1_fill_75 rfl (Nat.le_of_ble_eq_true rfl) rfl h (fun w17 h => ?_)))
          refine ch_iinc 3 _ _ (x3 + 1) (ls1 := [some (va_rf (some t0)), none, some (va_rf x2), some (.int (x3 + 1)), some (.int x4), some (va_rf v9)]) dX1_fill_76 rfl rfl (Nat.le_of_ble_eq_true rfl) (ch_s1o rfl rfl) (ch_iinc 4 _ _ (x4 + 1) (ls1 := [some (va_rf (some t0)), none, some (va_rf x2), some (.int (x3 + 1)), some (.int (x4 + 1)), some (va_rf v9)]) dX1_fill_79 rfl rfl (Nat.le_of_ble_eq_true rfl) rfl (ch_goto 10 dX1_fill_82 rfl (ch_FT.wk (ch_wS (ch_wN (ch_wS (ch_wS (ch_wS (ch_wN ch_w0)))))) ?_)))
          obtain rfl := Option.some.inj h
          exact hk
theorem sl_X1_fill_10 {g : State} {t0 : Nat} {x2 : Option Nat} {a : Int32 × Int32 × ch_W} {res : ch_W} {Q : Outcome → ch_W → Prop} (h : ch_loop (fun (s : Int32 × Int32 × ch_W) => c_X1_fill_10 t0 x2 s.1 s.2.1 s.2.2) a = some res) (hk : (ch_eV Q) res) : ch_FT g true mX1_fill 5 10 [some (va_rf (some t0)), none, some (va_rf x2), some (.int a.1), some (.int a.2.1), none] [] (a.2.2) Q := by
  refine ch_loop_ind (fun (a : Int32 × Int32 × ch_W) (r : ch_W) => (ch_eV Q) r → ch_FT g true mX1_fill 5 10 [some (va_rf (some t0)), none, some (va_rf x2), some (.int a.1), some (.int a.2.1), none] [] (a.2.2) Q) ?_ ?_ a res h hk
  · intro a a2 b h1 ih hk
    exact s_X1_fill_10  h1 (ih hk)
  · intro a b h1 hk
    exact s_X1_fill_10  h1 hk

def c_X1_fill (t0 : Nat) (x1 : Int32) (x2 : Option Nat) (w : ch_W) : Option (ch_W) := (ch_gI w x2 7 fX6_before).bind fun v1 => ch_loop (fun (s : Int32 × Int32 × ch_W) => c_X1_fill_10 t0 x2 s.1 s.2.1 s.2.2) (x1 + v1, 0, w)
theorem s_X1_fill {g : State} {t0 : Nat} {x1 : Int32} {x2 : Option Nat} {w : ch_W} {res : ch_W} {Q : Outcome → ch_W → Prop} (h : c_X1_fill t0 x1 x2 w = some res) (hk : (ch_eV Q) res) : ch_CT g true yX1_fill 5 [.ref t0, .int x1, va_rf x2] (w) Q := by
  unfold c_X1_fill at h
  refine ch_ctL mX1_fill (ls := [some (va_rf (some t0)), some (.int x1), some (va_rf x2), none, none, none]) q1373 rfl (ch_lyr (r := some t0) (ch_lyi (ch_lyr (r := x2) ch_ly0))) (Nat.le_of_ble_eq_true rfl) rfl ?_
  refine ch_iload_n 1 _ dX1_fill_0 rfl (ch_aload_n 2 x2 dX1_fill_1 rfl (cp_gI (ci := 6) (k := 6) dX1_fill_2 fl_X1_141 rfl h (fun v1 h => ?_)))
  exact ch_iadd _ _ dX1_fill_5 (ch_istore_n 3 _ (ls1 := [some (va_rf (some t0)), some (.int x1), some (va_rf x2), some (.int (x1 + v1)), none, none]) dX1_fill_6 (Nat.le_of_ble_eq_true rfl) (ch_s1o rfl rfl) (ch_iconst _ 0 dX1_fill_7 rfl (ch_istore 4 _ (ls1 := [some (va_rf (some t0)), some (.int x1), some (va_rf x2), some (.int (x1 + v1)), some (.int 0), none]) dX1_fill_8 (Nat.le_of_ble_eq_true rfl) rfl (ch_FT.wk (ch_wS (ch_wN (ch_wS (ch_wS (ch_wS (ch_wN ch_w0)))))) (sl_X1_fill_10  h hk)))))

