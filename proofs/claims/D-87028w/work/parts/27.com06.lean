/-! printed by tools/dec.py -/
set_option maxRecDepth 100000
theorem bX1_newObject_0 : ch_ck cX1_newObject 0 [42, 180, 0, 56, 27, 50, 180, 0, 60, 61, 42, 5, 28, 96, 182, 0] := ch_ckof (by decide +kernel)
theorem bX1_newObject_1 : ch_ck cX1_newObject 16 [127, 42, 27, 5, 120, 3, 128, 28, 182, 0, 130, 62, 27, 54, 4, 21] := ch_ckof (by decide +kernel)
theorem bX1_newObject_2 : ch_ck cX1_newObject 32 [4, 155, 0, 52, 42, 29, 5, 96, 42, 180, 0, 56, 21, 4, 50, 182] := ch_ckof (by decide +kernel)
theorem bX1_newObject_3 : ch_ck cX1_newObject 48 [0, 133, 42, 180, 0, 56, 21, 4, 50, 180, 0, 137, 199, 0, 7, 2] := ch_ckof (by decide +kernel)
theorem bX1_newObject_4 : ch_ck cX1_newObject 64 [167, 0, 16, 42, 180, 0, 56, 21, 4, 50, 180, 0, 137, 180, 0, 102] := ch_ckof (by decide +kernel)
theorem bX1_newObject_5 : ch_ck cX1_newObject 80 [54, 4, 167, 255, 205, 29, 184, 0, 48, 173] := ch_ckof (by decide +kernel)
theorem dX1_newObject_0 : decode cX1_newObject 0 = .ok (.aload_n 0, 1) := dz_42 (bX1_newObject_0 0 _ rfl)
theorem dX1_newObject_1 : decode cX1_newObject 1 = .ok (.getfield 56, 3) := dz_180 (bX1_newObject_0 1 _ rfl) (bX1_newObject_0 2 _ rfl) (bX1_newObject_0 3 _ rfl)
theorem dX1_newObject_4 : decode cX1_newObject 4 = .ok (.iload_n 1, 1) := dz_27 (bX1_newObject_0 4 _ rfl)
theorem dX1_newObject_5 : decode cX1_newObject 5 = .ok (.aaload, 1) := dz_50 (bX1_newObject_0 5 _ rfl)
theorem dX1_newObject_6 : decode cX1_newObject 6 = .ok (.getfield 60, 3) := dz_180 (bX1_newObject_0 6 _ rfl) (bX1_newObject_0 7 _ rfl) (bX1_newObject_0 8 _ rfl)
theorem dX1_newObject_9 : decode cX1_newObject 9 = .ok (.istore_n 2, 1) := dz_61 (bX1_newObject_0 9 _ rfl)
theorem dX1_newObject_10 : decode cX1_newObject 10 = .ok (.aload_n 0, 1) := dz_42 (bX1_newObject_0 10 _ rfl)
theorem dX1_newObject_11 : decode cX1_newObject 11 = .ok (.iconst 2, 1) := dz_5 (bX1_newObject_0 11 _ rfl)
theorem dX1_newObject_12 : decode cX1_newObject 12 = .ok (.iload_n 2, 1) := dz_28 (bX1_newObject_0 12 _ rfl)
theorem dX1_newObject_13 : decode cX1_newObject 13 = .ok (.iadd, 1) := dz_96 (bX1_newObject_0 13 _ rfl)
theorem dX1_newObject_14 : decode cX1_newObject 14 = .ok (.invokevirtual 127, 3) := dz_182 (bX1_newObject_0 14 _ rfl) (bX1_newObject_0 15 _ rfl) (bX1_newObject_1 0 _ rfl)
theorem dX1_newObject_17 : decode cX1_newObject 17 = .ok (.aload_n 0, 1) := dz_42 (bX1_newObject_1 1 _ rfl)
theorem dX1_newObject_18 : decode cX1_newObject 18 = .ok (.iload_n 1, 1) := dz_27 (bX1_newObject_1 2 _ rfl)
theorem dX1_newObject_19 : decode cX1_newObject 19 = .ok (.iconst 2, 1) := dz_5 (bX1_newObject_1 3 _ rfl)
theorem dX1_newObject_20 : decode cX1_newObject 20 = .ok (.ishl, 1) := dz_120 (bX1_newObject_1 4 _ rfl)
theorem dX1_newObject_21 : decode cX1_newObject 21 = .ok (.iconst 0, 1) := dz_3 (bX1_newObject_1 5 _ rfl)
theorem dX1_newObject_22 : decode cX1_newObject 22 = .ok (.ior, 1) := dz_128 (bX1_newObject_1 6 _ rfl)
theorem dX1_newObject_23 : decode cX1_newObject 23 = .ok (.iload_n 2, 1) := dz_28 (bX1_newObject_1 7 _ rfl)
theorem dX1_newObject_24 : decode cX1_newObject 24 = .ok (.invokevirtual 130, 3) := dz_182 (bX1_newObject_1 8 _ rfl) (bX1_newObject_1 9 _ rfl) (bX1_newObject_1 10 _ rfl)
theorem dX1_newObject_27 : decode cX1_newObject 27 = .ok (.istore_n 3, 1) := dz_62 (bX1_newObject_1 11 _ rfl)
theorem dX1_newObject_28 : decode cX1_newObject 28 = .ok (.iload_n 1, 1) := dz_27 (bX1_newObject_1 12 _ rfl)
theorem dX1_newObject_29 : decode cX1_newObject 29 = .ok (.istore 4, 2) := dz_54 (bX1_newObject_1 13 _ rfl) (bX1_newObject_1 14 _ rfl)
theorem dX1_newObject_31 : decode cX1_newObject 31 = .ok (.iload 4, 2) := dz_21 (bX1_newObject_1 15 _ rfl) (bX1_newObject_2 0 _ rfl)
theorem dX1_newObject_33 : decode cX1_newObject 33 = .ok (.ifCond .lt 52, 3) := dz_155 (bX1_newObject_2 1 _ rfl) (bX1_newObject_2 2 _ rfl) (bX1_newObject_2 3 _ rfl)
theorem dX1_newObject_36 : decode cX1_newObject 36 = .ok (.aload_n 0, 1) := dz_42 (bX1_newObject_2 4 _ rfl)
theorem dX1_newObject_37 : decode cX1_newObject 37 = .ok (.iload_n 3, 1) := dz_29 (bX1_newObject_2 5 _ rfl)
theorem dX1_newObject_38 : decode cX1_newObject 38 = .ok (.iconst 2, 1) := dz_5 (bX1_newObject_2 6 _ rfl)
theorem dX1_newObject_39 : decode cX1_newObject 39 = .ok (.iadd, 1) := dz_96 (bX1_newObject_2 7 _ rfl)
theorem dX1_newObject_40 : decode cX1_newObject 40 = .ok (.aload_n 0, 1) := dz_42 (bX1_newObject_2 8 _ rfl)
theorem dX1_newObject_41 : decode cX1_newObject 41 = .ok (.getfield 56, 3) := dz_180 (bX1_newObject_2 9 _ rfl) (bX1_newObject_2 10 _ rfl) (bX1_newObject_2 11 _ rfl)
theorem dX1_newObject_44 : decode cX1_newObject 44 = .ok (.iload 4, 2) := dz_21 (bX1_newObject_2 12 _ rfl) (bX1_newObject_2 13 _ rfl)
theorem dX1_newObject_46 : decode cX1_newObject 46 = .ok (.aaload, 1) := dz_50 (bX1_newObject_2 14 _ rfl)
theorem dX1_newObject_47 : decode cX1_newObject 47 = .ok (.invokevirtual 133, 3) := dz_182 (bX1_newObject_2 15 _ rfl) (bX1_newObject_3 0 _ rfl) (bX1_newObject_3 1 _ rfl)
theorem dX1_newObject_50 : decode cX1_newObject 50 = .ok (.aload_n 0, 1) := dz_42 (bX1_newObject_3 2 _ rfl)
theorem dX1_newObject_51 : decode cX1_newObject 51 = .ok (.getfield 56, 3) := dz_180 (bX1_newObject_3 3 _ rfl) (bX1_newObject_3 4 _ rfl) (bX1_newObject_3 5 _ rfl)
theorem dX1_newObject_54 : decode cX1_newObject 54 = .ok (.iload 4, 2) := dz_21 (bX1_newObject_3 6 _ rfl) (bX1_newObject_3 7 _ rfl)
theorem dX1_newObject_56 : decode cX1_newObject 56 = .ok (.aaload, 1) := dz_50 (bX1_newObject_3 8 _ rfl)
theorem dX1_newObject_57 : decode cX1_newObject 57 = .ok (.getfield 137, 3) := dz_180 (bX1_newObject_3 9 _ rfl) (bX1_newObject_3 10 _ rfl) (bX1_newObject_3 11 _ rfl)
theorem dX1_newObject_60 : decode cX1_newObject 60 = .ok (.ifnonnull 7, 3) := dz_199 (bX1_newObject_3 12 _ rfl) (bX1_newObject_3 13 _ rfl) (bX1_newObject_3 14 _ rfl)
theorem dX1_newObject_63 : decode cX1_newObject 63 = .ok (.iconst (-1), 1) := dz_2 (bX1_newObject_3 15 _ rfl)
theorem dX1_newObject_64 : decode cX1_newObject 64 = .ok (.goto 16, 3) := dz_167 (bX1_newObject_4 0 _ rfl) (bX1_newObject_4 1 _ rfl) (bX1_newObject_4 2 _ rfl)
theorem dX1_newObject_67 : decode cX1_newObject 67 = .ok (.aload_n 0, 1) := dz_42 (bX1_newObject_4 3 _ rfl)
theorem dX1_newObject_68 : decode cX1_newObject 68 = .ok (.getfield 56, 3) := dz_180 (bX1_newObject_4 4 _ rfl) (bX1_newObject_4 5 _ rfl) (bX1_newObject_4 6 _ rfl)
theorem dX1_newObject_71 : decode cX1_newObject 71 = .ok (.iload 4, 2) := dz_21 (bX1_newObject_4 7 _ rfl) (bX1_newObject_4 8 _ rfl)
theorem dX1_newObject_73 : decode cX1_newObject 73 = .ok (.aaload, 1) := dz_50 (bX1_newObject_4 9 _ rfl)
theorem dX1_newObject_74 : decode cX1_newObject 74 = .ok (.getfield 137, 3) := dz_180 (bX1_newObject_4 10 _ rfl) (bX1_newObject_4 11 _ rfl) (bX1_newObject_4 12 _ rfl)
theorem dX1_newObject_77 : decode cX1_newObject 77 = .ok (.getfield 102, 3) := dz_180 (bX1_newObject_4 13 _ rfl) (bX1_newObject_4 14 _ rfl) (bX1_newObject_4 15 _ rfl)
theorem dX1_newObject_80 : decode cX1_newObject 80 = .ok (.istore 4, 2) := dz_54 (bX1_newObject_5 0 _ rfl) (bX1_newObject_5 1 _ rfl)
theorem dX1_newObject_82 : decode cX1_newObject 82 = .ok (.goto (-51), 3) := dz_167 (bX1_newObject_5 2 _ rfl) (bX1_newObject_5 3 _ rfl) (bX1_newObject_5 4 _ rfl)
theorem dX1_newObject_85 : decode cX1_newObject 85 = .ok (.iload_n 3, 1) := dz_29 (bX1_newObject_5 5 _ rfl)
theorem dX1_newObject_86 : decode cX1_newObject 86 = .ok (.invokestatic 48, 3) := dz_184 (bX1_newObject_5 6 _ rfl) (bX1_newObject_5 7 _ rfl) (bX1_newObject_5 8 _ rfl)
theorem dX1_newObject_89 : decode cX1_newObject 89 = .ok (.lreturn, 1) := dz_173 (bX1_newObject_5 9 _ rfl)
def c_X1_newObject_31 (g : State) (t0 : Nat) (x3 : Int32) (x4 : Int32)  (w : ch_W) : Option ((Int32 × ch_W) ⊕ (Except Nat Int64 × ch_W)) := if x4 < 0 then ((c_X0_placeWord x3 w).bind fun v1 => some (.inr ((.ok v1, w)))) else ((ch_gR w (some t0) 2 fX1_kinds).bind fun v3 => (ch_lR w v3 29 x4).bind fun v4 => (ch_rc w (some t0) 2).bind fun _ => (c_X1_fill t0 (x3 + 2) v4 w).bind fun p6 => (ch_gR p6 (some t0) 2 fX1_kinds).bind fun v8 => (ch_lR p6 v8 29 x4).bind fun v9 => (ch_gR p6 v9 7 fX6_parent).bind fun v10 => if v10 = none then (some (.inl ((-1), p6))) else ((ch_gR p6 (some t0) 2 fX1_kinds).bind fun v11 => (ch_lR p6 v11 29 x4).bind fun v12 => (ch_gR p6 v12 7 fX6_parent).bind fun v13 => (ch_gI p6 v13 7 fX6_number).bind fun v14 => some (.inl (v14, p6))))
theorem s_X1_newObject_31 {g : State} {t0 : Nat} {x3 : Int32} {x4 : Int32} {w : ch_W} {res : (Int32 × ch_W) ⊕ (Except Nat Int64 × ch_W)} {Q : Outcome → ch_W → Prop} (h : c_X1_newObject_31 g t0 x3 x4 w = some res) (hk : (ch_sm (fun s => ch_FT g true mX1_newObject 8 31 [some (va_rf (some t0)), none, none, some (.int x3), some (.int s.1)] [] (s.2) Q) (ch_xL Q)) res) : ch_FT g true mX1_newObject 8 31 [some (va_rf (some t0)), none, none, some (.int x3), some (.int x4)] [] (w) Q := by
  unfold c_X1_newObject_31 at h
  refine ch_iload 4 _ dX1_newObject_31 rfl (cp_if_lt _ (tgt := 85) dX1_newObject_33 rfl h (fun h => ?_) (fun h => ?_))
  · obtain ⟨v1, hp2, h⟩ := ch_bd h
    refine ch_iload_n 3 _ dX1_newObject_85 rfl (ch_isT yX0_placeWord prog_1_method_1_code 1 (some .long) (d' := 2) (av := [.int x3]) (rest := []) rfl dX1_newObject_86 q1343 q1344 q200 q1345 can_X0_placeWord (Nat.le_of_ble_eq_true rfl) (Nat.le_of_ble_eq_true rfl) (cp_kL (v := v1) (w1 := w) (fun Q' hq => s_X0_placeWord hp2 hq) ?_))
    obtain rfl := Option.some.inj h
    exact ch_lreturn _ dX1_newObject_89 rfl hk
  · refine ch_aload_n 0 (some t0) dX1_newObject_36 rfl (ch_iload_n 3 _ dX1_newObject_37 rfl (ch_iconst _ 2 dX1_newObject_38 rfl (ch_iadd _ _ dX1_newObject_39 (ch_aload_n 0 (some t0) dX1_newObject_40 rfl (cp_gR (ci := 1) (k := 0) dX1_newObject_41 fl_X1_56 rfl h (fun v3 h => ?_))))))
    refine ch_iload 4 _ dX1_newObject_44 rfl (cp_aald (t := 29) dX1_newObject_46 rfl rfl h (fun v4 h => ?_))
    obtain ⟨_, hb5, h⟩ := ch_bd h
    obtain ⟨p6, hp7, h⟩ := ch_bd h
    refine ch_iv yX1_fill prog_5_method_7_code 6 none (ci := 1) (q := (RX1, TX1, 22)) (b := t0) (d' := 5) (av := [.int (x3 + 2), va_rf v4]) (rest := []) rfl dX1_newObject_47 q1370 q1372 rfl qs71 q1373 can_X1_fill (Nat.le_of_ble_eq_true rfl) (Nat.le_of_ble_eq_true rfl) (ch_rts hb5) (cp_kV (w1 := p6) (fun Q' hq => s_X1_fill hp7 hq) ?_)
    refine ch_aload_n 0 (some t0) dX1_newObject_50 rfl (cp_gR (ci := 1) (k := 0) dX1_newObject_51 fl_X1_56 rfl h (fun v8 h => ?_))
    refine ch_iload 4 _ dX1_newObject_54 rfl (cp_aald (t := 29) dX1_newObject_56 rfl rfl h (fun v9 h => ?_))
    refine cp_gR (ci := 6) (k := 3) dX1_newObject_57 fl_X1_137 rfl h (fun v10 h => ?_)
    refine cp_ifnonnull v10 (tgt := 67) dX1_newObject_60 rfl h (fun h => ?_) (fun h => ?_)
    · refine ch_aload_n 0 (some t0) dX1_newObject_67 rfl (cp_gR (ci := 1) (k := 0) dX1_newObject_68 fl_X1_56 rfl h (fun v11 h => ?_))
      refine ch_iload 4 _ dX1_newObject_71 rfl (cp_aald (t := 29) dX1_newObject_73 rfl rfl h (fun v12 h => ?_))
      refine cp_gR (ci := 6) (k := 3) dX1_newObject_74 fl_X1_137 rfl h (fun v13 h => ?_)
      refine cp_gI (ci := 6) (k := 4) dX1_newObject_77 fl_X1_102 rfl h (fun v14 h => ?_)
      refine ch_istore 4 _ (ls1 := [some (va_rf (some t0)), none, none, some (.int x3), some (.int v14)]) dX1_newObject_80 (Nat.le_of_ble_eq_true rfl) rfl (ch_goto 31 dX1_newObject_82 rfl (ch_FT.wk (ch_wS (ch_wN (ch_wN (ch_wS (ch_wS ch_w0))))) ?_))
      obtain rfl := Option.some.inj h
      exact hk
    · refine ch_iconst _ (-1) dX1_newObject_63 rfl (ch_goto 80 dX1_newObject_64 rfl (ch_istore 4 _ (ls1 := [some (va_rf (some t0)), none, none, some (.int x3), some (.int (-1))]) dX1_newObject_80 (Nat.le_of_ble_eq_true rfl) rfl (ch_goto 31 dX1_newObject_82 rfl (ch_FT.wk (ch_wS (ch_wN (ch_wN (ch_wS (ch_wS ch_w0))))) ?_))))
      obtain rfl := Option.some.inj h
      exact hk
theorem sl_X1_newObject_31 {g : State} {t0 : Nat} {x3 : Int32} {a : Int32 × ch_W} {res : Except Nat Int64 × ch_W} {Q : Outcome → ch_W → Prop} (h : ch_loop (fun (s : Int32 × ch_W) => c_X1_newObject_31 g t0 x3 s.1 s.2) a = some res) (hk : (ch_xL Q) res) : ch_FT g true mX1_newObject 8 31 [some (va_rf (some t0)), none, none, some (.int x3), some (.int a.1)] [] (a.2) Q := by
  refine ch_loop_ind (fun (a : Int32 × ch_W) (r : Except Nat Int64 × ch_W) => (ch_xL Q) r → ch_FT g true mX1_newObject 8 31 [some (va_rf (some t0)), none, none, some (.int x3), some (.int a.1)] [] (a.2) Q) ?_ ?_ a res h hk
  · intro a a2 b h1 ih hk
    exact s_X1_newObject_31  h1 (ih hk)
  · intro a b h1 hk
    exact s_X1_newObject_31  h1 hk

def c_X1_newObject (g : State) (t0 : Nat) (x1 : Int32) (w : ch_W) : Option (Except Nat Int64 × ch_W) := (ch_gR w (some t0) 2 fX1_kinds).bind fun v1 => (ch_lR w v1 29 x1).bind fun v2 => (ch_gI w v2 7 fX6_fields).bind fun v3 => (ch_rc w (some t0) 2).bind fun _ => ch_tb (c_X1_room g t0 (2 + v3) w) (fun a w => (.error a, w)) fun _ w6 => (ch_rc w6 (some t0) 2).bind fun _ => (c_X1_make t0 ((x1 <<< (2 &&& 31)) ||| 0) v3 w6).bind fun p8 => ch_loop (fun (s : Int32 × ch_W) => c_X1_newObject_31 g t0 p8.1 s.1 s.2) (x1, p8.2)
theorem s_X1_newObject {g : State} {t0 : Nat} {x1 : Int32} {w : ch_W} {res : Except Nat Int64 × ch_W} {Q : Outcome → ch_W → Prop} (h : c_X1_newObject g t0 x1 w = some res) (hk : (ch_xL Q) res) : ch_CT g true yX1_newObject 8 [.ref t0, .int x1] (w) Q := by
  unfold c_X1_newObject at h
  refine ch_ctL mX1_newObject (ls := [some (va_rf (some t0)), some (.int x1), none, none, none]) q1322 rfl (ch_lyr (r := some t0) (ch_lyi ch_ly0)) (Nat.le_of_ble_eq_true rfl) rfl ?_
  refine ch_aload_n 0 (some t0) dX1_newObject_0 rfl (cp_gR (ci := 1) (k := 0) dX1_newObject_1 fl_X1_56 rfl h (fun v1 h => ?_))
  refine ch_iload_n 1 _ dX1_newObject_4 rfl (cp_aald (t := 29) dX1_newObject_5 rfl rfl h (fun v2 h => ?_))
  refine cp_gI (ci := 6) (k := 7) dX1_newObject_6 fl_X1_60 rfl h (fun v3 h => ?_)
  obtain ⟨_, hb4, h⟩ := ch_bd h
  refine ch_istore_n 2 _ (ls1 := [some (va_rf (some t0)), some (.int x1), some (.int v3), none, none]) dX1_newObject_9 (Nat.le_of_ble_eq_true rfl) rfl (ch_aload_n 0 (some t0) dX1_newObject_10 rfl (ch_iconst _ 2 dX1_newObject_11 rfl (ch_iload_n 2 _ dX1_newObject_12 rfl (ch_iadd _ _ dX1_newObject_13 (ch_iv yX1_room prog_5_method_5_code 2 none (ci := 1) (q := (RX1, TX1, 22)) (b := t0) (d' := 7) (av := [.int (2 + v3)]) (rest := []) rfl dX1_newObject_14 q1323 q1325 rfl qs67 q1326 can_X1_room (Nat.le_of_ble_eq_true rfl) (Nat.le_of_ble_eq_true rfl) (ch_rts hb4) (cp_tV h (fun p hp Q' hq => s_X1_room hp hq) (fun w6 h => ?_) (fun a w1 h => ?_)))))))
  · obtain ⟨_, hb7, h⟩ := ch_bd h
    obtain ⟨p8, hp9, h⟩ := ch_bd h
    refine ch_aload_n 0 (some t0) dX1_newObject_17 rfl (ch_iload_n 1 _ dX1_newObject_18 rfl (ch_iconst _ 2 dX1_newObject_19 rfl (ch_ishl _ _ dX1_newObject_20 (ch_iconst _ 0 dX1_newObject_21 rfl (ch_ior _ _ dX1_newObject_22 (ch_iload_n 2 _ dX1_newObject_23 rfl (ch_iv yX1_make prog_5_method_4_code 4 (some .int) (ci := 1) (q := (RX1, TX1, 22)) (b := t0) (d' := 2) (av := [.int ((x1 <<< (2 &&& 31)) ||| 0), .int v3]) (rest := []) rfl dX1_newObject_24 q1366 q1368 rfl qs70 q1369 can_X1_make (Nat.le_of_ble_eq_true rfl) (Nat.le_of_ble_eq_true rfl) (ch_rts hb7) (cp_kI (v := p8.1) (w1 := p8.2) (fun Q' hq => s_X1_make hp9 hq) ?_))))))))
    exact ch_istore_n 3 _ (ls1 := [some (va_rf (some t0)), some (.int x1), some (.int v3), some (.int p8.1), none]) dX1_newObject_27 (Nat.le_of_ble_eq_true rfl) rfl (ch_iload_n 1 _ dX1_newObject_28 rfl (ch_istore 4 _ (ls1 := [some (va_rf (some t0)), some (.int x1), some (.int v3), some (.int p8.1), some (.int x1)]) dX1_newObject_29 (Nat.le_of_ble_eq_true rfl) rfl (ch_FT.wk (ch_wS (ch_wN (ch_wN (ch_wS (ch_wS ch_w0))))) (sl_X1_newObject_31  h hk))))
  · subst h
    exact ch_th rfl hk

theorem bX1_push_0 : ch_ck cX1_push 0 [42, 180, 0, 19, 42, 180, 0, 78, 31, 80, 42, 89, 180, 0, 78, 4] := ch_ckof (by decide +kernel)
theorem bX1_push_1 : ch_ck cX1_push 16 [96, 181, 0, 78, 177] := ch_ckof (by decide +kernel)
theorem dX1_push_0 : decode cX1_push 0 = .ok (.aload_n 0, 1) := dz_42 (bX1_push_0 0 _ rfl)
theorem dX1_push_1 : decode cX1_push 1 = .ok (.getfield 19, 3) := dz_180 (bX1_push_0 1 _ rfl) (bX1_push_0 2 _ rfl) (bX1_push_0 3 _ rfl)
theorem dX1_push_4 : decode cX1_push 4 = .ok (.aload_n 0, 1) := dz_42 (bX1_push_0 4 _ rfl)
theorem dX1_push_5 : decode cX1_push 5 = .ok (.getfield 78, 3) := dz_180 (bX1_push_0 5 _ rfl) (bX1_push_0 6 _ rfl) (bX1_push_0 7 _ rfl)
theorem dX1_push_8 : decode cX1_push 8 = .ok (.lload_n 1, 1) := dz_31 (bX1_push_0 8 _ rfl)
theorem dX1_push_9 : decode cX1_push 9 = .ok (.lastore, 1) := dz_80 (bX1_push_0 9 _ rfl)
theorem dX1_push_10 : decode cX1_push 10 = .ok (.aload_n 0, 1) := dz_42 (bX1_push_0 10 _ rfl)
theorem dX1_push_11 : decode cX1_push 11 = .ok (.dup, 1) := dz_89 (bX1_push_0 11 _ rfl)
theorem dX1_push_12 : decode cX1_push 12 = .ok (.getfield 78, 3) := dz_180 (bX1_push_0 12 _ rfl) (bX1_push_0 13 _ rfl) (bX1_push_0 14 _ rfl)
theorem dX1_push_15 : decode cX1_push 15 = .ok (.iconst 1, 1) := dz_4 (bX1_push_0 15 _ rfl)
theorem dX1_push_16 : decode cX1_push 16 = .ok (.iadd, 1) := dz_96 (bX1_push_1 0 _ rfl)
theorem dX1_push_17 : decode cX1_push 17 = .ok (.putfield 78, 3) := dz_181 (bX1_push_1 1 _ rfl) (bX1_push_1 2 _ rfl) (bX1_push_1 3 _ rfl)
theorem dX1_push_20 : decode cX1_push 20 = .ok (.return_, 1) := dz_177 (bX1_push_1 4 _ rfl)
def c_X1_push (t0 : Nat) (x1 : Int64) (w : ch_W) : Option (ch_W) := (ch_gR w (some t0) 2 fX1_pile).bind fun v1 => (ch_gI w (some t0) 2 fX1_top).bind fun v2 => (ch_wL w v1 24 v2 x1).bind fun w3 => (ch_gI w3 (some t0) 2 fX1_top).bind fun v4 => (ch_pI w3 (some t0) 2 fX1_top (v4 + 1)).bind fun w5 => some (w5)
theorem s_X1_push {g : State} {t0 : Nat} {x1 : Int64} {w : ch_W} {res : ch_W} {Q : Outcome → ch_W → Prop} (h : c_X1_push t0 x1 w = some res) (hk : (ch_eV Q) res) : ch_CT g true yX1_push 2 [.ref t0, .long x1] (w) Q := by
  unfold c_X1_push at h
  refine ch_ctL mX1_push (ls := [some (va_rf (some t0)), some (.long x1), none]) q1380 rfl (ch_lyr (r := some t0) (ch_lyl ch_ly0)) (Nat.le_of_ble_eq_true rfl) rfl ?_
  refine ch_aload_n 0 (some t0) dX1_push_0 rfl (cp_gR (ci := 1) (k := 5) dX1_push_1 fl_X1_19 rfl h (fun v1 h => ?_))
  refine ch_aload_n 0 (some t0) dX1_push_4 rfl (cp_gI (ci := 1) (k := 6) dX1_push_5 fl_X1_78 rfl h (fun v2 h => ?_))
  refine ch_lload_n 1 _ dX1_push_8 rfl (cp_last (t := 24) dX1_push_9 rfl (Nat.le_of_ble_eq_true rfl) rfl h (fun w3 h => ?_))
  refine ch_aload_n 0 (some t0) dX1_push_10 rfl (ch_dup dX1_push_11 (ch_cat _) (cp_gI (ci := 1) (k := 6) dX1_push_12 fl_X1_78 rfl h (fun v4 h => ?_)))
  refine ch_iconst _ 1 dX1_push_15 rfl (ch_iadd _ _ dX1_push_16 (cp_pI (ci := 1) (k := 6) dX1_push_17 fl_X1_78 rfl rfl rfl h (fun w5 h => ?_)))
  obtain rfl := Option.some.inj h
  exact ch_return dX1_push_20 rfl hk

theorem bX1_enter_0 : ch_ck cX1_enter 0 [42, 180, 0, 81, 16, 100, 160, 0, 12, 187, 0, 122, 89, 7, 183, 0] := ch_ckof (by decide +kernel)
theorem bX1_enter_1 : ch_ck cX1_enter 16 [124, 191, 42, 180, 0, 24, 42, 180, 0, 81, 43, 83, 42, 180, 0, 28] := ch_ckof (by decide +kernel)
theorem bX1_enter_2 : ch_ck cX1_enter 32 [42, 180, 0, 81, 3, 79, 42, 180, 0, 32, 42, 180, 0, 81, 42, 180] := ch_ckof (by decide +kernel)
theorem bX1_enter_3 : ch_ck cX1_enter 48 [0, 78, 28, 100, 4, 100, 79, 42, 89, 180, 0, 81, 4, 96, 181, 0] := ch_ckof (by decide +kernel)
theorem bX1_enter_4 : ch_ck cX1_enter 64 [81, 28, 62, 29, 43, 180, 0, 197, 162, 0, 14, 42, 9, 182, 0, 108] := ch_ckof (by decide +kernel)
theorem bX1_enter_5 : ch_ck cX1_enter 80 [132, 3, 1, 167, 255, 240, 177] := ch_ckof (by decide +kernel)
theorem dX1_enter_0 : decode cX1_enter 0 = .ok (.aload_n 0, 1) := dz_42 (bX1_enter_0 0 _ rfl)
theorem dX1_enter_1 : decode cX1_enter 1 = .ok (.getfield 81, 3) := dz_180 (bX1_enter_0 1 _ rfl) (bX1_enter_0 2 _ rfl) (bX1_enter_0 3 _ rfl)
theorem dX1_enter_4 : decode cX1_enter 4 = .ok (.bipush 100, 2) := dz_16 (bX1_enter_0 4 _ rfl) (bX1_enter_0 5 _ rfl)
theorem dX1_enter_6 : decode cX1_enter 6 = .ok (.if_icmp .ne 12, 3) := dz_160 (bX1_enter_0 6 _ rfl) (bX1_enter_0 7 _ rfl) (bX1_enter_0 8 _ rfl)
theorem dX1_enter_9 : decode cX1_enter 9 = .ok (.new 122, 3) := dz_187 (bX1_enter_0 9 _ rfl) (bX1_enter_0 10 _ rfl) (bX1_enter_0 11 _ rfl)
theorem dX1_enter_12 : decode cX1_enter 12 = .ok (.dup, 1) := dz_89 (bX1_enter_0 12 _ rfl)
theorem dX1_enter_13 : decode cX1_enter 13 = .ok (.iconst 4, 1) := dz_7 (bX1_enter_0 13 _ rfl)
theorem dX1_enter_14 : decode cX1_enter 14 = .ok (.invokespecial 124, 3) := dz_183 (bX1_enter_0 14 _ rfl) (bX1_enter_0 15 _ rfl) (bX1_enter_1 0 _ rfl)
theorem dX1_enter_17 : decode cX1_enter 17 = .ok (.athrow, 1) := dz_191 (bX1_enter_1 1 _ rfl)
theorem dX1_enter_18 : decode cX1_enter 18 = .ok (.aload_n 0, 1) := dz_42 (bX1_enter_1 2 _ rfl)
theorem dX1_enter_19 : decode cX1_enter 19 = .ok (.getfield 24, 3) := dz_180 (bX1_enter_1 3 _ rfl) (bX1_enter_1 4 _ rfl) (bX1_enter_1 5 _ rfl)
theorem dX1_enter_22 : decode cX1_enter 22 = .ok (.aload_n 0, 1) := dz_42 (bX1_enter_1 6 _ rfl)
theorem dX1_enter_23 : decode cX1_enter 23 = .ok (.getfield 81, 3) := dz_180 (bX1_enter_1 7 _ rfl) (bX1_enter_1 8 _ rfl) (bX1_enter_1 9 _ rfl)
theorem dX1_enter_26 : decode cX1_enter 26 = .ok (.aload_n 1, 1) := dz_43 (bX1_enter_1 10 _ rfl)
theorem dX1_enter_27 : decode cX1_enter 27 = .ok (.aastore, 1) := dz_83 (bX1_enter_1 11 _ rfl)
theorem dX1_enter_28 : decode cX1_enter 28 = .ok (.aload_n 0, 1) := dz_42 (bX1_enter_1 12 _ rfl)
theorem dX1_enter_29 : decode cX1_enter 29 = .ok (.getfield 28, 3) := dz_180 (bX1_enter_1 13 _ rfl) (bX1_enter_1 14 _ rfl) (bX1_enter_1 15 _ rfl)
theorem dX1_enter_32 : decode cX1_enter 32 = .ok (.aload_n 0, 1) := dz_42 (bX1_enter_2 0 _ rfl)
theorem dX1_enter_33 : decode cX1_enter 33 = .ok (.getfield 81, 3) := dz_180 (bX1_enter_2 1 _ rfl) (bX1_enter_2 2 _ rfl) (bX1_enter_2 3 _ rfl)
theorem dX1_enter_36 : decode cX1_enter 36 = .ok (.iconst 0, 1) := dz_3 (bX1_enter_2 4 _ rfl)
theorem dX1_enter_37 : decode cX1_enter 37 = .ok (.iastore, 1) := dz_79 (bX1_enter_2 5 _ rfl)
theorem dX1_enter_38 : decode cX1_enter 38 = .ok (.aload_n 0, 1) := dz_42 (bX1_enter_2 6 _ rfl)
theorem dX1_enter_39 : decode cX1_enter 39 = .ok (.getfield 32, 3) := dz_180 (bX1_enter_2 7 _ rfl) (bX1_enter_2 8 _ rfl) (bX1_enter_2 9 _ rfl)
theorem dX1_enter_42 : decode cX1_enter 42 = .ok (.aload_n 0, 1) := dz_42 (bX1_enter_2 10 _ rfl)
theorem dX1_enter_43 : decode cX1_enter 43 = .ok (.getfield 81, 3) := dz_180 (bX1_enter_2 11 _ rfl) (bX1_enter_2 12 _ rfl) (bX1_enter_2 13 _ rfl)
theorem dX1_enter_46 : decode cX1_enter 46 = .ok (.aload_n 0, 1) := dz_42 (bX1_enter_2 14 _ rfl)
theorem dX1_enter_47 : decode cX1_enter 47 = .ok (.getfield 78, 3) := dz_180 (bX1_enter_2 15 _ rfl) (bX1_enter_3 0 _ rfl) (bX1_enter_3 1 _ rfl)
theorem dX1_enter_50 : decode cX1_enter 50 = .ok (.iload_n 2, 1) := dz_28 (bX1_enter_3 2 _ rfl)
theorem dX1_enter_51 : decode cX1_enter 51 = .ok (.isub, 1) := dz_100 (bX1_enter_3 3 _ rfl)
theorem dX1_enter_52 : decode cX1_enter 52 = .ok (.iconst 1, 1) := dz_4 (bX1_enter_3 4 _ rfl)
theorem dX1_enter_53 : decode cX1_enter 53 = .ok (.isub, 1) := dz_100 (bX1_enter_3 5 _ rfl)
theorem dX1_enter_54 : decode cX1_enter 54 = .ok (.iastore, 1) := dz_79 (bX1_enter_3 6 _ rfl)
theorem dX1_enter_55 : decode cX1_enter 55 = .ok (.aload_n 0, 1) := dz_42 (bX1_enter_3 7 _ rfl)
theorem dX1_enter_56 : decode cX1_enter 56 = .ok (.dup, 1) := dz_89 (bX1_enter_3 8 _ rfl)
theorem dX1_enter_57 : decode cX1_enter 57 = .ok (.getfield 81, 3) := dz_180 (bX1_enter_3 9 _ rfl) (bX1_enter_3 10 _ rfl) (bX1_enter_3 11 _ rfl)
theorem dX1_enter_60 : decode cX1_enter 60 = .ok (.iconst 1, 1) := dz_4 (bX1_enter_3 12 _ rfl)
theorem dX1_enter_61 : decode cX1_enter 61 = .ok (.iadd, 1) := dz_96 (bX1_enter_3 13 _ rfl)
theorem dX1_enter_62 : decode cX1_enter 62 = .ok (.putfield 81, 3) := dz_181 (bX1_enter_3 14 _ rfl) (bX1_enter_3 15 _ rfl) (bX1_enter_4 0 _ rfl)
theorem dX1_enter_65 : decode cX1_enter 65 = .ok (.iload_n 2, 1) := dz_28 (bX1_enter_4 1 _ rfl)
theorem dX1_enter_66 : decode cX1_enter 66 = .ok (.istore_n 3, 1) := dz_62 (bX1_enter_4 2 _ rfl)
theorem dX1_enter_67 : decode cX1_enter 67 = .ok (.iload_n 3, 1) := dz_29 (bX1_enter_4 3 _ rfl)
theorem dX1_enter_68 : decode cX1_enter 68 = .ok (.aload_n 1, 1) := dz_43 (bX1_enter_4 4 _ rfl)
theorem dX1_enter_69 : decode cX1_enter 69 = .ok (.getfield 197, 3) := dz_180 (bX1_enter_4 5 _ rfl) (bX1_enter_4 6 _ rfl) (bX1_enter_4 7 _ rfl)
theorem dX1_enter_72 : decode cX1_enter 72 = .ok (.if_icmp .ge 14, 3) := dz_162 (bX1_enter_4 8 _ rfl) (bX1_enter_4 9 _ rfl) (bX1_enter_4 10 _ rfl)
theorem dX1_enter_75 : decode cX1_enter 75 = .ok (.aload_n 0, 1) := dz_42 (bX1_enter_4 11 _ rfl)
theorem dX1_enter_76 : decode cX1_enter 76 = .ok (.lconst 0, 1) := dz_9 (bX1_enter_4 12 _ rfl)
theorem dX1_enter_77 : decode cX1_enter 77 = .ok (.invokevirtual 108, 3) := dz_182 (bX1_enter_4 13 _ rfl) (bX1_enter_4 14 _ rfl) (bX1_enter_4 15 _ rfl)
theorem dX1_enter_80 : decode cX1_enter 80 = .ok (.iinc 3 1, 3) := dz_132 (bX1_enter_5 0 _ rfl) (bX1_enter_5 1 _ rfl) (bX1_enter_5 2 _ rfl)
theorem dX1_enter_83 : decode cX1_enter 83 = .ok (.goto (-16), 3) := dz_167 (bX1_enter_5 3 _ rfl) (bX1_enter_5 4 _ rfl) (bX1_enter_5 5 _ rfl)
theorem dX1_enter_86 : decode cX1_enter 86 = .ok (.return_, 1) := dz_177 (bX1_enter_5 6 _ rfl)
def c_X1_enter_67 (g : State) (t0 : Nat) (x1 : Option Nat) (x3 : Int32)  (w : ch_W) : Option ((Int32 × ch_W) ⊕ (Except Nat Unit × ch_W)) := (ch_gI w x1 8 fX7_slots).bind fun v1 => if x3 < v1 then ((ch_rc w (some t0) 2).bind fun _ => (c_X1_push t0 0 w).bind fun p3 => some (.inl (x3 + 1, p3))) else (some (.inr ((.ok (), w))))
theorem s_X1_enter_67 {g : State} {t0 : Nat} {x1 : Option Nat} {x3 : Int32} {w : ch_W} {res : (Int32 × ch_W) ⊕ (Except Nat Unit × ch_W)} {Q : Outcome → ch_W → Prop} (h : c_X1_enter_67 g t0 x1 x3 w = some res) (hk : (ch_sm (fun s => ch_FT g true mX1_enter 7 67 [some (va_rf (some t0)), some (va_rf x1), none, some (.int s.1)] [] (s.2) Q) (ch_xV Q)) res) : ch_FT g true mX1_enter 7 67 [some (va_rf (some t0)), some (va_rf x1), none, some (.int x3)] [] (w) Q := by
  unfold c_X1_enter_67 at h
  refine ch_iload_n 3 _ dX1_enter_67 rfl (ch_aload_n 1 x1 dX1_enter_68 rfl (cp_gI (ci := 7) (k := 9) dX1_enter_69 fl_X1_197 rfl h (fun v1 h => ?_)))
  refine cp_icmp_ge _ _ (tgt := 86) dX1_enter_72 rfl h (fun h => ?_) (fun h => ?_)
  · obtain rfl := Option.some.inj h
    exact ch_return dX1_enter_86 rfl hk
  · obtain ⟨_, hb2, h⟩ := ch_bd h
    obtain ⟨p3, hp4, h⟩ := ch_bd h
    refine ch_aload_n 0 (some t0) dX1_enter_75 rfl (ch_lconst _ 0 dX1_enter_76 rfl (ch_iv yX1_push prog_5_method_12_code 3 none (ci := 1) (q := (RX1, TX1, 22)) (b := t0) (d' := 2) (av := [.long 0]) (rest := []) rfl dX1_enter_77 q1377 q1379 rfl qs72 q1380 can_X1_push (Nat.le_of_ble_eq_true rfl) (Nat.le_of_ble_eq_true rfl) (ch_rts hb2) (cp_kV (w1 := p3) (fun Q' hq => s_X1_push hp4 hq) ?_)))
    refine ch_iinc 3 _ _ (x3 + 1) (ls1 := [some (va_rf (some t0)), some (va_rf x1), none, some (.int (x3 + 1))]) dX1_enter_80 rfl rfl (Nat.le_of_ble_eq_true rfl) rfl (ch_goto 67 dX1_enter_83 rfl (ch_FT.wk (ch_wS (ch_wS (ch_wN (ch_wS ch_w0)))) ?_))
    obtain rfl := Option.some.inj h
    exact hk
theorem sl_X1_enter_67 {g : State} {t0 : Nat} {x1 : Option Nat} {a : Int32 × ch_W} {res : Except Nat Unit × ch_W} {Q : Outcome → ch_W → Prop} (h : ch_loop (fun (s : Int32 × ch_W) => c_X1_enter_67 g t0 x1 s.1 s.2) a = some res) (hk : (ch_xV Q) res) : ch_FT g true mX1_enter 7 67 [some (va_rf (some t0)), some (va_rf x1), none, some (.int a.1)] [] (a.2) Q := by
  refine ch_loop_ind (fun (a : Int32 × ch_W) (r : Except Nat Unit × ch_W) => (ch_xV Q) r → ch_FT g true mX1_enter 7 67 [some (va_rf (some t0)), some (va_rf x1), none, some (.int a.1)] [] (a.2) Q) ?_ ?_ a res h hk
  · intro a a2 b h1 ih hk
    exact s_X1_enter_67  h1 (ih hk)
  · intro a b h1 hk
    exact s_X1_enter_67  h1 hk

def c_X1_enter (g : State) (t0 : Nat) (x1 : Option Nat) (x2 : Int32) (w : ch_W) : Option (Except Nat Unit × ch_W) := (ch_gI w (some t0) 2 fX1_open).bind fun v1 => if v1 = 100 then ((ch_nO w 13 7).bind fun w14 => (c_X12_init g (ch_nx w) 4 w14).bind fun p15 => (some (ch_nx w)).bind fun a17 => some ((.error a17, p15))) else ((ch_gR w (some t0) 2 fX1_methods).bind fun v2 => (ch_gI w (some t0) 2 fX1_open).bind fun v3 => (ch_wR w v2 26 8 v3 x1).bind fun w4 => (ch_gR w4 (some t0) 2 fX1_places).bind fun v5 => (ch_gI w4 (some t0) 2 fX1_open).bind fun v6 => (ch_wI w4 v5 21 v6 0).bind fun w7 => (ch_gR w7 (some t0) 2 fX1_bases).bind fun v8 => (ch_gI w7 (some t0) 2 fX1_open).bind fun v9 => (ch_gI w7 (some t0) 2 fX1_top).bind fun v10 => (ch_wI w7 v8 21 v9 ((v10 - x2) - 1)).bind fun w11 => (ch_gI w11 (some t0) 2 fX1_open).bind fun v12 => (ch_pI w11 (some t0) 2 fX1_open (v12 + 1)).bind fun w13 => ch_loop (fun (s : Int32 × ch_W) => c_X1_enter_67 g t0 x1 s.1 s.2) (x2, w13))
theorem s_X1_enter {g : State} {t0 : Nat} {x1 : Option Nat} {x2 : Int32} {w : ch_W} {res : Except Nat Unit × ch_W} {Q : Outcome → ch_W → Prop} (h : c_X1_enter g t0 x1 x2 w = some res) (hk : (ch_xV Q) res) : ch_CT g true yX1_enter 7 [.ref t0, va_rf x1, .int x2] (w) Q := by
  unfold c_X1_enter at h
  refine ch_ctL mX1_enter (ls := [some (va_rf (some t0)), some (va_rf x1), some (.int x2), none]) q1384 rfl (ch_lyr (r := some t0) (ch_lyr (r := x1) (ch_lyi ch_ly0))) (Nat.le_of_ble_eq_true rfl) rfl ?_
  refine ch_aload_n 0 (some t0) dX1_enter_0 rfl (cp_gI (ci := 1) (k := 10) dX1_enter_1 fl_X1_81 rfl h (fun v1 h => ?_))
  refine ch_bipush _ 100 dX1_enter_4 rfl (cp_icmp_ne _ _ (tgt := 18) dX1_enter_6 rfl h (fun h => ?_) (fun h => ?_))
  · refine ch_aload_n 0 (some t0) dX1_enter_18 rfl (cp_gR (ci := 1) (k := 7) dX1_enter_19 fl_X1_24 rfl h (fun v2 h => ?_))
    refine ch_aload_n 0 (some t0) dX1_enter_22 rfl (cp_gI (ci := 1) (k := 10) dX1_enter_23 fl_X1_81 rfl h (fun v3 h => ?_))
    refine ch_aload_n 1 x1 dX1_enter_26 rfl (cp_aast (t := 26) (c := 8) dX1_enter_27 rfl (Nat.le_of_ble_eq_true rfl) rfl el_8 h (fun w4 h => ?_))
    refine ch_aload_n 0 (some t0) dX1_enter_28 rfl (cp_gR (ci := 1) (k := 8) dX1_enter_29 fl_X1_28 rfl h (fun v5 h => ?_))
    refine ch_aload_n 0 (some t0) dX1_enter_32 rfl (cp_gI (ci := 1) (k := 10) dX1_enter_33 fl_X1_81 rfl h (fun v6 h => ?_))
    refine ch_iconst _ 0 dX1_enter_36 rfl (cp_iast (t := 21) dX1_enter_37 rfl (Nat.le_of_ble_eq_true rfl) rfl h (fun w7 h => ?_))
    refine ch_aload_n 0 (some t0) dX1_enter_38 rfl (cp_gR (ci := 1) (k := 9) dX1_enter_39 fl_X1_32 rfl h (fun v8 h => ?_))
    refine ch_aload_n 0 (some t0) dX1_enter_42 rfl (cp_gI (ci := 1) (k := 10) dX1_enter_43 fl_X1_81 rfl h (fun v9 h => ?_))
    refine ch_aload_n 0 (some t0) dX1_enter_46 rfl (cp_gI (ci := 1) (k := 6) dX1_enter_47 fl_X1_78 rfl h (fun v10 h => ?_))
    refine ch_iload_n 2 _ dX1_enter_50 rfl (ch_isub _ _ dX1_enter_51 (ch_iconst _ 1 dX1_enter_52 rfl (ch_isub _ _ dX1_enter_53 (cp_iast (t := 21) dX1_enter_54 rfl (Nat.le_of_ble_eq_true rfl) rfl h (fun w11 h => ?_)))))
    refine ch_aload_n 0 (some t0) dX1_enter_55 rfl (ch_dup dX1_enter_56 (ch_cat _) (cp_gI (ci := 1) (k := 10) dX1_enter_57 fl_X1_81 rfl h (fun v12 h => ?_)))
    refine ch_iconst _ 1 dX1_enter_60 rfl (ch_iadd _ _ dX1_enter_61 (cp_pI (ci := 1) (k := 10) dX1_enter_62 fl_X1_81 rfl rfl rfl h (fun w13 h => ?_)))
    exact ch_iload_n 2 _ dX1_enter_65 rfl (ch_istore_n 3 _ (ls1 := [some (va_rf (some t0)), some (va_rf x1), some (.int x2), some (.int x2)]) dX1_enter_66 (Nat.le_of_ble_eq_true rfl) rfl (ch_FT.wk (ch_wS (ch_wS (ch_wN (ch_wS ch_w0)))) (sl_X1_enter_67  h hk)))
  · refine cp_new (ci := 12) (n := 7) (q := (RX12, TX12, 7)) dX1_enter_9 rfl q1347 q1348 q227 h (fun w14 h => ?_)
    obtain ⟨p15, hp16, h⟩ := ch_bd h
    refine ch_dup dX1_enter_12 (ch_cat _) (ch_iconst _ 4 dX1_enter_13 rfl (ch_ii yX12_init prog_3_method_1_code 2 (b := (ch_nx w)) (d' := 6) (av := [.int 4]) (rest := [va_rf (some (ch_nx w))]) rfl dX1_enter_14 rfl q1356 q1357 q1358 can_X12_init (Nat.le_of_ble_eq_true rfl) (ch_hw (Nat.le_of_ble_eq_true rfl)) (cp_kV (w1 := p15) (fun Q' hq => s_X12_init hp16 hq) ?_)))
    obtain ⟨a17, ha, h⟩ := ch_bd h
    obtain rfl := Option.some.inj h
    exact ch_athrow (some (ch_nx w)) ha dX1_enter_17 rfl hk

theorem bX1_leave_0 : ch_ck cX1_leave 0 [42, 89, 180, 0, 81, 4, 100, 181, 0, 81, 42, 42, 180, 0, 32, 42] := ch_ckof (by decide +kernel)
theorem bX1_leave_1 : ch_ck cX1_leave 16 [180, 0, 81, 46, 181, 0, 78, 177] := ch_ckof (by decide +kernel)
theorem dX1_leave_0 : decode cX1_leave 0 = .ok (.aload_n 0, 1) := dz_42 (bX1_leave_0 0 _ rfl)
theorem dX1_leave_1 : decode cX1_leave 1 = .ok (.dup, 1) := dz_89 (bX1_leave_0 1 _ rfl)
theorem dX1_leave_2 : decode cX1_leave 2 = .ok (.getfield 81, 3) := dz_180 (bX1_leave_0 2 _ rfl) (bX1_leave_0 3 _ rfl) (bX1_leave_0 4 _ rfl)
theorem dX1_leave_5 : decode cX1_leave 5 = .ok (.iconst 1, 1) := dz_4 (bX1_leave_0 5 _ rfl)
theorem dX1_leave_6 : decode cX1_leave 6 = .ok (.isub, 1) := dz_100 (bX1_leave_0 6 _ rfl)
theorem dX1_leave_7 : decode cX1_leave 7 = .ok (.putfield 81, 3) := dz_181 (bX1_leave_0 7 _ rfl) (bX1_leave_0 8 _ rfl) (bX1_leave_0 9 _ rfl)
theorem dX1_leave_10 : decode cX1_leave 10 = .ok (.aload_n 0, 1) := dz_42 (bX1_leave_0 10 _ rfl)
theorem dX1_leave_11 : decode cX1_leave 11 = .ok (.aload_n 0, 1) := dz_42 (bX1_leave_0 11 _ rfl)
theorem dX1_leave_12 : decode cX1_leave 12 = .ok (.getfield 32, 3) := dz_180 (bX1_leave_0 12 _ rfl) (bX1_leave_0 13 _ rfl) (bX1_leave_0 14 _ rfl)
theorem dX1_leave_15 : decode cX1_leave 15 = .ok (.aload_n 0, 1) := dz_42 (bX1_leave_0 15 _ rfl)
theorem dX1_leave_16 : decode cX1_leave 16 = .ok (.getfield 81, 3) := dz_180 (bX1_leave_1 0 _ rfl) (bX1_leave_1 1 _ rfl) (bX1_leave_1 2 _ rfl)
theorem dX1_leave_19 : decode cX1_leave 19 = .ok (.iaload, 1) := dz_46 (bX1_leave_1 3 _ rfl)
theorem dX1_leave_20 : decode cX1_leave 20 = .ok (.putfield 78, 3) := dz_181 (bX1_leave_1 4 _ rfl) (bX1_leave_1 5 _ rfl) (bX1_leave_1 6 _ rfl)
theorem dX1_leave_23 : decode cX1_leave 23 = .ok (.return_, 1) := dz_177 (bX1_leave_1 7 _ rfl)
def c_X1_leave (t0 : Nat)  (w : ch_W) : Option (ch_W) := (ch_gI w (some t0) 2 fX1_open).bind fun v1 => (ch_pI w (some t0) 2 fX1_open (v1 - 1)).bind fun w2 => (ch_gR w2 (some t0) 2 fX1_bases).bind fun v3 => (ch_gI w2 (some t0) 2 fX1_open).bind fun v4 => (ch_lI w2 v3 21 v4).bind fun v5 => (ch_pI w2 (some t0) 2 fX1_top v5).bind fun w6 => some (w6)
theorem s_X1_leave {g : State} {t0 : Nat} {w : ch_W} {res : ch_W} {Q : Outcome → ch_W → Prop} (h : c_X1_leave t0 w = some res) (hk : (ch_eV Q) res) : ch_CT g true yX1_leave 2 [.ref t0] (w) Q := by
  unfold c_X1_leave at h
  refine ch_ctL mX1_leave (ls := [some (va_rf (some t0))]) q1397 rfl (ch_lyr (r := some t0) ch_ly0) (Nat.le_of_ble_eq_true rfl) rfl ?_
  refine ch_aload_n 0 (some t0) dX1_leave_0 rfl (ch_dup dX1_leave_1 (ch_cat _) (cp_gI (ci := 1) (k := 10) dX1_leave_2 fl_X1_81 rfl h (fun v1 h => ?_)))
  refine ch_iconst _ 1 dX1_leave_5 rfl (ch_isub _ _ dX1_leave_6 (cp_pI (ci := 1) (k := 10) dX1_leave_7 fl_X1_81 rfl rfl rfl h (fun w2 h => ?_)))
  refine ch_aload_n 0 (some t0) dX1_leave_10 rfl (ch_aload_n 0 (some t0) dX1_leave_11 rfl (cp_gR (ci := 1) (k := 9) dX1_leave_12 fl_X1_32 rfl h (fun v3 h => ?_)))
  refine ch_aload_n 0 (some t0) dX1_leave_15 rfl (cp_gI (ci := 1) (k := 10) dX1_leave_16 fl_X1_81 rfl h (fun v4 h => ?_))
  refine cp_iald (t := 21) dX1_leave_19 rfl rfl h (fun v5 h => ?_)
  refine cp_pI (ci := 1) (k := 6) dX1_leave_20 fl_X1_78 rfl rfl rfl h (fun w6 h => ?_)
  obtain rfl := Option.some.inj h
  exact ch_return dX1_leave_23 rfl hk

theorem bX1_goOn_0 : ch_ck cX1_goOn 0 [42, 180, 0, 28, 42, 180, 0, 81, 4, 100, 92, 46, 6, 96, 79, 177] := ch_ckof (by decide +kernel)
theorem dX1_goOn_0 : decode cX1_goOn 0 = .ok (.aload_n 0, 1) := dz_42 (bX1_goOn_0 0 _ rfl)
theorem dX1_goOn_1 : decode cX1_goOn 1 = .ok (.getfield 28, 3) := dz_180 (bX1_goOn_0 1 _ rfl) (bX1_goOn_0 2 _ rfl) (bX1_goOn_0 3 _ rfl)
theorem dX1_goOn_4 : decode cX1_goOn 4 = .ok (.aload_n 0, 1) := dz_42 (bX1_goOn_0 4 _ rfl)
theorem dX1_goOn_5 : decode cX1_goOn 5 = .ok (.getfield 81, 3) := dz_180 (bX1_goOn_0 5 _ rfl) (bX1_goOn_0 6 _ rfl) (bX1_goOn_0 7 _ rfl)
theorem dX1_goOn_8 : decode cX1_goOn 8 = .ok (.iconst 1, 1) := dz_4 (bX1_goOn_0 8 _ rfl)
theorem dX1_goOn_9 : decode cX1_goOn 9 = .ok (.isub, 1) := dz_100 (bX1_goOn_0 9 _ rfl)
theorem dX1_goOn_10 : decode cX1_goOn 10 = .ok (.dup2, 1) := dz_92 (bX1_goOn_0 10 _ rfl)
theorem dX1_goOn_11 : decode cX1_goOn 11 = .ok (.iaload, 1) := dz_46 (bX1_goOn_0 11 _ rfl)
theorem dX1_goOn_12 : decode cX1_goOn 12 = .ok (.iconst 3, 1) := dz_6 (bX1_goOn_0 12 _ rfl)
theorem dX1_goOn_13 : decode cX1_goOn 13 = .ok (.iadd, 1) := dz_96 (bX1_goOn_0 13 _ rfl)
theorem dX1_goOn_14 : decode cX1_goOn 14 = .ok (.iastore, 1) := dz_79 (bX1_goOn_0 14 _ rfl)
theorem dX1_goOn_15 : decode cX1_goOn 15 = .ok (.return_, 1) := dz_177 (bX1_goOn_0 15 _ rfl)
def c_X1_goOn (t0 : Nat)  (w : ch_W) : Option (ch_W) := (ch_gR w (some t0) 2 fX1_places).bind fun v1 => (ch_gI w (some t0) 2 fX1_open).bind fun v2 => (ch_lI w v1 21 (v2 - 1)).bind fun v3 => (ch_wI w v1 21 (v2 - 1) (v3 + 3)).bind fun w4 => some (w4)
theorem s_X1_goOn {g : State} {t0 : Nat} {w : ch_W} {res : ch_W} {Q : Outcome → ch_W → Prop} (h : c_X1_goOn t0 w = some res) (hk : (ch_eV Q) res) : ch_CT g true yX1_goOn 2 [.ref t0] (w) Q := by
  unfold c_X1_goOn at h
  refine ch_ctL mX1_goOn (ls := [some (va_rf (some t0))]) q1401 rfl (ch_lyr (r := some t0) ch_ly0) (Nat.le_of_ble_eq_true rfl) rfl ?_
  refine ch_aload_n 0 (some t0) dX1_goOn_0 rfl (cp_gR (ci := 1) (k := 8) dX1_goOn_1 fl_X1_28 rfl h (fun v1 h => ?_))
  refine ch_aload_n 0 (some t0) dX1_goOn_4 rfl (cp_gI (ci := 1) (k := 10) dX1_goOn_5 fl_X1_81 rfl h (fun v2 h => ?_))
  refine ch_iconst _ 1 dX1_goOn_8 rfl (ch_isub _ _ dX1_goOn_9 (ch_dup2 dX1_goOn_10 rfl (ch_cat _) (cp_iald (t := 21) dX1_goOn_11 rfl rfl h (fun v3 h => ?_))))
  refine ch_iconst _ 3 dX1_goOn_12 rfl (ch_iadd _ _ dX1_goOn_13 (cp_iast (t := 21) dX1_goOn_14 rfl (Nat.le_of_ble_eq_true rfl) rfl h (fun w4 h => ?_)))
  obtain rfl := Option.some.inj h
  exact ch_return dX1_goOn_15 rfl hk

theorem bX1_local_0 : ch_ck cX1_local 0 [42, 180, 0, 19, 42, 180, 0, 32, 42, 180, 0, 81, 4, 100, 46, 27] := ch_ckof (by decide +kernel)
theorem bX1_local_1 : ch_ck cX1_local 16 [96, 47, 173] := ch_ckof (by decide +kernel)
theorem dX1_local_0 : decode cX1_local 0 = .ok (.aload_n 0, 1) := dz_42 (bX1_local_0 0 _ rfl)
theorem dX1_local_1 : decode cX1_local 1 = .ok (.getfield 19, 3) := dz_180 (bX1_local_0 1 _ rfl) (bX1_local_0 2 _ rfl) (bX1_local_0 3 _ rfl)
theorem dX1_local_4 : decode cX1_local 4 = .ok (.aload_n 0, 1) := dz_42 (bX1_local_0 4 _ rfl)
theorem dX1_local_5 : decode cX1_local 5 = .ok (.getfield 32, 3) := dz_180 (bX1_local_0 5 _ rfl) (bX1_local_0 6 _ rfl) (bX1_local_0 7 _ rfl)
theorem dX1_local_8 : decode cX1_local 8 = .ok (.aload_n 0, 1) := dz_42 (bX1_local_0 8 _ rfl)
theorem dX1_local_9 : decode cX1_local 9 = .ok (.getfield 81, 3) := dz_180 (bX1_local_0 9 _ rfl) (bX1_local_0 10 _ rfl) (bX1_local_0 11 _ rfl)
theorem dX1_local_12 : decode cX1_local 12 = .ok (.iconst 1, 1) := dz_4 (bX1_local_0 12 _ rfl)
theorem dX1_local_13 : decode cX1_local 13 = .ok (.isub, 1) := dz_100 (bX1_local_0 13 _ rfl)
theorem dX1_local_14 : decode cX1_local 14 = .ok (.iaload, 1) := dz_46 (bX1_local_0 14 _ rfl)
theorem dX1_local_15 : decode cX1_local 15 = .ok (.iload_n 1, 1) := dz_27 (bX1_local_0 15 _ rfl)
theorem dX1_local_16 : decode cX1_local 16 = .ok (.iadd, 1) := dz_96 (bX1_local_1 0 _ rfl)
theorem dX1_local_17 : decode cX1_local 17 = .ok (.laload, 1) := dz_47 (bX1_local_1 1 _ rfl)
theorem dX1_local_18 : decode cX1_local 18 = .ok (.lreturn, 1) := dz_173 (bX1_local_1 2 _ rfl)
def c_X1_local (t0 : Nat) (x1 : Int32) (w : ch_W) : Option (Int64) := (ch_gR w (some t0) 2 fX1_pile).bind fun v1 => (ch_gR w (some t0) 2 fX1_bases).bind fun v2 => (ch_gI w (some t0) 2 fX1_open).bind fun v3 => (ch_lI w v2 21 (v3 - 1)).bind fun v4 => (ch_lL w v1 24 (v4 + x1)).bind fun v5 => some (v5)
theorem s_X1_local {g : State} {kb : Bool} {t0 : Nat} {x1 : Int32} {w : ch_W} {res : Int64} {Q : Outcome → ch_W → Prop} (h : c_X1_local t0 x1 w = some res) (hk : (fun r => ch_eL Q (r, w)) res) : ch_CT g kb yX1_local 2 [.ref t0, .int x1] (w) Q := by
  unfold c_X1_local at h
  refine ch_ctL mX1_local (ls := [some (va_rf (some t0)), some (.int x1)]) q1405 rfl (ch_lyr (r := some t0) (ch_lyi ch_ly0)) (Nat.le_of_ble_eq_true rfl) rfl ?_
  refine ch_aload_n 0 (some t0) dX1_local_0 rfl (cp_gR (ci := 1) (k := 5) dX1_local_1 fl_X1_19 rfl h (fun v1 h => ?_))
  refine ch_aload_n 0 (some t0) dX1_local_4 rfl (cp_gR (ci := 1) (k := 9) dX1_local_5 fl_X1_32 rfl h (fun v2 h => ?_))
  refine ch_aload_n 0 (some t0) dX1_local_8 rfl (cp_gI (ci := 1) (k := 10) dX1_local_9 fl_X1_81 rfl h (fun v3 h => ?_))
  refine ch_iconst _ 1 dX1_local_12 rfl (ch_isub _ _ dX1_local_13 (cp_iald (t := 21) dX1_local_14 rfl rfl h (fun v4 h => ?_)))
  refine ch_iload_n 1 _ dX1_local_15 rfl (ch_iadd _ _ dX1_local_16 (cp_lald (t := 24) dX1_local_17 rfl rfl h (fun v5 h => ?_)))
  obtain rfl := Option.some.inj h
  exact ch_lreturn _ dX1_local_18 rfl hk

theorem bX1_free_0 : ch_ck cX1_free 0 [43, 28, 182, 0, 231, 170, 0, 0, 0, 0, 0, 151, 0, 0, 0, 28] := ch_ckof (by decide +kernel)
theorem bX1_free_1 : ch_ck cX1_free 16 [0, 0, 0, 31, 0, 0, 0, 31, 0, 0, 0, 52, 0, 0, 0, 113] := ch_ckof (by decide +kernel)
theorem bX1_free_2 : ch_ck cX1_free 32 [0, 0, 0, 124, 42, 180, 0, 28, 42, 180, 0, 81, 4, 100, 43, 28] := ch_ckof (by decide +kernel)
theorem bX1_free_3 : ch_ck cX1_free 48 [4, 96, 182, 0, 231, 79, 167, 0, 125, 43, 28, 4, 96, 182, 0, 231] := ch_ckof (by decide +kernel)
theorem bX1_free_4 : ch_ck cX1_free 64 [62, 29, 43, 28, 5, 96, 182, 0, 231, 162, 0, 28, 42, 180, 0, 19] := ch_ckof (by decide +kernel)
theorem bX1_free_5 : ch_ck cX1_free 80 [42, 180, 0, 32, 42, 180, 0, 81, 4, 100, 46, 29, 96, 9, 80, 132] := ch_ckof (by decide +kernel)
theorem bX1_free_6 : ch_ck cX1_free 96 [3, 1, 167, 255, 223, 42, 180, 0, 28, 42, 180, 0, 81, 4, 100, 28] := ch_ckof (by decide +kernel)
theorem bX1_free_7 : ch_ck cX1_free 112 [6, 96, 79, 167, 0, 64, 42, 182, 0, 237, 42, 182, 0, 247, 167, 0] := ch_ckof (by decide +kernel)
theorem bX1_free_8 : ch_ck cX1_free 128 [53, 42, 89, 180, 0, 78, 4, 100, 181, 0, 78, 42, 180, 0, 28, 42] := ch_ckof (by decide +kernel)
theorem bX1_free_9 : ch_ck cX1_free 144 [180, 0, 81, 4, 100, 28, 4, 96, 79, 167, 0, 26, 42, 42, 3, 182] := ch_ckof (by decide +kernel)
theorem bX1_free_10 : ch_ck cX1_free 160 [0, 250, 182, 0, 108, 42, 180, 0, 28, 42, 180, 0, 81, 4, 100, 28] := ch_ckof (by decide +kernel)
theorem bX1_free_11 : ch_ck cX1_free 176 [4, 96, 79, 177] := ch_ckof (by decide +kernel)
theorem dX1_free_0 : decode cX1_free 0 = .ok (.aload_n 1, 1) := dz_43 (bX1_free_0 0 _ rfl)
theorem dX1_free_1 : decode cX1_free 1 = .ok (.iload_n 2, 1) := dz_28 (bX1_free_0 1 _ rfl)
theorem dX1_free_2 : decode cX1_free 2 = .ok (.invokevirtual 231, 3) := dz_182 (bX1_free_0 2 _ rfl) (bX1_free_0 3 _ rfl) (bX1_free_0 4 _ rfl)
theorem dX1_free_5 : decode cX1_free 5 = .ok (.tableswitch 151 28 31 #[31, 52, 113, 124], 31) := by decide +kernel
theorem dX1_free_36 : decode cX1_free 36 = .ok (.aload_n 0, 1) := dz_42 (bX1_free_2 4 _ rfl)
theorem dX1_free_37 : decode cX1_free 37 = .ok (.getfield 28, 3) := dz_180 (bX1_free_2 5 _ rfl) (bX1_free_2 6 _ rfl) (bX1_free_2 7 _ rfl)
theorem dX1_free_40 : decode cX1_free 40 = .ok (.aload_n 0, 1) := dz_42 (bX1_free_2 8 _ rfl)
theorem dX1_free_41 : decode cX1_free 41 = .ok (.getfield 81, 3) := dz_180 (bX1_free_2 9 _ rfl) (bX1_free_2 10 _ rfl) (bX1_free_2 11 _ rfl)
theorem dX1_free_44 : decode cX1_free 44 = .ok (.iconst 1, 1) := dz_4 (bX1_free_2 12 _ rfl)
theorem dX1_free_45 : decode cX1_free 45 = .ok (.isub, 1) := dz_100 (bX1_free_2 13 _ rfl)
theorem dX1_free_46 : decode cX1_free 46 = .ok (.aload_n 1, 1) := dz_43 (bX1_free_2 14 _ rfl)
theorem dX1_free_47 : decode cX1_free 47 = .ok (.iload_n 2, 1) := dz_28 (bX1_free_2 15 _ rfl)
theorem dX1_free_48 : decode cX1_free 48 = .ok (.iconst 1, 1) := dz_4 (bX1_free_3 0 _ rfl)
theorem dX1_free_49 : decode cX1_free 49 = .ok (.iadd, 1) := dz_96 (bX1_free_3 1 _ rfl)
theorem dX1_free_50 : decode cX1_free 50 = .ok (.invokevirtual 231, 3) := dz_182 (bX1_free_3 2 _ rfl) (bX1_free_3 3 _ rfl) (bX1_free_3 4 _ rfl)
theorem dX1_free_53 : decode cX1_free 53 = .ok (.iastore, 1) := dz_79 (bX1_free_3 5 _ rfl)
theorem dX1_free_54 : decode cX1_free 54 = .ok (.goto 125, 3) := dz_167 (bX1_free_3 6 _ rfl) (bX1_free_3 7 _ rfl) (bX1_free_3 8 _ rfl)
theorem dX1_free_57 : decode cX1_free 57 = .ok (.aload_n 1, 1) := dz_43 (bX1_free_3 9 _ rfl)
theorem dX1_free_58 : decode cX1_free 58 = .ok (.iload_n 2, 1) := dz_28 (bX1_free_3 10 _ rfl)
theorem dX1_free_59 : decode cX1_free 59 = .ok (.iconst 1, 1) := dz_4 (bX1_free_3 11 _ rfl)
theorem dX1_free_60 : decode cX1_free 60 = .ok (.iadd, 1) := dz_96 (bX1_free_3 12 _ rfl)
theorem dX1_free_61 : decode cX1_free 61 = .ok (.invokevirtual 231, 3) := dz_182 (bX1_free_3 13 _ rfl) (bX1_free_3 14 _ rfl) (bX1_free_3 15 _ rfl)
theorem dX1_free_64 : decode cX1_free 64 = .ok (.istore_n 3, 1) := dz_62 (bX1_free_4 0 _ rfl)
theorem dX1_free_65 : decode cX1_free 65 = .ok (.iload_n 3, 1) := dz_29 (bX1_free_4 1 _ rfl)
theorem dX1_free_66 : decode cX1_free 66 = .ok (.aload_n 1, 1) := dz_43 (bX1_free_4 2 _ rfl)
theorem dX1_free_67 : decode cX1_free 67 = .ok (.iload_n 2, 1) := dz_28 (bX1_free_4 3 _ rfl)
theorem dX1_free_68 : decode cX1_free 68 = .ok (.iconst 2, 1) := dz_5 (bX1_free_4 4 _ rfl)
theorem dX1_free_69 : decode cX1_free 69 = .ok (.iadd, 1) := dz_96 (bX1_free_4 5 _ rfl)
theorem dX1_free_70 : decode cX1_free 70 = .ok (.invokevirtual 231, 3) := dz_182 (bX1_free_4 6 _ rfl) (bX1_free_4 7 _ rfl) (bX1_free_4 8 _ rfl)
theorem dX1_free_73 : decode cX1_free 73 = .ok (.if_icmp .ge 28, 3) := dz_162 (bX1_free_4 9 _ rfl) (bX1_free_4 10 _ rfl) (bX1_free_4 11 _ rfl)
theorem dX1_free_76 : decode cX1_free 76 = .ok (.aload_n 0, 1) := dz_42 (bX1_free_4 12 _ rfl)
theorem dX1_free_77 : decode cX1_free 77 = .ok (.getfield 19, 3) := dz_180 (bX1_free_4 13 _ rfl) (bX1_free_4 14 _ rfl) (bX1_free_4 15 _ rfl)
theorem dX1_free_80 : decode cX1_free 80 = .ok (.aload_n 0, 1) := dz_42 (bX1_free_5 0 _ rfl)
theorem dX1_free_81 : decode cX1_free 81 = .ok (.getfield 32, 3) := dz_180 (bX1_free_5 1 _ rfl) (bX1_free_5 2 _ rfl) (bX1_free_5 3 _ rfl)
theorem dX1_free_84 : decode cX1_free 84 = .ok (.aload_n 0, 1) := dz_42 (bX1_free_5 4 _ rfl)
theorem dX1_free_85 : decode cX1_free 85 = .ok (.getfield 81, 3) := dz_180 (bX1_free_5 5 _ rfl) (bX1_free_5 6 _ rfl) (bX1_free_5 7 _ rfl)
theorem dX1_free_88 : decode cX1_free 88 = .ok (.iconst 1, 1) := dz_4 (bX1_free_5 8 _ rfl)
theorem dX1_free_89 : decode cX1_free 89 = .ok (.isub, 1) := dz_100 (bX1_free_5 9 _ rfl)
theorem dX1_free_90 : decode cX1_free 90 = .ok (.iaload, 1) := dz_46 (bX1_free_5 10 _ rfl)
theorem dX1_free_91 : decode cX1_free 91 = .ok (.iload_n 3, 1) := dz_29 (bX1_free_5 11 _ rfl)
theorem dX1_free_92 : decode cX1_free 92 = .ok (.iadd, 1) := dz_96 (bX1_free_5 12 _ rfl)
theorem dX1_free_93 : decode cX1_free 93 = .ok (.lconst 0, 1) := dz_9 (bX1_free_5 13 _ rfl)
theorem dX1_free_94 : decode cX1_free 94 = .ok (.lastore, 1) := dz_80 (bX1_free_5 14 _ rfl)
theorem dX1_free_95 : decode cX1_free 95 = .ok (.iinc 3 1, 3) := dz_132 (bX1_free_5 15 _ rfl) (bX1_free_6 0 _ rfl) (bX1_free_6 1 _ rfl)
theorem dX1_free_98 : decode cX1_free 98 = .ok (.goto (-33), 3) := dz_167 (bX1_free_6 2 _ rfl) (bX1_free_6 3 _ rfl) (bX1_free_6 4 _ rfl)
theorem dX1_free_101 : decode cX1_free 101 = .ok (.aload_n 0, 1) := dz_42 (bX1_free_6 5 _ rfl)
theorem dX1_free_102 : decode cX1_free 102 = .ok (.getfield 28, 3) := dz_180 (bX1_free_6 6 _ rfl) (bX1_free_6 7 _ rfl) (bX1_free_6 8 _ rfl)
theorem dX1_free_105 : decode cX1_free 105 = .ok (.aload_n 0, 1) := dz_42 (bX1_free_6 9 _ rfl)
theorem dX1_free_106 : decode cX1_free 106 = .ok (.getfield 81, 3) := dz_180 (bX1_free_6 10 _ rfl) (bX1_free_6 11 _ rfl) (bX1_free_6 12 _ rfl)
theorem dX1_free_109 : decode cX1_free 109 = .ok (.iconst 1, 1) := dz_4 (bX1_free_6 13 _ rfl)
theorem dX1_free_110 : decode cX1_free 110 = .ok (.isub, 1) := dz_100 (bX1_free_6 14 _ rfl)
theorem dX1_free_111 : decode cX1_free 111 = .ok (.iload_n 2, 1) := dz_28 (bX1_free_6 15 _ rfl)
theorem dX1_free_112 : decode cX1_free 112 = .ok (.iconst 3, 1) := dz_6 (bX1_free_7 0 _ rfl)
theorem dX1_free_113 : decode cX1_free 113 = .ok (.iadd, 1) := dz_96 (bX1_free_7 1 _ rfl)
theorem dX1_free_114 : decode cX1_free 114 = .ok (.iastore, 1) := dz_79 (bX1_free_7 2 _ rfl)
theorem dX1_free_115 : decode cX1_free 115 = .ok (.goto 64, 3) := dz_167 (bX1_free_7 3 _ rfl) (bX1_free_7 4 _ rfl) (bX1_free_7 5 _ rfl)
theorem dX1_free_118 : decode cX1_free 118 = .ok (.aload_n 0, 1) := dz_42 (bX1_free_7 6 _ rfl)
theorem dX1_free_119 : decode cX1_free 119 = .ok (.invokevirtual 237, 3) := dz_182 (bX1_free_7 7 _ rfl) (bX1_free_7 8 _ rfl) (bX1_free_7 9 _ rfl)
theorem dX1_free_122 : decode cX1_free 122 = .ok (.aload_n 0, 1) := dz_42 (bX1_free_7 10 _ rfl)
theorem dX1_free_123 : decode cX1_free 123 = .ok (.invokevirtual 247, 3) := dz_182 (bX1_free_7 11 _ rfl) (bX1_free_7 12 _ rfl) (bX1_free_7 13 _ rfl)
theorem dX1_free_126 : decode cX1_free 126 = .ok (.goto 53, 3) := dz_167 (bX1_free_7 14 _ rfl) (bX1_free_7 15 _ rfl) (bX1_free_8 0 _ rfl)
theorem dX1_free_129 : decode cX1_free 129 = .ok (.aload_n 0, 1) := dz_42 (bX1_free_8 1 _ rfl)
theorem dX1_free_130 : decode cX1_free 130 = .ok (.dup, 1) := dz_89 (bX1_free_8 2 _ rfl)
theorem dX1_free_131 : decode cX1_free 131 = .ok (.getfield 78, 3) := dz_180 (bX1_free_8 3 _ rfl) (bX1_free_8 4 _ rfl) (bX1_free_8 5 _ rfl)
theorem dX1_free_134 : decode cX1_free 134 = .ok (.iconst 1, 1) := dz_4 (bX1_free_8 6 _ rfl)
theorem dX1_free_135 : decode cX1_free 135 = .ok (.isub, 1) := dz_100 (bX1_free_8 7 _ rfl)
theorem dX1_free_136 : decode cX1_free 136 = .ok (.putfield 78, 3) := dz_181 (bX1_free_8 8 _ rfl) (bX1_free_8 9 _ rfl) (bX1_free_8 10 _ rfl)
theorem dX1_free_139 : decode cX1_free 139 = .ok (.aload_n 0, 1) := dz_42 (bX1_free_8 11 _ rfl)
theorem dX1_free_140 : decode cX1_free 140 = .ok (.getfield 28, 3) := dz_180 (bX1_free_8 12 _ rfl) (bX1_free_8 13 _ rfl) (bX1_free_8 14 _ rfl)
theorem dX1_free_143 : decode cX1_free 143 = .ok (.aload_n 0, 1) := dz_42 (bX1_free_8 15 _ rfl)
theorem dX1_free_144 : decode cX1_free 144 = .ok (.getfield 81, 3) := dz_180 (bX1_free_9 0 _ rfl) (bX1_free_9 1 _ rfl) (bX1_free_9 2 _ rfl)
theorem dX1_free_147 : decode cX1_free 147 = .ok (.iconst 1, 1) := dz_4 (bX1_free_9 3 _ rfl)
theorem dX1_free_148 : decode cX1_free 148 = .ok (.isub, 1) := dz_100 (bX1_free_9 4 _ rfl)
theorem dX1_free_149 : decode cX1_free 149 = .ok (.iload_n 2, 1) := dz_28 (bX1_free_9 5 _ rfl)
theorem dX1_free_150 : decode cX1_free 150 = .ok (.iconst 1, 1) := dz_4 (bX1_free_9 6 _ rfl)
theorem dX1_free_151 : decode cX1_free 151 = .ok (.iadd, 1) := dz_96 (bX1_free_9 7 _ rfl)
theorem dX1_free_152 : decode cX1_free 152 = .ok (.iastore, 1) := dz_79 (bX1_free_9 8 _ rfl)
theorem dX1_free_153 : decode cX1_free 153 = .ok (.goto 26, 3) := dz_167 (bX1_free_9 9 _ rfl) (bX1_free_9 10 _ rfl) (bX1_free_9 11 _ rfl)
theorem dX1_free_156 : decode cX1_free 156 = .ok (.aload_n 0, 1) := dz_42 (bX1_free_9 12 _ rfl)
theorem dX1_free_157 : decode cX1_free 157 = .ok (.aload_n 0, 1) := dz_42 (bX1_free_9 13 _ rfl)
theorem dX1_free_158 : decode cX1_free 158 = .ok (.iconst 0, 1) := dz_3 (bX1_free_9 14 _ rfl)
theorem dX1_free_159 : decode cX1_free 159 = .ok (.invokevirtual 250, 3) := dz_182 (bX1_free_9 15 _ rfl) (bX1_free_10 0 _ rfl) (bX1_free_10 1 _ rfl)
theorem dX1_free_162 : decode cX1_free 162 = .ok (.invokevirtual 108, 3) := dz_182 (bX1_free_10 2 _ rfl) (bX1_free_10 3 _ rfl) (bX1_free_10 4 _ rfl)
theorem dX1_free_165 : decode cX1_free 165 = .ok (.aload_n 0, 1) := dz_42 (bX1_free_10 5 _ rfl)
theorem dX1_free_166 : decode cX1_free 166 = .ok (.getfield 28, 3) := dz_180 (bX1_free_10 6 _ rfl) (bX1_free_10 7 _ rfl) (bX1_free_10 8 _ rfl)
theorem dX1_free_169 : decode cX1_free 169 = .ok (.aload_n 0, 1) := dz_42 (bX1_free_10 9 _ rfl)
theorem dX1_free_170 : decode cX1_free 170 = .ok (.getfield 81, 3) := dz_180 (bX1_free_10 10 _ rfl) (bX1_free_10 11 _ rfl) (bX1_free_10 12 _ rfl)
theorem dX1_free_173 : decode cX1_free 173 = .ok (.iconst 1, 1) := dz_4 (bX1_free_10 13 _ rfl)
theorem dX1_free_174 : decode cX1_free 174 = .ok (.isub, 1) := dz_100 (bX1_free_10 14 _ rfl)
theorem dX1_free_175 : decode cX1_free 175 = .ok (.iload_n 2, 1) := dz_28 (bX1_free_10 15 _ rfl)
theorem dX1_free_176 : decode cX1_free 176 = .ok (.iconst 1, 1) := dz_4 (bX1_free_11 0 _ rfl)
theorem dX1_free_177 : decode cX1_free 177 = .ok (.iadd, 1) := dz_96 (bX1_free_11 1 _ rfl)
theorem dX1_free_178 : decode cX1_free 178 = .ok (.iastore, 1) := dz_79 (bX1_free_11 2 _ rfl)
theorem dX1_free_179 : decode cX1_free 179 = .ok (.return_, 1) := dz_177 (bX1_free_11 3 _ rfl)
def c_X1_free_65 (t0 : Nat) (x1 : Option Nat) (x2 : Int32) (x3 : Int32)  (w : ch_W) : Option ((Int32 × ch_W) ⊕ (ch_W)) := (ch_rc w x1 9).bind fun b2 => (c_X8_get b2 (x2 + 2) w).bind fun v3 => if x3 < v3 then ((ch_gR w (some t0) 2 fX1_pile).bind fun v8 => (ch_gR w (some t0) 2 fX1_bases).bind fun v9 => (ch_gI w (some t0) 2 fX1_open).bind fun v10 => (ch_lI w v9 21 (v10 - 1)).bind fun v11 => (ch_wL w v8 24 (v11 + x3) 0).bind fun w12 => some (.inl (x3 + 1, w12))) else ((ch_gR w (some t0) 2 fX1_places).bind fun v5 => (ch_gI w (some t0) 2 fX1_open).bind fun v6 => (ch_wI w v5 21 (v6 - 1) (x2 + 3)).bind fun w7 => some (.inr (w7)))
theorem s_X1_free_65 {g : State} {t0 : Nat} {x1 : Option Nat} {x2 : Int32} {x3 : Int32} {w : ch_W} {res : (Int32 × ch_W) ⊕ (ch_W)} {Q : Outcome → ch_W → Prop} (h : c_X1_free_65 t0 x1 x2 x3 w = some res) (hk : (ch_sm (fun s => ch_FT g true mX1_free 3 65 [some (va_rf (some t0)), some (va_rf x1), some (.int x2), some (.int s.1)] [] (s.2) Q) (ch_eV Q)) res) : ch_FT g true mX1_free 3 65 [some (va_rf (some t0)), some (va_rf x1), some (.int x2), some (.int x3)] [] (w) Q := by
  unfold c_X1_free_65 at h
  obtain ⟨b2, hb1, h⟩ := ch_bd h
  obtain ⟨v3, hp4, h⟩ := ch_bd h
  refine ch_iload_n 3 _ dX1_free_65 rfl (ch_aload_n 1 x1 dX1_free_66 rfl (ch_iload_n 2 _ dX1_free_67 rfl (ch_iconst _ 2 dX1_free_68 rfl (ch_iadd _ _ dX1_free_69 (ch_iv yX8_get prog_9_method_3_code 2 (some .int) (ci := 8) (q := (RX8, TX8, 2)) (b := b2) (d' := 2) (av := [.int (x2 + 2)]) (rest := [.int x3]) (by rw [ch_rs hb1]; rfl) dX1_free_70 q1389 q1152 rfl q1153 q1154 can_X8_get (Nat.le_of_ble_eq_true rfl) (ch_hw (Nat.le_of_ble_eq_true rfl)) (ch_rtg hb1) (cp_kI (v := v3) (w1 := w) (fun Q' hq => s_X8_get hp4 hq) ?_))))))
  refine cp_icmp_ge _ _ (tgt := 101) dX1_free_73 rfl h (fun h => ?_) (fun h => ?_)
  · refine ch_aload_n 0 (some t0) dX1_free_101 rfl (cp_gR (ci := 1) (k := 8) dX1_free_102 fl_X1_28 rfl h (fun v5 h => ?_))
    refine ch_aload_n 0 (some t0) dX1_free_105 rfl (cp_gI (ci := 1) (k := 10) dX1_free_106 fl_X1_81 rfl h (fun v6 h => ?_))
    refine ch_iconst _ 1 dX1_free_109 rfl (ch_isub _ _ dX1_free_110 (ch_iload_n 2 _ dX1_free_111 rfl (ch_iconst _ 3 dX1_free_112 rfl (ch_iadd _ _ dX1_free_113 (cp_iast (t := 21) dX1_free_114 rfl (Nat.le_of_ble_eq_true rfl) rfl h (fun w7 h => ?_))))))
    obtain rfl := Option.some.inj h
    exact ch_goto 179 dX1_free_115 rfl (ch_return dX1_free_179 rfl hk)
  · refine ch_aload_n 0 (some t0) dX1_free_76 rfl (cp_gR (ci := 1) (k := 5) dX1_free_77 fl_X1_19 rfl h (fun v8 h => ?_))
    refine ch_aload_n 0 (some t0) dX1_free_80 rfl (cp_gR (ci := 1) (k := 9) dX1_free_81 fl_X1_32 rfl h (fun v9 h => ?_))
    refine ch_aload_n 0 (some t0) dX1_free_84 rfl (cp_gI (ci := 1) (k := 10) dX1_free_85 fl_X1_81 rfl h (fun v10 h => ?_))
    refine ch_iconst _ 1 dX1_free_88 rfl (ch_isub _ _ dX1_free_89 (cp_iald (t := 21) dX1_free_90 rfl rfl h (fun v11 h => ?_)))
    refine ch_iload_n 3 _ dX1_free_91 rfl (ch_iadd _ _ dX1_free_92 (ch_lconst _ 0 dX1_free_93 rfl (cp_last (t := 24) dX1_free_94 rfl (Nat.le_of_ble_eq_true rfl) rfl h (fun w12 h => ?_))))
    refine ch_iinc 3 _ _ (x3 + 1) (ls1 := [some (va_rf (some t0)), some (va_rf x1), some (.int x2), some (.int (x3 + 1))]) dX1_free_95 rfl rfl (Nat.le_of_ble_eq_true rfl) rfl (ch_goto 65 dX1_free_98 rfl (ch_FT.wk (ch_wS (ch_wS (ch_wS (ch_wS ch_w0)))) ?_))
    obtain rfl := Option.some.inj h
    exact hk
theorem sl_X1_free_65 {g : State} {t0 : Nat} {x1 : Option Nat} {x2 : Int32} {a : Int32 × ch_W} {res : ch_W} {Q : Outcome → ch_W → Prop} (h : ch_loop (fun (s : Int32 × ch_W) => c_X1_free_65 t0 x1 x2 s.1 s.2) a = some res) (hk : (ch_eV Q) res) : ch_FT g true mX1_free 3 65 [some (va_rf (some t0)), some (va_rf x1), some (.int x2), some (.int a.1)] [] (a.2) Q := by
  refine ch_loop_ind (fun (a : Int32 × ch_W) (r : ch_W) => (ch_eV Q) r → ch_FT g true mX1_free 3 65 [some (va_rf (some t0)), some (va_rf x1), some (.int x2), some (.int a.1)] [] (a.2) Q) ?_ ?_ a res h hk
  · intro a a2 b h1 ih hk
    exact s_X1_free_65  h1 (ih hk)
  · intro a b h1 hk
    exact s_X1_free_65  h1 hk

def c_X1_free (t0 : Nat) (x1 : Option Nat) (x2 : Int32) (w : ch_W) : Option (ch_W) := (ch_rc w x1 9).bind fun b2 => (c_X8_get b2 x2 w).bind fun v3 => if v3 = 28 then ((ch_gR w (some t0) 2 fX1_places).bind fun v14 => (ch_gI w (some t0) 2 fX1_open).bind fun v15 => (ch_rc w x1 9).bind fun b17 => (c_X8_get b17 (x2 + 1) w).bind fun v18 => (ch_wI w v14 21 (v15 - 1) v18).bind fun w20 => some (w20)) else (if v3 = 29 then ((ch_rc w x1 9).bind fun b22 => (c_X8_get b22 (x2 + 1) w).bind fun v23 => ch_loop (fun (s : Int32 × ch_W) => c_X1_free_65 t0 x1 x2 s.1 s.2) (v23, w)) else (if v3 = 30 then ((ch_rc w (some t0) 2).bind fun _ => (c_X1_leave t0 w).bind fun p26 => (ch_rc p26 (some t0) 2).bind fun _ => (c_X1_goOn t0 p26).bind fun p29 => some (p29)) else (if v3 = 31 then ((ch_gI w (some t0) 2 fX1_top).bind fun v31 => (ch_pI w (some t0) 2 fX1_top (v31 - 1)).bind fun w32 => (ch_gR w32 (some t0) 2 fX1_places).bind fun v33 => (ch_gI w32 (some t0) 2 fX1_open).bind fun v34 => (ch_wI w32 v33 21 (v34 - 1) (x2 + 1)).bind fun w35 => some (w35)) else ((ch_rc w (some t0) 2).bind fun _ => (c_X1_local t0 0 w).bind fun v6 => (ch_rc w (some t0) 2).bind fun _ => (c_X1_push t0 v6 w).bind fun p9 => (ch_gR p9 (some t0) 2 fX1_places).bind fun v11 => (ch_gI p9 (some t0) 2 fX1_open).bind fun v12 => (ch_wI p9 v11 21 (v12 - 1) (x2 + 1)).bind fun w13 => some (w13)))))
theorem s_X1_free {g : State} {t0 : Nat} {x1 : Option Nat} {x2 : Int32} {w : ch_W} {res : ch_W} {Q : Outcome → ch_W → Prop} (h : c_X1_free t0 x1 x2 w = some res) (hk : (ch_eV Q) res) : ch_CT g true yX1_free 3 [.ref t0, va_rf x1, .int x2] (w) Q := by
  unfold c_X1_free at h
  refine ch_ctL mX1_free (ls := [some (va_rf (some t0)), some (va_rf x1), some (.int x2), none]) q1393 rfl (ch_lyr (r := some t0) (ch_lyr (r := x1) (ch_lyi ch_ly0))) (Nat.le_of_ble_eq_true rfl) rfl ?_
  obtain ⟨b2, hb1, h⟩ := ch_bd h
  obtain ⟨v3, hp4, h⟩ := ch_bd h
  refine ch_aload_n 1 x1 dX1_free_0 rfl (ch_iload_n 2 _ dX1_free_1 rfl (ch_iv yX8_get prog_9_method_3_code 2 (some .int) (ci := 8) (q := (RX8, TX8, 2)) (b := b2) (d' := 2) (av := [.int x2]) (rest := []) (by rw [ch_rs hb1]; rfl) dX1_free_2 q1389 q1152 rfl q1153 q1154 can_X8_get (Nat.le_of_ble_eq_true rfl) (Nat.le_of_ble_eq_true rfl) (ch_rtg hb1) (cp_kI (v := v3) (w1 := w) (fun Q' hq => s_X8_get hp4 hq) ?_)))
  by_cases e0 : v3 = 28
  · have h := ch_ifT e0 h
    refine ch_tableIn _ (off := 31) (tgt := 36) dX1_free_5 (by rw [e0]; decide) (by rw [e0]; decide) (by rw [e0]; rfl) rfl ?_
    refine ch_aload_n 0 (some t0) dX1_free_36 rfl (cp_gR (ci := 1) (k := 8) dX1_free_37 fl_X1_28 rfl h (fun v14 h => ?_))
    refine ch_aload_n 0 (some t0) dX1_free_40 rfl (cp_gI (ci := 1) (k := 10) dX1_free_41 fl_X1_81 rfl h (fun v15 h => ?_))
    obtain ⟨b17, hb16, h⟩ := ch_bd h
    obtain ⟨v18, hp19, h⟩ := ch_bd h
    refine ch_iconst _ 1 dX1_free_44 rfl (ch_isub _ _ dX1_free_45 (ch_aload_n 1 x1 dX1_free_46 rfl (ch_iload_n 2 _ dX1_free_47 rfl (ch_iconst _ 1 dX1_free_48 rfl (ch_iadd _ _ dX1_free_49 (ch_iv yX8_get prog_9_method_3_code 2 (some .int) (ci := 8) (q := (RX8, TX8, 2)) (b := b17) (d' := 2) (av := [.int (x2 + 1)]) (rest := [.int (v15 - 1), va_rf v14]) (by rw [ch_rs hb16]; rfl) dX1_free_50 q1389 q1152 rfl q1153 q1154 can_X8_get (Nat.le_of_ble_eq_true rfl) (ch_hw (Nat.le_of_ble_eq_true rfl)) (ch_rtg hb16) (cp_kI (v := v18) (w1 := w) (fun Q' hq => s_X8_get hp19 hq) ?_)))))))
    refine cp_iast (t := 21) dX1_free_53 rfl (Nat.le_of_ble_eq_true rfl) rfl h (fun w20 h => ?_)
    obtain rfl := Option.some.inj h
    exact ch_goto 179 dX1_free_54 rfl (ch_return dX1_free_179 rfl hk)
  replace h := ch_ifF e0 h
  by_cases e1 : v3 = 29
  · have h := ch_ifT e1 h
    refine ch_tableIn _ (off := 52) (tgt := 57) dX1_free_5 (by rw [e1]; decide) (by rw [e1]; decide) (by rw [e1]; rfl) rfl ?_
    obtain ⟨b22, hb21, h⟩ := ch_bd h
    obtain ⟨v23, hp24, h⟩ := ch_bd h
    refine ch_aload_n 1 x1 dX1_free_57 rfl (ch_iload_n 2 _ dX1_free_58 rfl (ch_iconst _ 1 dX1_free_59 rfl (ch_iadd _ _ dX1_free_60 (ch_iv yX8_get prog_9_method_3_code 2 (some .int) (ci := 8) (q := (RX8, TX8, 2)) (b := b22) (d' := 2) (av := [.int (x2 + 1)]) (rest := []) (by rw [ch_rs hb21]; rfl) dX1_free_61 q1389 q1152 rfl q1153 q1154 can_X8_get (Nat.le_of_ble_eq_true rfl) (Nat.le_of_ble_eq_true rfl) (ch_rtg hb21) (cp_kI (v := v23) (w1 := w) (fun Q' hq => s_X8_get hp24 hq) ?_)))))
    exact ch_istore_n 3 _ (ls1 := [some (va_rf (some t0)), some (va_rf x1), some (.int x2), some (.int v23)]) dX1_free_64 (Nat.le_of_ble_eq_true rfl) rfl (ch_FT.wk (ch_wS (ch_wS (ch_wS (ch_wS ch_w0)))) (sl_X1_free_65  h hk))
  replace h := ch_ifF e1 h
  by_cases e2 : v3 = 30
  · have h := ch_ifT e2 h
    refine ch_tableIn _ (off := 113) (tgt := 118) dX1_free_5 (by rw [e2]; decide) (by rw [e2]; decide) (by rw [e2]; rfl) rfl ?_
    obtain ⟨_, hb25, h⟩ := ch_bd h
    obtain ⟨p26, hp27, h⟩ := ch_bd h
    refine ch_aload_n 0 (some t0) dX1_free_118 rfl (ch_iv yX1_leave prog_5_method_16_code 1 none (ci := 1) (q := (RX1, TX1, 22)) (b := t0) (d' := 2) (av := []) (rest := []) rfl dX1_free_119 q1394 q1396 rfl qs76 q1397 can_X1_leave (Nat.le_of_ble_eq_true rfl) (Nat.le_of_ble_eq_true rfl) (ch_rts hb25) (cp_kV (w1 := p26) (fun Q' hq => s_X1_leave hp27 hq) ?_))
    obtain ⟨_, hb28, h⟩ := ch_bd h
    obtain ⟨p29, hp30, h⟩ := ch_bd h
    refine ch_aload_n 0 (some t0) dX1_free_122 rfl (ch_iv yX1_goOn prog_5_method_25_code 1 none (ci := 1) (q := (RX1, TX1, 22)) (b := t0) (d' := 2) (av := []) (rest := []) rfl dX1_free_123 q1398 q1400 rfl qs77 q1401 can_X1_goOn (Nat.le_of_ble_eq_true rfl) (Nat.le_of_ble_eq_true rfl) (ch_rts hb28) (cp_kV (w1 := p29) (fun Q' hq => s_X1_goOn hp30 hq) ?_))
    obtain rfl := Option.some.inj h
    exact ch_goto 179 dX1_free_126 rfl (ch_return dX1_free_179 rfl hk)
  replace h := ch_ifF e2 h
  by_cases e3 : v3 = 31
  · have h := ch_ifT e3 h
    refine ch_tableIn _ (off := 124) (tgt := 129) dX1_free_5 (by rw [e3]; decide) (by rw [e3]; decide) (by rw [e3]; rfl) rfl ?_
    refine ch_aload_n 0 (some t0) dX1_free_129 rfl (ch_dup dX1_free_130 (ch_cat _) (cp_gI (ci := 1) (k := 6) dX1_free_131 fl_X1_78 rfl h (fun v31 h => ?_)))
    refine ch_iconst _ 1 dX1_free_134 rfl (ch_isub _ _ dX1_free_135 (cp_pI (ci := 1) (k := 6) dX1_free_136 fl_X1_78 rfl rfl rfl h (fun w32 h => ?_)))
    refine ch_aload_n 0 (some t0) dX1_free_139 rfl (cp_gR (ci := 1) (k := 8) dX1_free_140 fl_X1_28 rfl h (fun v33 h => ?_))
    refine ch_aload_n 0 (some t0) dX1_free_143 rfl (cp_gI (ci := 1) (k := 10) dX1_free_144 fl_X1_81 rfl h (fun v34 h => ?_))
    refine ch_iconst _ 1 dX1_free_147 rfl (ch_isub _ _ dX1_free_148 (ch_iload_n 2 _ dX1_free_149 rfl (ch_iconst _ 1 dX1_free_150 rfl (ch_iadd _ _ dX1_free_151 (cp_iast (t := 21) dX1_free_152 rfl (Nat.le_of_ble_eq_true rfl) rfl h (fun w35 h => ?_))))))
    obtain rfl := Option.some.inj h
    exact ch_goto 179 dX1_free_153 rfl (ch_return dX1_free_179 rfl hk)
  replace h := ch_ifF e3 h
  refine ch_tableOut _ (tgt := 156) dX1_free_5 (by have t0 := ch_ne (n := 28) e0 rfl; have t1 := ch_ne (n := 29) e1 rfl; have t2 := ch_ne (n := 30) e2 rfl; have t3 := ch_ne (n := 31) e3 rfl; omega) rfl ?_
  obtain ⟨_, hb5, h⟩ := ch_bd h
  obtain ⟨v6, hp7, h⟩ := ch_bd h
  refine ch_aload_n 0 (some t0) dX1_free_156 rfl (ch_aload_n 0 (some t0) dX1_free_157 rfl (ch_iconst _ 0 dX1_free_158 rfl (ch_iv yX1_local prog_5_method_17_code 2 (some .long) (ci := 1) (q := (RX1, TX1, 22)) (b := t0) (d' := 2) (av := [.int 0]) (rest := [va_rf (some t0)]) rfl dX1_free_159 q1402 q1404 rfl qs78 q1405 can_X1_local (Nat.le_of_ble_eq_true rfl) (ch_hw (Nat.le_of_ble_eq_true rfl)) (ch_rts hb5) (cp_kL (v := v6) (w1 := w) (fun Q' hq => s_X1_local hp7 hq) ?_))))
  obtain ⟨_, hb8, h⟩ := ch_bd h
  obtain ⟨p9, hp10, h⟩ := ch_bd h
  refine ch_iv yX1_push prog_5_method_12_code 3 none (ci := 1) (q := (RX1, TX1, 22)) (b := t0) (d' := 2) (av := [.long v6]) (rest := []) rfl dX1_free_162 q1377 q1379 rfl qs72 q1380 can_X1_push (Nat.le_of_ble_eq_true rfl) (Nat.le_of_ble_eq_true rfl) (ch_rts hb8) (cp_kV (w1 := p9) (fun Q' hq => s_X1_push hp10 hq) ?_)
  refine ch_aload_n 0 (some t0) dX1_free_165 rfl (cp_gR (ci := 1) (k := 8) dX1_free_166 fl_X1_28 rfl h (fun v11 h => ?_))
  refine ch_aload_n 0 (some t0) dX1_free_169 rfl (cp_gI (ci := 1) (k := 10) dX1_free_170 fl_X1_81 rfl h (fun v12 h => ?_))
  refine ch_iconst _ 1 dX1_free_173 rfl (ch_isub _ _ dX1_free_174 (ch_iload_n 2 _ dX1_free_175 rfl (ch_iconst _ 1 dX1_free_176 rfl (ch_iadd _ _ dX1_free_177 (cp_iast (t := 21) dX1_free_178 rfl (Nat.le_of_ble_eq_true rfl) rfl h (fun w13 h => ?_))))))
  obtain rfl := Option.some.inj h
  exact ch_return dX1_free_179 rfl hk

theorem bX1_settle_0 : ch_ck cX1_settle 0 [42, 180, 0, 96, 154, 0, 14, 42, 180, 0, 81, 158, 0, 7, 4, 167] := ch_ckof (by decide +kernel)
theorem bX1_settle_1 : ch_ck cX1_settle 16 [0, 4, 3, 60, 27, 153, 0, 72, 42, 180, 0, 24, 42, 180, 0, 81] := ch_ckof (by decide +kernel)
theorem bX1_settle_2 : ch_ck cX1_settle 32 [4, 100, 50, 180, 0, 240, 77, 42, 180, 0, 28, 42, 180, 0, 81, 4] := ch_ckof (by decide +kernel)
theorem bX1_settle_3 : ch_ck cX1_settle 48 [100, 46, 62, 44, 29, 182, 0, 231, 16, 28, 161, 0, 7, 4, 167, 0] := ch_ckof (by decide +kernel)
theorem bX1_settle_4 : ch_ck cX1_settle 64 [4, 3, 60, 27, 153, 0, 22, 42, 44, 29, 182, 0, 243, 42, 180, 0] := ch_ckof (by decide +kernel)
theorem bX1_settle_5 : ch_ck cX1_settle 80 [81, 158, 0, 7, 4, 167, 0, 4, 3, 60, 167, 255, 186, 177] := ch_ckof (by decide +kernel)
theorem dX1_settle_0 : decode cX1_settle 0 = .ok (.aload_n 0, 1) := dz_42 (bX1_settle_0 0 _ rfl)
theorem dX1_settle_1 : decode cX1_settle 1 = .ok (.getfield 96, 3) := dz_180 (bX1_settle_0 1 _ rfl) (bX1_settle_0 2 _ rfl) (bX1_settle_0 3 _ rfl)
theorem dX1_settle_4 : decode cX1_settle 4 = .ok (.ifCond .ne 14, 3) := dz_154 (bX1_settle_0 4 _ rfl) (bX1_settle_0 5 _ rfl) (bX1_settle_0 6 _ rfl)
theorem dX1_settle_7 : decode cX1_settle 7 = .ok (.aload_n 0, 1) := dz_42 (bX1_settle_0 7 _ rfl)
theorem dX1_settle_8 : decode cX1_settle 8 = .ok (.getfield 81, 3) := dz_180 (bX1_settle_0 8 _ rfl) (bX1_settle_0 9 _ rfl) (bX1_settle_0 10 _ rfl)
theorem dX1_settle_11 : decode cX1_settle 11 = .ok (.ifCond .le 7, 3) := dz_158 (bX1_settle_0 11 _ rfl) (bX1_settle_0 12 _ rfl) (bX1_settle_0 13 _ rfl)
theorem dX1_settle_14 : decode cX1_settle 14 = .ok (.iconst 1, 1) := dz_4 (bX1_settle_0 14 _ rfl)
theorem dX1_settle_15 : decode cX1_settle 15 = .ok (.goto 4, 3) := dz_167 (bX1_settle_0 15 _ rfl) (bX1_settle_1 0 _ rfl) (bX1_settle_1 1 _ rfl)
theorem dX1_settle_18 : decode cX1_settle 18 = .ok (.iconst 0, 1) := dz_3 (bX1_settle_1 2 _ rfl)
theorem dX1_settle_19 : decode cX1_settle 19 = .ok (.istore_n 1, 1) := dz_60 (bX1_settle_1 3 _ rfl)
theorem dX1_settle_20 : decode cX1_settle 20 = .ok (.iload_n 1, 1) := dz_27 (bX1_settle_1 4 _ rfl)
theorem dX1_settle_21 : decode cX1_settle 21 = .ok (.ifCond .eq 72, 3) := dz_153 (bX1_settle_1 5 _ rfl) (bX1_settle_1 6 _ rfl) (bX1_settle_1 7 _ rfl)
theorem dX1_settle_24 : decode cX1_settle 24 = .ok (.aload_n 0, 1) := dz_42 (bX1_settle_1 8 _ rfl)
theorem dX1_settle_25 : decode cX1_settle 25 = .ok (.getfield 24, 3) := dz_180 (bX1_settle_1 9 _ rfl) (bX1_settle_1 10 _ rfl) (bX1_settle_1 11 _ rfl)
theorem dX1_settle_28 : decode cX1_settle 28 = .ok (.aload_n 0, 1) := dz_42 (bX1_settle_1 12 _ rfl)
theorem dX1_settle_29 : decode cX1_settle 29 = .ok (.getfield 81, 3) := dz_180 (bX1_settle_1 13 _ rfl) (bX1_settle_1 14 _ rfl) (bX1_settle_1 15 _ rfl)
theorem dX1_settle_32 : decode cX1_settle 32 = .ok (.iconst 1, 1) := dz_4 (bX1_settle_2 0 _ rfl)
theorem dX1_settle_33 : decode cX1_settle 33 = .ok (.isub, 1) := dz_100 (bX1_settle_2 1 _ rfl)
theorem dX1_settle_34 : decode cX1_settle 34 = .ok (.aaload, 1) := dz_50 (bX1_settle_2 2 _ rfl)
theorem dX1_settle_35 : decode cX1_settle 35 = .ok (.getfield 240, 3) := dz_180 (bX1_settle_2 3 _ rfl) (bX1_settle_2 4 _ rfl) (bX1_settle_2 5 _ rfl)
theorem dX1_settle_38 : decode cX1_settle 38 = .ok (.astore_n 2, 1) := dz_77 (bX1_settle_2 6 _ rfl)
theorem dX1_settle_39 : decode cX1_settle 39 = .ok (.aload_n 0, 1) := dz_42 (bX1_settle_2 7 _ rfl)
theorem dX1_settle_40 : decode cX1_settle 40 = .ok (.getfield 28, 3) := dz_180 (bX1_settle_2 8 _ rfl) (bX1_settle_2 9 _ rfl) (bX1_settle_2 10 _ rfl)
theorem dX1_settle_43 : decode cX1_settle 43 = .ok (.aload_n 0, 1) := dz_42 (bX1_settle_2 11 _ rfl)
theorem dX1_settle_44 : decode cX1_settle 44 = .ok (.getfield 81, 3) := dz_180 (bX1_settle_2 12 _ rfl) (bX1_settle_2 13 _ rfl) (bX1_settle_2 14 _ rfl)
theorem dX1_settle_47 : decode cX1_settle 47 = .ok (.iconst 1, 1) := dz_4 (bX1_settle_2 15 _ rfl)
theorem dX1_settle_48 : decode cX1_settle 48 = .ok (.isub, 1) := dz_100 (bX1_settle_3 0 _ rfl)
theorem dX1_settle_49 : decode cX1_settle 49 = .ok (.iaload, 1) := dz_46 (bX1_settle_3 1 _ rfl)
theorem dX1_settle_50 : decode cX1_settle 50 = .ok (.istore_n 3, 1) := dz_62 (bX1_settle_3 2 _ rfl)
theorem dX1_settle_51 : decode cX1_settle 51 = .ok (.aload_n 2, 1) := dz_44 (bX1_settle_3 3 _ rfl)
theorem dX1_settle_52 : decode cX1_settle 52 = .ok (.iload_n 3, 1) := dz_29 (bX1_settle_3 4 _ rfl)
theorem dX1_settle_53 : decode cX1_settle 53 = .ok (.invokevirtual 231, 3) := dz_182 (bX1_settle_3 5 _ rfl) (bX1_settle_3 6 _ rfl) (bX1_settle_3 7 _ rfl)
theorem dX1_settle_56 : decode cX1_settle 56 = .ok (.bipush 28, 2) := dz_16 (bX1_settle_3 8 _ rfl) (bX1_settle_3 9 _ rfl)
theorem dX1_settle_58 : decode cX1_settle 58 = .ok (.if_icmp .lt 7, 3) := dz_161 (bX1_settle_3 10 _ rfl) (bX1_settle_3 11 _ rfl) (bX1_settle_3 12 _ rfl)
theorem dX1_settle_61 : decode cX1_settle 61 = .ok (.iconst 1, 1) := dz_4 (bX1_settle_3 13 _ rfl)
theorem dX1_settle_62 : decode cX1_settle 62 = .ok (.goto 4, 3) := dz_167 (bX1_settle_3 14 _ rfl) (bX1_settle_3 15 _ rfl) (bX1_settle_4 0 _ rfl)
theorem dX1_settle_65 : decode cX1_settle 65 = .ok (.iconst 0, 1) := dz_3 (bX1_settle_4 1 _ rfl)
theorem dX1_settle_66 : decode cX1_settle 66 = .ok (.istore_n 1, 1) := dz_60 (bX1_settle_4 2 _ rfl)
theorem dX1_settle_67 : decode cX1_settle 67 = .ok (.iload_n 1, 1) := dz_27 (bX1_settle_4 3 _ rfl)
theorem dX1_settle_68 : decode cX1_settle 68 = .ok (.ifCond .eq 22, 3) := dz_153 (bX1_settle_4 4 _ rfl) (bX1_settle_4 5 _ rfl) (bX1_settle_4 6 _ rfl)
theorem dX1_settle_71 : decode cX1_settle 71 = .ok (.aload_n 0, 1) := dz_42 (bX1_settle_4 7 _ rfl)
theorem dX1_settle_72 : decode cX1_settle 72 = .ok (.aload_n 2, 1) := dz_44 (bX1_settle_4 8 _ rfl)
theorem dX1_settle_73 : decode cX1_settle 73 = .ok (.iload_n 3, 1) := dz_29 (bX1_settle_4 9 _ rfl)
theorem dX1_settle_74 : decode cX1_settle 74 = .ok (.invokevirtual 243, 3) := dz_182 (bX1_settle_4 10 _ rfl) (bX1_settle_4 11 _ rfl) (bX1_settle_4 12 _ rfl)
theorem dX1_settle_77 : decode cX1_settle 77 = .ok (.aload_n 0, 1) := dz_42 (bX1_settle_4 13 _ rfl)
theorem dX1_settle_78 : decode cX1_settle 78 = .ok (.getfield 81, 3) := dz_180 (bX1_settle_4 14 _ rfl) (bX1_settle_4 15 _ rfl) (bX1_settle_5 0 _ rfl)
theorem dX1_settle_81 : decode cX1_settle 81 = .ok (.ifCond .le 7, 3) := dz_158 (bX1_settle_5 1 _ rfl) (bX1_settle_5 2 _ rfl) (bX1_settle_5 3 _ rfl)
theorem dX1_settle_84 : decode cX1_settle 84 = .ok (.iconst 1, 1) := dz_4 (bX1_settle_5 4 _ rfl)
theorem dX1_settle_85 : decode cX1_settle 85 = .ok (.goto 4, 3) := dz_167 (bX1_settle_5 5 _ rfl) (bX1_settle_5 6 _ rfl) (bX1_settle_5 7 _ rfl)
theorem dX1_settle_88 : decode cX1_settle 88 = .ok (.iconst 0, 1) := dz_3 (bX1_settle_5 8 _ rfl)
theorem dX1_settle_89 : decode cX1_settle 89 = .ok (.istore_n 1, 1) := dz_60 (bX1_settle_5 9 _ rfl)
theorem dX1_settle_90 : decode cX1_settle 90 = .ok (.goto (-70), 3) := dz_167 (bX1_settle_5 10 _ rfl) (bX1_settle_5 11 _ rfl) (bX1_settle_5 12 _ rfl)
theorem dX1_settle_93 : decode cX1_settle 93 = .ok (.return_, 1) := dz_177 (bX1_settle_5 13 _ rfl)
def c_X1_settle_66 (t0 : Nat) (x2 : Option Nat) (x3 : Int32) (y0 : Int32) (w : ch_W) : Option ((Int32 × ch_W) ⊕ (ch_W)) := if y0 = 0 then (some (.inl (y0, w))) else ((ch_rc w (some t0) 2).bind fun _ => (c_X1_free t0 x2 x3 w).bind fun p2 => (ch_gI p2 (some t0) 2 fX1_open).bind fun v4 => if 0 < v4 then (some (.inl (1, p2))) else (some (.inl (0, p2))))
theorem s_X1_settle_66 {g : State} {t0 : Nat} {x2 : Option Nat} {x3 : Int32} {y0 : Int32} {w : ch_W} {res : (Int32 × ch_W) ⊕ (ch_W)} {Q : Outcome → ch_W → Prop} (h : c_X1_settle_66 t0 x2 x3 y0 w = some res) (hk : (ch_sm (fun s => ch_FT g true mX1_settle 4 20 [some (va_rf (some t0)), some (.int s.1), none, none] [] (s.2) Q) (ch_eV Q)) res) : ch_FT g true mX1_settle 4 66 [some (va_rf (some t0)), none, some (va_rf x2), some (.int x3)] [.int y0] (w) Q := by
  unfold c_X1_settle_66 at h
  refine ch_istore_n 1 _ (ls1 := [some (va_rf (some t0)), some (.int y0), some (va_rf x2), some (.int x3)]) dX1_settle_66 (Nat.le_of_ble_eq_true rfl) rfl (ch_iload_n 1 _ dX1_settle_67 rfl (cp_if_eq _ (tgt := 90) dX1_settle_68 rfl h (fun h => ?_) (fun h => ?_)))
  · refine ch_goto 20 dX1_settle_90 rfl (ch_FT.wk (ch_wS (ch_wS (ch_wN (ch_wN ch_w0)))) ?_)
    obtain rfl := Option.some.inj h
    exact hk
  · obtain ⟨_, hb1, h⟩ := ch_bd h
    obtain ⟨p2, hp3, h⟩ := ch_bd h
    refine ch_aload_n 0 (some t0) dX1_settle_71 rfl (ch_aload_n 2 x2 dX1_settle_72 rfl (ch_iload_n 3 _ dX1_settle_73 rfl (ch_iv yX1_free prog_5_method_24_code 4 none (ci := 1) (q := (RX1, TX1, 22)) (b := t0) (d' := 3) (av := [va_rf x2, .int x3]) (rest := []) rfl dX1_settle_74 q1390 q1392 rfl qs75 q1393 can_X1_free (Nat.le_of_ble_eq_true rfl) (Nat.le_of_ble_eq_true rfl) (ch_rts hb1) (cp_kV (w1 := p2) (fun Q' hq => s_X1_free hp3 hq) ?_))))
    refine ch_aload_n 0 (some t0) dX1_settle_77 rfl (cp_gI (ci := 1) (k := 10) dX1_settle_78 fl_X1_81 rfl h (fun v4 h => ?_))
    refine cp_if_le _ (tgt := 88) dX1_settle_81 rfl h (fun h => ?_) (fun h => ?_)
    · refine ch_iconst _ 0 dX1_settle_88 rfl (ch_istore_n 1 _ (ls1 := [some (va_rf (some t0)), some (.int 0), some (va_rf x2), some (.int x3)]) dX1_settle_89 (Nat.le_of_ble_eq_true rfl) rfl (ch_goto 20 dX1_settle_90 rfl (ch_FT.wk (ch_wS (ch_wS (ch_wN (ch_wN ch_w0)))) ?_)))
      obtain rfl := Option.some.inj h
      exact hk
    · refine ch_iconst _ 1 dX1_settle_84 rfl (ch_goto 89 dX1_settle_85 rfl (ch_istore_n 1 _ (ls1 := [some (va_rf (some t0)), some (.int 1), some (va_rf x2), some (.int x3)]) dX1_settle_89 (Nat.le_of_ble_eq_true rfl) rfl (ch_goto 20 dX1_settle_90 rfl (ch_FT.wk (ch_wS (ch_wS (ch_wN (ch_wN ch_w0)))) ?_))))
      obtain rfl := Option.some.inj h
      exact hk

def c_X1_settle_20 (t0 : Nat) (x1 : Int32)  (w : ch_W) : Option ((Int32 × ch_W) ⊕ (ch_W)) := if x1 = 0 then (some (.inr (w))) else ((ch_gR w (some t0) 2 fX1_methods).bind fun v1 => (ch_gI w (some t0) 2 fX1_open).bind fun v2 => (ch_lR w v1 26 (v2 - 1)).bind fun v3 => (ch_gR w v3 8 fX7_code).bind fun v4 => (ch_gR w (some t0) 2 fX1_places).bind fun v5 => (ch_gI w (some t0) 2 fX1_open).bind fun v6 => (ch_lI w v5 21 (v6 - 1)).bind fun v7 => (ch_rc w v4 9).bind fun b9 => (c_X8_get b9 v7 w).bind fun v10 => if v10 < 28 then (c_X1_settle_66 t0 v4 v7 0 w) else (c_X1_settle_66 t0 v4 v7 1 w))
theorem s_X1_settle_20 {g : State} {t0 : Nat} {x1 : Int32} {w : ch_W} {res : (Int32 × ch_W) ⊕ (ch_W)} {Q : Outcome → ch_W → Prop} (h : c_X1_settle_20 t0 x1 w = some res) (hk : (ch_sm (fun s => ch_FT g true mX1_settle 4 20 [some (va_rf (some t0)), some (.int s.1), none, none] [] (s.2) Q) (ch_eV Q)) res) : ch_FT g true mX1_settle 4 20 [some (va_rf (some t0)), some (.int x1), none, none] [] (w) Q := by
  unfold c_X1_settle_20 at h
  refine ch_iload_n 1 _ dX1_settle_20 rfl (cp_if_eq _ (tgt := 93) dX1_settle_21 rfl h (fun h => ?_) (fun h => ?_))
  · obtain rfl := Option.some.inj h
    exact ch_return dX1_settle_93 rfl hk
  · refine ch_aload_n 0 (some t0) dX1_settle_24 rfl (cp_gR (ci := 1) (k := 7) dX1_settle_25 fl_X1_24 rfl h (fun v1 h => ?_))
    refine ch_aload_n 0 (some t0) dX1_settle_28 rfl (cp_gI (ci := 1) (k := 10) dX1_settle_29 fl_X1_81 rfl h (fun v2 h => ?_))
    refine ch_iconst _ 1 dX1_settle_32 rfl (ch_isub _ _ dX1_settle_33 (cp_aald (t := 26) dX1_settle_34 rfl rfl h (fun v3 h => ?_)))
    refine cp_gR (ci := 7) (k := 8) dX1_settle_35 fl_X1_240 rfl h (fun v4 h => ?_)
    refine ch_astore_n 2 v4 (ls1 := [some (va_rf (some t0)), some (.int x1), some (va_rf v4), none]) dX1_settle_38 (Nat.le_of_ble_eq_true rfl) rfl (ch_aload_n 0 (some t0) dX1_settle_39 rfl (cp_gR (ci := 1) (k := 8) dX1_settle_40 fl_X1_28 rfl h (fun v5 h => ?_)))
    refine ch_aload_n 0 (some t0) dX1_settle_43 rfl (cp_gI (ci := 1) (k := 10) dX1_settle_44 fl_X1_81 rfl h (fun v6 h => ?_))
    refine ch_iconst _ 1 dX1_settle_47 rfl (ch_isub _ _ dX1_settle_48 (cp_iald (t := 21) dX1_settle_49 rfl rfl h (fun v7 h => ?_)))
    obtain ⟨b9, hb8, h⟩ := ch_bd h
    obtain ⟨v10, hp11, h⟩ := ch_bd h
    refine ch_istore_n 3 _ (ls1 := [some (va_rf (some t0)), some (.int x1), some (va_rf v4), some (.int v7)]) dX1_settle_50 (Nat.le_of_ble_eq_true rfl) (ch_s1o rfl rfl) (ch_aload_n 2 v4 dX1_settle_51 rfl (ch_iload_n 3 _ dX1_settle_52 rfl (ch_iv yX8_get prog_9_method_3_code 2 (some .int) (ci := 8) (q := (RX8, TX8, 2)) (b := b9) (d' := 2) (av := [.int v7]) (rest := []) (by rw [ch_rs hb8]; rfl) dX1_settle_53 q1389 q1152 rfl q1153 q1154 can_X8_get (Nat.le_of_ble_eq_true rfl) (Nat.le_of_ble_eq_true rfl) (ch_rtg hb8) (cp_kI (v := v10) (w1 := w) (fun Q' hq => s_X8_get hp11 hq) ?_))))
    refine ch_bipush _ 28 dX1_settle_56 rfl (cp_icmp_lt _ _ (tgt := 65) dX1_settle_58 rfl h (fun h => ?_) (fun h => ?_))
    · exact ch_iconst _ 0 dX1_settle_65 rfl (ch_FT.wk (ch_wS (ch_wN (ch_wS (ch_wS ch_w0)))) (s_X1_settle_66  h hk))
    · exact ch_iconst _ 1 dX1_settle_61 rfl (ch_goto 66 dX1_settle_62 rfl (ch_FT.wk (ch_wS (ch_wN (ch_wS (ch_wS ch_w0)))) (s_X1_settle_66  h hk)))
theorem sl_X1_settle_20 {g : State} {t0 : Nat} {a : Int32 × ch_W} {res : ch_W} {Q : Outcome → ch_W → Prop} (h : ch_loop (fun (s : Int32 × ch_W) => c_X1_settle_20 t0 s.1 s.2) a = some res) (hk : (ch_eV Q) res) : ch_FT g true mX1_settle 4 20 [some (va_rf (some t0)), some (.int a.1), none, none] [] (a.2) Q := by
  refine ch_loop_ind (fun (a : Int32 × ch_W) (r : ch_W) => (ch_eV Q) r → ch_FT g true mX1_settle 4 20 [some (va_rf (some t0)), some (.int a.1), none, none] [] (a.2) Q) ?_ ?_ a res h hk
  · intro a a2 b h1 ih hk
    exact s_X1_settle_20  h1 (ih hk)
  · intro a b h1 hk
    exact s_X1_settle_20  h1 hk

def c_X1_settle (t0 : Nat)  (w : ch_W) : Option (ch_W) := (ch_gI w (some t0) 2 fX1_ended).bind fun v1 => if v1 = 0 then ((ch_gI w (some t0) 2 fX1_open).bind fun v2 => if 0 < v2 then (ch_loop (fun (s : Int32 × ch_W) => c_X1_settle_20 t0 s.1 s.2) (1, w)) else (ch_loop (fun (s : Int32 × ch_W) => c_X1_settle_20 t0 s.1 s.2) (0, w))) else (ch_loop (fun (s : Int32 × ch_W) => c_X1_settle_20 t0 s.1 s.2) (0, w))
theorem s_X1_settle {g : State} {t0 : Nat} {w : ch_W} {res : ch_W} {Q : Outcome → ch_W → Prop} (h : c_X1_settle t0 w = some res) (hk : (ch_eV Q) res) : ch_CT g true yX1_settle 4 [.ref t0] (w) Q := by
  unfold c_X1_settle at h
  refine ch_ctL mX1_settle (ls := [some (va_rf (some t0)), none, none, none]) q1388 rfl (ch_lyr (r := some t0) ch_ly0) (Nat.le_of_ble_eq_true rfl) rfl ?_
  refine ch_aload_n 0 (some t0) dX1_settle_0 rfl (cp_gI (ci := 1) (k := 19) dX1_settle_1 fl_X1_96 rfl h (fun v1 h => ?_))
  refine cp_if_ne _ (tgt := 18) dX1_settle_4 rfl h (fun h => ?_) (fun h => ?_)
  · exact ch_iconst _ 0 dX1_settle_18 rfl (ch_istore_n 1 _ (ls1 := [some (va_rf (some t0)), some (.int 0), none, none]) dX1_settle_19 (Nat.le_of_ble_eq_true rfl) rfl (ch_FT.wk (ch_wS (ch_wS (ch_wN (ch_wN ch_w0)))) (sl_X1_settle_20  h hk)))
  · refine ch_aload_n 0 (some t0) dX1_settle_7 rfl (cp_gI (ci := 1) (k := 10) dX1_settle_8 fl_X1_81 rfl h (fun v2 h => ?_))
    refine cp_if_le _ (tgt := 18) dX1_settle_11 rfl h (fun h => ?_) (fun h => ?_)
    · exact ch_iconst _ 0 dX1_settle_18 rfl (ch_istore_n 1 _ (ls1 := [some (va_rf (some t0)), some (.int 0), none, none]) dX1_settle_19 (Nat.le_of_ble_eq_true rfl) rfl (ch_FT.wk (ch_wS (ch_wS (ch_wN (ch_wN ch_w0)))) (sl_X1_settle_20  h hk)))
    · exact ch_iconst _ 1 dX1_settle_14 rfl (ch_goto 19 dX1_settle_15 rfl (ch_istore_n 1 _ (ls1 := [some (va_rf (some t0)), some (.int 1), none, none]) dX1_settle_19 (Nat.le_of_ble_eq_true rfl) rfl (ch_FT.wk (ch_wS (ch_wS (ch_wN (ch_wN ch_w0)))) (sl_X1_settle_20  h hk))))

theorem bX1_begin_0 : ch_ck cX1_begin 0 [42, 43, 181, 0, 56, 42, 21, 4, 5, 44, 180, 0, 60, 96, 184, 0] := ch_ckof (by decide +kernel)
theorem bX1_begin_1 : ch_ck cX1_begin 16 [66, 181, 0, 72, 42, 3, 181, 0, 75, 42, 3, 181, 0, 78, 42, 3] := ch_ckof (by decide +kernel)
theorem bX1_begin_2 : ch_ck cX1_begin 32 [181, 0, 81, 42, 3, 181, 0, 84, 42, 3, 181, 0, 87, 42, 3, 181] := ch_ckof (by decide +kernel)
theorem bX1_begin_3 : ch_ck cX1_begin 48 [0, 90, 42, 3, 181, 0, 93, 42, 3, 181, 0, 96, 42, 3, 181, 0] := ch_ckof (by decide +kernel)
theorem bX1_begin_4 : ch_ck cX1_begin 64 [99, 42, 42, 44, 180, 0, 102, 182, 0, 105, 182, 0, 108, 42, 45, 3] := ch_ckof (by decide +kernel)
theorem bX1_begin_5 : ch_ck cX1_begin 80 [182, 0, 112, 42, 182, 0, 116, 177] := ch_ckof (by decide +kernel)
theorem dX1_begin_0 : decode cX1_begin 0 = .ok (.aload_n 0, 1) := dz_42 (bX1_begin_0 0 _ rfl)
theorem dX1_begin_1 : decode cX1_begin 1 = .ok (.aload_n 1, 1) := dz_43 (bX1_begin_0 1 _ rfl)
theorem dX1_begin_2 : decode cX1_begin 2 = .ok (.putfield 56, 3) := dz_181 (bX1_begin_0 2 _ rfl) (bX1_begin_0 3 _ rfl) (bX1_begin_0 4 _ rfl)
theorem dX1_begin_5 : decode cX1_begin 5 = .ok (.aload_n 0, 1) := dz_42 (bX1_begin_0 5 _ rfl)
theorem dX1_begin_6 : decode cX1_begin 6 = .ok (.iload 4, 2) := dz_21 (bX1_begin_0 6 _ rfl) (bX1_begin_0 7 _ rfl)
theorem dX1_begin_8 : decode cX1_begin 8 = .ok (.iconst 2, 1) := dz_5 (bX1_begin_0 8 _ rfl)
theorem dX1_begin_9 : decode cX1_begin 9 = .ok (.aload_n 2, 1) := dz_44 (bX1_begin_0 9 _ rfl)
theorem dX1_begin_10 : decode cX1_begin 10 = .ok (.getfield 60, 3) := dz_180 (bX1_begin_0 10 _ rfl) (bX1_begin_0 11 _ rfl) (bX1_begin_0 12 _ rfl)
theorem dX1_begin_13 : decode cX1_begin 13 = .ok (.iadd, 1) := dz_96 (bX1_begin_0 13 _ rfl)
theorem dX1_begin_14 : decode cX1_begin 14 = .ok (.invokestatic 66, 3) := dz_184 (bX1_begin_0 14 _ rfl) (bX1_begin_0 15 _ rfl) (bX1_begin_1 0 _ rfl)
theorem dX1_begin_17 : decode cX1_begin 17 = .ok (.putfield 72, 3) := dz_181 (bX1_begin_1 1 _ rfl) (bX1_begin_1 2 _ rfl) (bX1_begin_1 3 _ rfl)
theorem dX1_begin_20 : decode cX1_begin 20 = .ok (.aload_n 0, 1) := dz_42 (bX1_begin_1 4 _ rfl)
theorem dX1_begin_21 : decode cX1_begin 21 = .ok (.iconst 0, 1) := dz_3 (bX1_begin_1 5 _ rfl)
theorem dX1_begin_22 : decode cX1_begin 22 = .ok (.putfield 75, 3) := dz_181 (bX1_begin_1 6 _ rfl) (bX1_begin_1 7 _ rfl) (bX1_begin_1 8 _ rfl)
theorem dX1_begin_25 : decode cX1_begin 25 = .ok (.aload_n 0, 1) := dz_42 (bX1_begin_1 9 _ rfl)
theorem dX1_begin_26 : decode cX1_begin 26 = .ok (.iconst 0, 1) := dz_3 (bX1_begin_1 10 _ rfl)
theorem dX1_begin_27 : decode cX1_begin 27 = .ok (.putfield 78, 3) := dz_181 (bX1_begin_1 11 _ rfl) (bX1_begin_1 12 _ rfl) (bX1_begin_1 13 _ rfl)
theorem dX1_begin_30 : decode cX1_begin 30 = .ok (.aload_n 0, 1) := dz_42 (bX1_begin_1 14 _ rfl)
theorem dX1_begin_31 : decode cX1_begin 31 = .ok (.iconst 0, 1) := dz_3 (bX1_begin_1 15 _ rfl)
theorem dX1_begin_32 : decode cX1_begin 32 = .ok (.putfield 81, 3) := dz_181 (bX1_begin_2 0 _ rfl) (bX1_begin_2 1 _ rfl) (bX1_begin_2 2 _ rfl)
theorem dX1_begin_35 : decode cX1_begin 35 = .ok (.aload_n 0, 1) := dz_42 (bX1_begin_2 3 _ rfl)
theorem dX1_begin_36 : decode cX1_begin 36 = .ok (.iconst 0, 1) := dz_3 (bX1_begin_2 4 _ rfl)
theorem dX1_begin_37 : decode cX1_begin 37 = .ok (.putfield 84, 3) := dz_181 (bX1_begin_2 5 _ rfl) (bX1_begin_2 6 _ rfl) (bX1_begin_2 7 _ rfl)
theorem dX1_begin_40 : decode cX1_begin 40 = .ok (.aload_n 0, 1) := dz_42 (bX1_begin_2 8 _ rfl)
theorem dX1_begin_41 : decode cX1_begin 41 = .ok (.iconst 0, 1) := dz_3 (bX1_begin_2 9 _ rfl)
theorem dX1_begin_42 : decode cX1_begin 42 = .ok (.putfield 87, 3) := dz_181 (bX1_begin_2 10 _ rfl) (bX1_begin_2 11 _ rfl) (bX1_begin_2 12 _ rfl)
theorem dX1_begin_45 : decode cX1_begin 45 = .ok (.aload_n 0, 1) := dz_42 (bX1_begin_2 13 _ rfl)
theorem dX1_begin_46 : decode cX1_begin 46 = .ok (.iconst 0, 1) := dz_3 (bX1_begin_2 14 _ rfl)
theorem dX1_begin_47 : decode cX1_begin 47 = .ok (.putfield 90, 3) := dz_181 (bX1_begin_2 15 _ rfl) (bX1_begin_3 0 _ rfl) (bX1_begin_3 1 _ rfl)
theorem dX1_begin_50 : decode cX1_begin 50 = .ok (.aload_n 0, 1) := dz_42 (bX1_begin_3 2 _ rfl)
theorem dX1_begin_51 : decode cX1_begin 51 = .ok (.iconst 0, 1) := dz_3 (bX1_begin_3 3 _ rfl)
theorem dX1_begin_52 : decode cX1_begin 52 = .ok (.putfield 93, 3) := dz_181 (bX1_begin_3 4 _ rfl) (bX1_begin_3 5 _ rfl) (bX1_begin_3 6 _ rfl)
theorem dX1_begin_55 : decode cX1_begin 55 = .ok (.aload_n 0, 1) := dz_42 (bX1_begin_3 7 _ rfl)
theorem dX1_begin_56 : decode cX1_begin 56 = .ok (.iconst 0, 1) := dz_3 (bX1_begin_3 8 _ rfl)
theorem dX1_begin_57 : decode cX1_begin 57 = .ok (.putfield 96, 3) := dz_181 (bX1_begin_3 9 _ rfl) (bX1_begin_3 10 _ rfl) (bX1_begin_3 11 _ rfl)
theorem dX1_begin_60 : decode cX1_begin 60 = .ok (.aload_n 0, 1) := dz_42 (bX1_begin_3 12 _ rfl)
theorem dX1_begin_61 : decode cX1_begin 61 = .ok (.iconst 0, 1) := dz_3 (bX1_begin_3 13 _ rfl)
theorem dX1_begin_62 : decode cX1_begin 62 = .ok (.putfield 99, 3) := dz_181 (bX1_begin_3 14 _ rfl) (bX1_begin_3 15 _ rfl) (bX1_begin_4 0 _ rfl)
theorem dX1_begin_65 : decode cX1_begin 65 = .ok (.aload_n 0, 1) := dz_42 (bX1_begin_4 1 _ rfl)
theorem dX1_begin_66 : decode cX1_begin 66 = .ok (.aload_n 0, 1) := dz_42 (bX1_begin_4 2 _ rfl)
theorem dX1_begin_67 : decode cX1_begin 67 = .ok (.aload_n 2, 1) := dz_44 (bX1_begin_4 3 _ rfl)
theorem dX1_begin_68 : decode cX1_begin 68 = .ok (.getfield 102, 3) := dz_180 (bX1_begin_4 4 _ rfl) (bX1_begin_4 5 _ rfl) (bX1_begin_4 6 _ rfl)
theorem dX1_begin_71 : decode cX1_begin 71 = .ok (.invokevirtual 105, 3) := dz_182 (bX1_begin_4 7 _ rfl) (bX1_begin_4 8 _ rfl) (bX1_begin_4 9 _ rfl)
theorem dX1_begin_74 : decode cX1_begin 74 = .ok (.invokevirtual 108, 3) := dz_182 (bX1_begin_4 10 _ rfl) (bX1_begin_4 11 _ rfl) (bX1_begin_4 12 _ rfl)
theorem dX1_begin_77 : decode cX1_begin 77 = .ok (.aload_n 0, 1) := dz_42 (bX1_begin_4 13 _ rfl)
theorem dX1_begin_78 : decode cX1_begin 78 = .ok (.aload_n 3, 1) := dz_45 (bX1_begin_4 14 _ rfl)
theorem dX1_begin_79 : decode cX1_begin 79 = .ok (.iconst 0, 1) := dz_3 (bX1_begin_4 15 _ rfl)
theorem dX1_begin_80 : decode cX1_begin 80 = .ok (.invokevirtual 112, 3) := dz_182 (bX1_begin_5 0 _ rfl) (bX1_begin_5 1 _ rfl) (bX1_begin_5 2 _ rfl)
theorem dX1_begin_83 : decode cX1_begin 83 = .ok (.aload_n 0, 1) := dz_42 (bX1_begin_5 3 _ rfl)
theorem dX1_begin_84 : decode cX1_begin 84 = .ok (.invokevirtual 116, 3) := dz_182 (bX1_begin_5 4 _ rfl) (bX1_begin_5 5 _ rfl) (bX1_begin_5 6 _ rfl)
theorem dX1_begin_87 : decode cX1_begin 87 = .ok (.return_, 1) := dz_177 (bX1_begin_5 7 _ rfl)
def c_X1_begin (g : State) (t0 : Nat) (x1 : Option Nat) (x2 : Option Nat) (x3 : Option Nat) (x4 : Int32) (w : ch_W) : Option (Except Nat Unit × ch_W) := (ch_pR w (some t0) 2 fX1_kinds x1).bind fun w1 => (ch_gI w1 x2 7 fX6_fields).bind fun v2 => (c_J12_max x4 (2 + v2) ).bind fun v3 => (ch_pI w1 (some t0) 2 fX1_size v3).bind fun w5 => (ch_pI w5 (some t0) 2 fX1_used 0).bind fun w6 => (ch_pI w6 (some t0) 2 fX1_top 0).bind fun w7 => (ch_pI w7 (some t0) 2 fX1_open 0).bind fun w8 => (ch_pI w8 (some t0) 2 fX1_printed 0).bind fun w9 => (ch_pI w9 (some t0) 2 fX1_steps 0).bind fun w10 => (ch_pI w10 (some t0) 2 fX1_made 0).bind fun w11 => (ch_pI w11 (some t0) 2 fX1_thrown 0).bind fun w12 => (ch_pI w12 (some t0) 2 fX1_ended 0).bind fun w13 => (ch_pI w13 (some t0) 2 fX1_result 0).bind fun w14 => (ch_gI w14 x2 7 fX6_number).bind fun v15 => (ch_rc w14 (some t0) 2).bind fun _ => ch_tb (c_X1_newObject g t0 v15 w14) (fun a w => (.error a, w)) fun v17 w18 => (ch_rc w18 (some t0) 2).bind fun _ => (c_X1_push t0 v17 w18).bind fun p20 => (ch_rc p20 (some t0) 2).bind fun _ => ch_tb (c_X1_enter g t0 x3 0 p20) (fun a w => (.error a, w)) fun _ w24 => (ch_rc w24 (some t0) 2).bind fun _ => (c_X1_settle t0 w24).bind fun p26 => some ((.ok (), p26))
theorem s_X1_begin {g : State} {t0 : Nat} {x1 : Option Nat} {x2 : Option Nat} {x3 : Option Nat} {x4 : Int32} {w : ch_W} {res : Except Nat Unit × ch_W} {Q : Outcome → ch_W → Prop} (h : c_X1_begin g t0 x1 x2 x3 x4 w = some res) (hk : (ch_xV Q) res) : ch_CT g true yX1_begin 9 [.ref t0, va_rf x1, va_rf x2, va_rf x3, .int x4] (w) Q := by
  unfold c_X1_begin at h
  refine ch_ctL mX1_begin (ls := [some (va_rf (some t0)), some (va_rf x1), some (va_rf x2), some (va_rf x3), some (.int x4)]) q1317 rfl (ch_lyr (r := some t0) (ch_lyr (r := x1) (ch_lyr (r := x2) (ch_lyr (r := x3) (ch_lyi ch_ly0))))) (Nat.le_of_ble_eq_true rfl) rfl ?_
  refine ch_aload_n 0 (some t0) dX1_begin_0 rfl (ch_aload_n 1 x1 dX1_begin_1 rfl (cp_pR (ci := 1) (k := 0) dX1_begin_2 fl_X1_56 rfl rfl rfl h (fun w1 h => ?_)))
  refine ch_aload_n 0 (some t0) dX1_begin_5 rfl (ch_iload 4 _ dX1_begin_6 rfl (ch_iconst _ 2 dX1_begin_8 rfl (ch_aload_n 2 x2 dX1_begin_9 rfl (cp_gI (ci := 6) (k := 7) dX1_begin_10 fl_X1_60 rfl h (fun v2 h => ?_)))))
  obtain ⟨v3, hp4, h⟩ := ch_bd h
  refine ch_iadd _ _ dX1_begin_13 (ch_is yJ12_max prog_21_method_65_code 2 (some .int) (d' := 2) (av := [.int x4, .int (2 + v2)]) (rest := [va_rf (some t0)]) rfl dX1_begin_14 q1318 q650 q220 q651 can_J12_max (Nat.le_of_ble_eq_true rfl) (ch_hw (Nat.le_of_ble_eq_true rfl)) (cp_kI (v := v3) (w1 := w1) (fun Q' hq => s_J12_max hp4 hq) ?_))
  refine cp_pI (ci := 1) (k := 1) dX1_begin_17 fl_X1_72 rfl rfl rfl h (fun w5 h => ?_)
  refine ch_aload_n 0 (some t0) dX1_begin_20 rfl (ch_iconst _ 0 dX1_begin_21 rfl (cp_pI (ci := 1) (k := 4) dX1_begin_22 fl_X1_75 rfl rfl rfl h (fun w6 h => ?_)))
  refine ch_aload_n 0 (some t0) dX1_begin_25 rfl (ch_iconst _ 0 dX1_begin_26 rfl (cp_pI (ci := 1) (k := 6) dX1_begin_27 fl_X1_78 rfl rfl rfl h (fun w7 h => ?_)))
  refine ch_aload_n 0 (some t0) dX1_begin_30 rfl (ch_iconst _ 0 dX1_begin_31 rfl (cp_pI (ci := 1) (k := 10) dX1_begin_32 fl_X1_81 rfl rfl rfl h (fun w8 h => ?_)))
  refine ch_aload_n 0 (some t0) dX1_begin_35 rfl (ch_iconst _ 0 dX1_begin_36 rfl (cp_pI (ci := 1) (k := 15) dX1_begin_37 fl_X1_84 rfl rfl rfl h (fun w9 h => ?_)))
  refine ch_aload_n 0 (some t0) dX1_begin_40 rfl (ch_iconst _ 0 dX1_begin_41 rfl (cp_pI (ci := 1) (k := 16) dX1_begin_42 fl_X1_87 rfl rfl rfl h (fun w10 h => ?_)))
  refine ch_aload_n 0 (some t0) dX1_begin_45 rfl (ch_iconst _ 0 dX1_begin_46 rfl (cp_pI (ci := 1) (k := 17) dX1_begin_47 fl_X1_90 rfl rfl rfl h (fun w11 h => ?_)))
  refine ch_aload_n 0 (some t0) dX1_begin_50 rfl (ch_iconst _ 0 dX1_begin_51 rfl (cp_pI (ci := 1) (k := 18) dX1_begin_52 fl_X1_93 rfl rfl rfl h (fun w12 h => ?_)))
  refine ch_aload_n 0 (some t0) dX1_begin_55 rfl (ch_iconst _ 0 dX1_begin_56 rfl (cp_pI (ci := 1) (k := 19) dX1_begin_57 fl_X1_96 rfl rfl rfl h (fun w13 h => ?_)))
  refine ch_aload_n 0 (some t0) dX1_begin_60 rfl (ch_iconst _ 0 dX1_begin_61 rfl (cp_pI (ci := 1) (k := 20) dX1_begin_62 fl_X1_99 rfl rfl rfl h (fun w14 h => ?_)))
  refine ch_aload_n 0 (some t0) dX1_begin_65 rfl (ch_aload_n 0 (some t0) dX1_begin_66 rfl (ch_aload_n 2 x2 dX1_begin_67 rfl (cp_gI (ci := 6) (k := 4) dX1_begin_68 fl_X1_102 rfl h (fun v15 h => ?_))))
  obtain ⟨_, hb16, h⟩ := ch_bd h
  refine ch_iv yX1_newObject prog_5_method_6_code 5 (some .long) (ci := 1) (q := (RX1, TX1, 22)) (b := t0) (d' := 8) (av := [.int v15]) (rest := [va_rf (some t0)]) rfl dX1_begin_71 q1319 q1321 rfl qs66 q1322 can_X1_newObject (Nat.le_of_ble_eq_true rfl) (ch_hw (Nat.le_of_ble_eq_true rfl)) (ch_rts hb16) (cp_tL h (fun p hp Q' hq => s_X1_newObject hp hq) (fun v17 w18 h => ?_) (fun a w1 h => ?_))
  · obtain ⟨_, hb19, h⟩ := ch_bd h
    obtain ⟨p20, hp21, h⟩ := ch_bd h
    refine ch_iv yX1_push prog_5_method_12_code 3 none (ci := 1) (q := (RX1, TX1, 22)) (b := t0) (d' := 2) (av := [.long v17]) (rest := []) rfl dX1_begin_74 q1377 q1379 rfl qs72 q1380 can_X1_push (Nat.le_of_ble_eq_true rfl) (Nat.le_of_ble_eq_true rfl) (ch_rts hb19) (cp_kV (w1 := p20) (fun Q' hq => s_X1_push hp21 hq) ?_)
    obtain ⟨_, hb22, h⟩ := ch_bd h
    refine ch_aload_n 0 (some t0) dX1_begin_77 rfl (ch_aload_n 3 x3 dX1_begin_78 rfl (ch_iconst _ 0 dX1_begin_79 rfl (ch_iv yX1_enter prog_5_method_15_code 4 none (ci := 1) (q := (RX1, TX1, 22)) (b := t0) (d' := 7) (av := [va_rf x3, .int 0]) (rest := []) rfl dX1_begin_80 q1381 q1383 rfl qs73 q1384 can_X1_enter (Nat.le_of_ble_eq_true rfl) (Nat.le_of_ble_eq_true rfl) (ch_rts hb22) (cp_tV h (fun p hp Q' hq => s_X1_enter hp hq) (fun w24 h => ?_) (fun a w1 h => ?_)))))
    · obtain ⟨_, hb25, h⟩ := ch_bd h
      obtain ⟨p26, hp27, h⟩ := ch_bd h
      refine ch_aload_n 0 (some t0) dX1_begin_83 rfl (ch_iv yX1_settle prog_5_method_23_code 4 none (ci := 1) (q := (RX1, TX1, 22)) (b := t0) (d' := 4) (av := []) (rest := []) rfl dX1_begin_84 q1385 q1387 rfl qs74 q1388 can_X1_settle (Nat.le_of_ble_eq_true rfl) (Nat.le_of_ble_eq_true rfl) (ch_rts hb25) (cp_kV (w1 := p26) (fun Q' hq => s_X1_settle hp27 hq) ?_))
      obtain rfl := Option.some.inj h
      exact ch_return dX1_begin_87 rfl hk
    · subst h
      exact ch_th rfl hk
  · subst h
    exact ch_th rfl hk

theorem bX0_start_0 : ch_ck cX0_start 0 [42, 180, 0, 31, 199, 0, 5, 3, 172, 42, 4, 181, 0, 35, 42, 180] := ch_ckof (by decide +kernel)
theorem bX0_start_1 : ch_ck cX0_start 16 [0, 20, 42, 180, 0, 71, 42, 180, 0, 31, 180, 0, 91, 42, 180, 0] := ch_ckof (by decide +kernel)
theorem bX0_start_2 : ch_ck cX0_start 32 [31, 180, 0, 95, 42, 180, 0, 13, 182, 0, 99, 4, 172] := ch_ckof (by decide +kernel)
theorem dX0_start_0 : decode cX0_start 0 = .ok (.aload_n 0, 1) := dz_42 (bX0_start_0 0 _ rfl)
theorem dX0_start_1 : decode cX0_start 1 = .ok (.getfield 31, 3) := dz_180 (bX0_start_0 1 _ rfl) (bX0_start_0 2 _ rfl) (bX0_start_0 3 _ rfl)
theorem dX0_start_4 : decode cX0_start 4 = .ok (.ifnonnull 5, 3) := dz_199 (bX0_start_0 4 _ rfl) (bX0_start_0 5 _ rfl) (bX0_start_0 6 _ rfl)
theorem dX0_start_7 : decode cX0_start 7 = .ok (.iconst 0, 1) := dz_3 (bX0_start_0 7 _ rfl)
theorem dX0_start_8 : decode cX0_start 8 = .ok (.ireturn, 1) := dz_172 (bX0_start_0 8 _ rfl)
theorem dX0_start_9 : decode cX0_start 9 = .ok (.aload_n 0, 1) := dz_42 (bX0_start_0 9 _ rfl)
theorem dX0_start_10 : decode cX0_start 10 = .ok (.iconst 1, 1) := dz_4 (bX0_start_0 10 _ rfl)
theorem dX0_start_11 : decode cX0_start 11 = .ok (.putfield 35, 3) := dz_181 (bX0_start_0 11 _ rfl) (bX0_start_0 12 _ rfl) (bX0_start_0 13 _ rfl)
theorem dX0_start_14 : decode cX0_start 14 = .ok (.aload_n 0, 1) := dz_42 (bX0_start_0 14 _ rfl)
theorem dX0_start_15 : decode cX0_start 15 = .ok (.getfield 20, 3) := dz_180 (bX0_start_0 15 _ rfl) (bX0_start_1 0 _ rfl) (bX0_start_1 1 _ rfl)
theorem dX0_start_18 : decode cX0_start 18 = .ok (.aload_n 0, 1) := dz_42 (bX0_start_1 2 _ rfl)
theorem dX0_start_19 : decode cX0_start 19 = .ok (.getfield 71, 3) := dz_180 (bX0_start_1 3 _ rfl) (bX0_start_1 4 _ rfl) (bX0_start_1 5 _ rfl)
theorem dX0_start_22 : decode cX0_start 22 = .ok (.aload_n 0, 1) := dz_42 (bX0_start_1 6 _ rfl)
theorem dX0_start_23 : decode cX0_start 23 = .ok (.getfield 31, 3) := dz_180 (bX0_start_1 7 _ rfl) (bX0_start_1 8 _ rfl) (bX0_start_1 9 _ rfl)
theorem dX0_start_26 : decode cX0_start 26 = .ok (.getfield 91, 3) := dz_180 (bX0_start_1 10 _ rfl) (bX0_start_1 11 _ rfl) (bX0_start_1 12 _ rfl)
theorem dX0_start_29 : decode cX0_start 29 = .ok (.aload_n 0, 1) := dz_42 (bX0_start_1 13 _ rfl)
theorem dX0_start_30 : decode cX0_start 30 = .ok (.getfield 31, 3) := dz_180 (bX0_start_1 14 _ rfl) (bX0_start_1 15 _ rfl) (bX0_start_2 0 _ rfl)
theorem dX0_start_33 : decode cX0_start 33 = .ok (.getfield 95, 3) := dz_180 (bX0_start_2 1 _ rfl) (bX0_start_2 2 _ rfl) (bX0_start_2 3 _ rfl)
theorem dX0_start_36 : decode cX0_start 36 = .ok (.aload_n 0, 1) := dz_42 (bX0_start_2 4 _ rfl)
theorem dX0_start_37 : decode cX0_start 37 = .ok (.getfield 13, 3) := dz_180 (bX0_start_2 5 _ rfl) (bX0_start_2 6 _ rfl) (bX0_start_2 7 _ rfl)
theorem dX0_start_40 : decode cX0_start 40 = .ok (.invokevirtual 99, 3) := dz_182 (bX0_start_2 8 _ rfl) (bX0_start_2 9 _ rfl) (bX0_start_2 10 _ rfl)
theorem dX0_start_43 : decode cX0_start 43 = .ok (.iconst 1, 1) := dz_4 (bX0_start_2 11 _ rfl)
theorem dX0_start_44 : decode cX0_start 44 = .ok (.ireturn, 1) := dz_172 (bX0_start_2 12 _ rfl)
def c_X0_start (g : State) (t0 : Nat)  (w : ch_W) : Option (Except Nat Int32 × ch_W) := (ch_gR w (some t0) 1 fX0_program).bind fun v1 => if v1 = none then (some ((.ok 0, w))) else ((ch_bit 1).bind fun _ => (ch_pI w (some t0) 1 fX0_isBegun 1).bind fun w2 => (ch_gR w2 (some t0) 1 fX0_machine).bind fun v3 => (ch_gR w2 (some t0) 1 fX0_kinds).bind fun v4 => (ch_gR w2 (some t0) 1 fX0_program).bind fun v5 => (ch_gR w2 v5 12 fX11_mainClass).bind fun v6 => (ch_gR w2 (some t0) 1 fX0_program).bind fun v7 => (ch_gR w2 v7 12 fX11_main).bind fun v8 => (ch_gI w2 (some t0) 1 fX0_cells).bind fun v9 => (ch_rc w2 v3 2).bind fun b11 => ch_tb (c_X1_begin g b11 v4 v6 v8 v9 w2) (fun a w => (.error a, w)) fun _ w13 => some ((.ok 1, w13)))
theorem s_X0_start {g : State} {t0 : Nat} {w : ch_W} {res : Except Nat Int32 × ch_W} {Q : Outcome → ch_W → Prop} (h : c_X0_start g t0 w = some res) (hk : (ch_xI Q) res) : ch_CT g true yX0_start 10 [.ref t0] (w) Q := by
  unfold c_X0_start at h
  refine ch_ctL mX0_start (ls := [some (va_rf (some t0))]) q1313 rfl (ch_lyr (r := some t0) ch_ly0) (Nat.le_of_ble_eq_true rfl) rfl ?_
  refine ch_aload_n 0 (some t0) dX0_start_0 rfl (cp_gR (ci := 0) (k := 2) dX0_start_1 fl_X0_31 rfl h (fun v1 h => ?_))
  refine cp_ifnonnull v1 (tgt := 9) dX0_start_4 rfl h (fun h => ?_) (fun h => ?_)
  · refine ch_aload_n 0 (some t0) dX0_start_9 rfl (ch_iconst _ 1 dX0_start_10 rfl (cp_pZ (ci := 0) (k := 6) dX0_start_11 fl_X0_35 rfl rfl rfl h (fun w2 h => ?_)))
    refine ch_aload_n 0 (some t0) dX0_start_14 rfl (cp_gR (ci := 0) (k := 5) dX0_start_15 fl_X0_20 rfl h (fun v3 h => ?_))
    refine ch_aload_n 0 (some t0) dX0_start_18 rfl (cp_gR (ci := 0) (k := 3) dX0_start_19 fl_X0_71 rfl h (fun v4 h => ?_))
    refine ch_aload_n 0 (some t0) dX0_start_22 rfl (cp_gR (ci := 0) (k := 2) dX0_start_23 fl_X0_31 rfl h (fun v5 h => ?_))
    refine cp_gR (ci := 11) (k := 12) dX0_start_26 fl_X0_91 rfl h (fun v6 h => ?_)
    refine ch_aload_n 0 (some t0) dX0_start_29 rfl (cp_gR (ci := 0) (k := 2) dX0_start_30 fl_X0_31 rfl h (fun v7 h => ?_))
    refine cp_gR (ci := 11) (k := 13) dX0_start_33 fl_X0_95 rfl h (fun v8 h => ?_)
    refine ch_aload_n 0 (some t0) dX0_start_36 rfl (cp_gI (ci := 0) (k := 4) dX0_start_37 fl_X0_13 rfl h (fun v9 h => ?_))
    obtain ⟨b11, hb10, h⟩ := ch_bd h
    refine ch_iv yX1_begin prog_5_method_3_code 5 none (ci := 1) (q := (RX1, TX1, 22)) (b := b11) (d' := 9) (av := [va_rf v4, va_rf v6, va_rf v8, .int v9]) (rest := []) (by rw [ch_rs hb10]; rfl) dX0_start_40 q1314 q1315 rfl q1316 q1317 can_X1_begin (Nat.le_of_ble_eq_true rfl) (Nat.le_of_ble_eq_true rfl) (ch_rtg hb10) (cp_tV h (fun p hp Q' hq => s_X1_begin hp hq) (fun w13 h => ?_) (fun a w1 h => ?_))
    · obtain rfl := Option.some.inj h
      exact ch_iconst _ 1 dX0_start_43 rfl (ch_ireturn _ dX0_start_44 rfl rfl hk)
    · subst h
      exact ch_th rfl hk
  · obtain rfl := Option.some.inj h
    exact ch_iconst _ 0 dX0_start_7 rfl (ch_ireturn _ dX0_start_8 rfl rfl hk)

theorem bX0_numberWord_0 : ch_ck cX0_numberWord 0 [26, 133, 4, 121, 173] := ch_ckof (by decide +kernel)
theorem dX0_numberWord_0 : decode cX0_numberWord 0 = .ok (.iload_n 0, 1) := dz_26 (bX0_numberWord_0 0 _ rfl)
theorem dX0_numberWord_1 : decode cX0_numberWord 1 = .ok (.i2l, 1) := dz_133 (bX0_numberWord_0 1 _ rfl)
theorem dX0_numberWord_2 : decode cX0_numberWord 2 = .ok (.iconst 1, 1) := dz_4 (bX0_numberWord_0 2 _ rfl)
theorem dX0_numberWord_3 : decode cX0_numberWord 3 = .ok (.lshl, 1) := dz_121 (bX0_numberWord_0 3 _ rfl)
theorem dX0_numberWord_4 : decode cX0_numberWord 4 = .ok (.lreturn, 1) := dz_173 (bX0_numberWord_0 4 _ rfl)
def c_X0_numberWord (x0 : Int32) (w : ch_W) : Option (Int64) := some ((Int32.toInt64 x0) <<< (Int32.toInt64 1 &&& 63))
theorem s_X0_numberWord {g : State} {kb : Bool} {x0 : Int32} {w : ch_W} {res : Int64} {Q : Outcome → ch_W → Prop} (h : c_X0_numberWord x0 w = some res) (hk : (fun r => ch_eL Q (r, w)) res) : ch_CT g kb yX0_numberWord 2 [.int x0] (w) Q := by
  unfold c_X0_numberWord at h
  refine ch_ctL mX0_numberWord (ls := [some (.int x0)]) q1420 rfl (ch_lyi ch_ly0) (Nat.le_of_ble_eq_true rfl) rfl ?_
  obtain rfl := Option.some.inj h
  exact ch_iload_n 0 _ dX0_numberWord_0 rfl (ch_i2l _ dX0_numberWord_1 (ch_iconst _ 1 dX0_numberWord_2 rfl (ch_lshl _ _ dX0_numberWord_3 (ch_lreturn _ dX0_numberWord_4 rfl hk))))

theorem bX1_take_0 : ch_ck cX1_take 0 [42, 180, 1, 39, 154, 0, 5, 3, 172, 42, 180, 0, 35, 42, 180, 1] := ch_ckof (by decide +kernel)
theorem bX1_take_1 : ch_ck cX1_take 16 [42, 46, 60, 42, 42, 180, 1, 42, 4, 96, 17, 1, 44, 112, 181, 1] := ch_ckof (by decide +kernel)
theorem bX1_take_2 : ch_ck cX1_take 32 [42, 42, 89, 180, 1, 39, 4, 100, 181, 1, 39, 27, 172] := ch_ckof (by decide +kernel)
theorem dX1_take_0 : decode cX1_take 0 = .ok (.aload_n 0, 1) := dz_42 (bX1_take_0 0 _ rfl)
theorem dX1_take_1 : decode cX1_take 1 = .ok (.getfield 295, 3) := dz_180 (bX1_take_0 1 _ rfl) (bX1_take_0 2 _ rfl) (bX1_take_0 3 _ rfl)
theorem dX1_take_4 : decode cX1_take 4 = .ok (.ifCond .ne 5, 3) := dz_154 (bX1_take_0 4 _ rfl) (bX1_take_0 5 _ rfl) (bX1_take_0 6 _ rfl)
theorem dX1_take_7 : decode cX1_take 7 = .ok (.iconst 0, 1) := dz_3 (bX1_take_0 7 _ rfl)
theorem dX1_take_8 : decode cX1_take 8 = .ok (.ireturn, 1) := dz_172 (bX1_take_0 8 _ rfl)
theorem dX1_take_9 : decode cX1_take 9 = .ok (.aload_n 0, 1) := dz_42 (bX1_take_0 9 _ rfl)
theorem dX1_take_10 : decode cX1_take 10 = .ok (.getfield 35, 3) := dz_180 (bX1_take_0 10 _ rfl) (bX1_take_0 11 _ rfl) (bX1_take_0 12 _ rfl)
theorem dX1_take_13 : decode cX1_take 13 = .ok (.aload_n 0, 1) := dz_42 (bX1_take_0 13 _ rfl)
theorem dX1_take_14 : decode cX1_take 14 = .ok (.getfield 298, 3) := dz_180 (bX1_take_0 14 _ rfl) (bX1_take_0 15 _ rfl) (bX1_take_1 0 _ rfl)
theorem dX1_take_17 : decode cX1_take 17 = .ok (.iaload, 1) := dz_46 (bX1_take_1 1 _ rfl)
theorem dX1_take_18 : decode cX1_take 18 = .ok (.istore_n 1, 1) := dz_60 (bX1_take_1 2 _ rfl)
theorem dX1_take_19 : decode cX1_take 19 = .ok (.aload_n 0, 1) := dz_42 (bX1_take_1 3 _ rfl)
theorem dX1_take_20 : decode cX1_take 20 = .ok (.aload_n 0, 1) := dz_42 (bX1_take_1 4 _ rfl)
theorem dX1_take_21 : decode cX1_take 21 = .ok (.getfield 298, 3) := dz_180 (bX1_take_1 5 _ rfl) (bX1_take_1 6 _ rfl) (bX1_take_1 7 _ rfl)
theorem dX1_take_24 : decode cX1_take 24 = .ok (.iconst 1, 1) := dz_4 (bX1_take_1 8 _ rfl)
theorem dX1_take_25 : decode cX1_take 25 = .ok (.iadd, 1) := dz_96 (bX1_take_1 9 _ rfl)
theorem dX1_take_26 : decode cX1_take 26 = .ok (.sipush 300, 3) := dz_17 (bX1_take_1 10 _ rfl) (bX1_take_1 11 _ rfl) (bX1_take_1 12 _ rfl)
theorem dX1_take_29 : decode cX1_take 29 = .ok (.irem, 1) := dz_112 (bX1_take_1 13 _ rfl)
theorem dX1_take_30 : decode cX1_take 30 = .ok (.putfield 298, 3) := dz_181 (bX1_take_1 14 _ rfl) (bX1_take_1 15 _ rfl) (bX1_take_2 0 _ rfl)
theorem dX1_take_33 : decode cX1_take 33 = .ok (.aload_n 0, 1) := dz_42 (bX1_take_2 1 _ rfl)
theorem dX1_take_34 : decode cX1_take 34 = .ok (.dup, 1) := dz_89 (bX1_take_2 2 _ rfl)
theorem dX1_take_35 : decode cX1_take 35 = .ok (.getfield 295, 3) := dz_180 (bX1_take_2 3 _ rfl) (bX1_take_2 4 _ rfl) (bX1_take_2 5 _ rfl)
theorem dX1_take_38 : decode cX1_take 38 = .ok (.iconst 1, 1) := dz_4 (bX1_take_2 6 _ rfl)
theorem dX1_take_39 : decode cX1_take 39 = .ok (.isub, 1) := dz_100 (bX1_take_2 7 _ rfl)
theorem dX1_take_40 : decode cX1_take 40 = .ok (.putfield 295, 3) := dz_181 (bX1_take_2 8 _ rfl) (bX1_take_2 9 _ rfl) (bX1_take_2 10 _ rfl)
theorem dX1_take_43 : decode cX1_take 43 = .ok (.iload_n 1, 1) := dz_27 (bX1_take_2 11 _ rfl)
theorem dX1_take_44 : decode cX1_take 44 = .ok (.ireturn, 1) := dz_172 (bX1_take_2 12 _ rfl)
def c_X1_take (t0 : Nat)  (w : ch_W) : Option (Int32 × ch_W) := (ch_gI w (some t0) 2 fX1_givenMany).bind fun v1 => if v1 = 0 then (some ((0, w))) else ((ch_gR w (some t0) 2 fX1_given).bind fun v2 => (ch_gI w (some t0) 2 fX1_givenFirst).bind fun v3 => (ch_lI w v2 21 v3).bind fun v4 => (ch_gI w (some t0) 2 fX1_givenFirst).bind fun v5 => (ch_nz 300).bind fun _ => (ch_pI w (some t0) 2 fX1_givenFirst ((v5 + 1) - (v5 + 1) / 300 * 300)).bind fun w6 => (ch_gI w6 (some t0) 2 fX1_givenMany).bind fun v7 => (ch_pI w6 (some t0) 2 fX1_givenMany (v7 - 1)).bind fun w8 => some ((v4, w8)))
theorem s_X1_take {g : State} {t0 : Nat} {w : ch_W} {res : Int32 × ch_W} {Q : Outcome → ch_W → Prop} (h : c_X1_take t0 w = some res) (hk : (ch_eI Q) res) : ch_CT g true yX1_take 2 [.ref t0] (w) Q := by
  unfold c_X1_take at h
  refine ch_ctL mX1_take (ls := [some (va_rf (some t0)), none]) q1424 rfl (ch_lyr (r := some t0) ch_ly0) (Nat.le_of_ble_eq_true rfl) rfl ?_
  refine ch_aload_n 0 (some t0) dX1_take_0 rfl (cp_gI (ci := 1) (k := 13) dX1_take_1 fl_X1_295 rfl h (fun v1 h => ?_))
  refine cp_if_ne _ (tgt := 9) dX1_take_4 rfl h (fun h => ?_) (fun h => ?_)
  · refine ch_aload_n 0 (some t0) dX1_take_9 rfl (cp_gR (ci := 1) (k := 11) dX1_take_10 fl_X1_35 rfl h (fun v2 h => ?_))
    refine ch_aload_n 0 (some t0) dX1_take_13 rfl (cp_gI (ci := 1) (k := 12) dX1_take_14 fl_X1_298 rfl h (fun v3 h => ?_))
    refine cp_iald (t := 21) dX1_take_17 rfl rfl h (fun v4 h => ?_)
    refine ch_istore_n 1 _ (ls1 := [some (va_rf (some t0)), some (.int v4)]) dX1_take_18 (Nat.le_of_ble_eq_true rfl) rfl (ch_aload_n 0 (some t0) dX1_take_19 rfl (ch_aload_n 0 (some t0) dX1_take_20 rfl (cp_gI (ci := 1) (k := 12) dX1_take_21 fl_X1_298 rfl h (fun v5 h => ?_))))
    refine ch_iconst _ 1 dX1_take_24 rfl (ch_iadd _ _ dX1_take_25 (ch_sipush _ 300 dX1_take_26 rfl (cp_rem dX1_take_29 h (fun h => ?_))))
    refine cp_pI (ci := 1) (k := 12) dX1_take_30 fl_X1_298 rfl rfl rfl h (fun w6 h => ?_)
    refine ch_aload_n 0 (some t0) dX1_take_33 rfl (ch_dup dX1_take_34 (ch_cat _) (cp_gI (ci := 1) (k := 13) dX1_take_35 fl_X1_295 rfl h (fun v7 h => ?_)))
    refine ch_iconst _ 1 dX1_take_38 rfl (ch_isub _ _ dX1_take_39 (cp_pI (ci := 1) (k := 13) dX1_take_40 fl_X1_295 rfl rfl rfl h (fun w8 h => ?_)))
    obtain rfl := Option.some.inj h
    exact ch_iload_n 1 _ dX1_take_43 rfl (ch_ireturn _ dX1_take_44 rfl rfl hk)
  · obtain rfl := Option.some.inj h
    exact ch_iconst _ 0 dX1_take_7 rfl (ch_ireturn _ dX1_take_8 rfl rfl hk)

theorem bX1_pop_0 : ch_ck cX1_pop 0 [42, 89, 180, 0, 78, 4, 100, 181, 0, 78, 42, 180, 0, 19, 42, 180] := ch_ckof (by decide +kernel)
theorem bX1_pop_1 : ch_ck cX1_pop 16 [0, 78, 47, 173] := ch_ckof (by decide +kernel)
theorem dX1_pop_0 : decode cX1_pop 0 = .ok (.aload_n 0, 1) := dz_42 (bX1_pop_0 0 _ rfl)
theorem dX1_pop_1 : decode cX1_pop 1 = .ok (.dup, 1) := dz_89 (bX1_pop_0 1 _ rfl)
theorem dX1_pop_2 : decode cX1_pop 2 = .ok (.getfield 78, 3) := dz_180 (bX1_pop_0 2 _ rfl) (bX1_pop_0 3 _ rfl) (bX1_pop_0 4 _ rfl)
theorem dX1_pop_5 : decode cX1_pop 5 = .ok (.iconst 1, 1) := dz_4 (bX1_pop_0 5 _ rfl)
theorem dX1_pop_6 : decode cX1_pop 6 = .ok (.isub, 1) := dz_100 (bX1_pop_0 6 _ rfl)
theorem dX1_pop_7 : decode cX1_pop 7 = .ok (.putfield 78, 3) := dz_181 (bX1_pop_0 7 _ rfl) (bX1_pop_0 8 _ rfl) (bX1_pop_0 9 _ rfl)
theorem dX1_pop_10 : decode cX1_pop 10 = .ok (.aload_n 0, 1) := dz_42 (bX1_pop_0 10 _ rfl)
theorem dX1_pop_11 : decode cX1_pop 11 = .ok (.getfield 19, 3) := dz_180 (bX1_pop_0 11 _ rfl) (bX1_pop_0 12 _ rfl) (bX1_pop_0 13 _ rfl)
theorem dX1_pop_14 : decode cX1_pop 14 = .ok (.aload_n 0, 1) := dz_42 (bX1_pop_0 14 _ rfl)
theorem dX1_pop_15 : decode cX1_pop 15 = .ok (.getfield 78, 3) := dz_180 (bX1_pop_0 15 _ rfl) (bX1_pop_1 0 _ rfl) (bX1_pop_1 1 _ rfl)
theorem dX1_pop_18 : decode cX1_pop 18 = .ok (.laload, 1) := dz_47 (bX1_pop_1 2 _ rfl)
theorem dX1_pop_19 : decode cX1_pop 19 = .ok (.lreturn, 1) := dz_173 (bX1_pop_1 3 _ rfl)
def c_X1_pop (t0 : Nat)  (w : ch_W) : Option (Int64 × ch_W) := (ch_gI w (some t0) 2 fX1_top).bind fun v1 => (ch_pI w (some t0) 2 fX1_top (v1 - 1)).bind fun w2 => (ch_gR w2 (some t0) 2 fX1_pile).bind fun v3 => (ch_gI w2 (some t0) 2 fX1_top).bind fun v4 => (ch_lL w2 v3 24 v4).bind fun v5 => some ((v5, w2))
theorem s_X1_pop {g : State} {t0 : Nat} {w : ch_W} {res : Int64 × ch_W} {Q : Outcome → ch_W → Prop} (h : c_X1_pop t0 w = some res) (hk : (ch_eL Q) res) : ch_CT g true yX1_pop 2 [.ref t0] (w) Q := by
  unfold c_X1_pop at h
  refine ch_ctL mX1_pop (ls := [some (va_rf (some t0))]) q1428 rfl (ch_lyr (r := some t0) ch_ly0) (Nat.le_of_ble_eq_true rfl) rfl ?_
  refine ch_aload_n 0 (some t0) dX1_pop_0 rfl (ch_dup dX1_pop_1 (ch_cat _) (cp_gI (ci := 1) (k := 6) dX1_pop_2 fl_X1_78 rfl h (fun v1 h => ?_)))
  refine ch_iconst _ 1 dX1_pop_5 rfl (ch_isub _ _ dX1_pop_6 (cp_pI (ci := 1) (k := 6) dX1_pop_7 fl_X1_78 rfl rfl rfl h (fun w2 h => ?_)))
  refine ch_aload_n 0 (some t0) dX1_pop_10 rfl (cp_gR (ci := 1) (k := 5) dX1_pop_11 fl_X1_19 rfl h (fun v3 h => ?_))
  refine ch_aload_n 0 (some t0) dX1_pop_14 rfl (cp_gI (ci := 1) (k := 6) dX1_pop_15 fl_X1_78 rfl h (fun v4 h => ?_))
  refine cp_lald (t := 24) dX1_pop_18 rfl rfl h (fun v5 h => ?_)
  obtain rfl := Option.some.inj h
  exact ch_lreturn _ dX1_pop_19 rfl hk

theorem bX2_of_0 : ch_ck cX2_of 0 [42, 31, 181, 0, 7, 42, 176] := ch_ckof (by decide +kernel)
theorem dX2_of_0 : decode cX2_of 0 = .ok (.aload_n 0, 1) := dz_42 (bX2_of_0 0 _ rfl)
theorem dX2_of_1 : decode cX2_of 1 = .ok (.lload_n 1, 1) := dz_31 (bX2_of_0 1 _ rfl)
theorem dX2_of_2 : decode cX2_of 2 = .ok (.putfield 7, 3) := dz_181 (bX2_of_0 2 _ rfl) (bX2_of_0 3 _ rfl) (bX2_of_0 4 _ rfl)
theorem dX2_of_5 : decode cX2_of 5 = .ok (.aload_n 0, 1) := dz_42 (bX2_of_0 5 _ rfl)
theorem dX2_of_6 : decode cX2_of 6 = .ok (.areturn, 1) := dz_176 (bX2_of_0 6 _ rfl)
def c_X2_of (t0 : Nat) (x1 : Int64) (w : ch_W) : Option (Option Nat × ch_W) := (ch_pL w (some t0) 3 fX2_word x1).bind fun w1 => some ((some t0, w1))
theorem s_X2_of {g : State} {t0 : Nat} {x1 : Int64} {w : ch_W} {res : Option Nat × ch_W} {Q : Outcome → ch_W → Prop} (h : c_X2_of t0 x1 w = some res) (hk : (ch_eR Q) res) : ch_CT g true yX2_of 2 [.ref t0, .long x1] (w) Q := by
  unfold c_X2_of at h
  refine ch_ctL mX2_of (ls := [some (va_rf (some t0)), some (.long x1), none]) q1440 rfl (ch_lyr (r := some t0) (ch_lyl ch_ly0)) (Nat.le_of_ble_eq_true rfl) rfl ?_
  refine ch_aload_n 0 (some t0) dX2_of_0 rfl (ch_lload_n 1 _ dX2_of_1 rfl (cp_pL (ci := 2) (k := 6) dX2_of_2 fl_X2_7 rfl rfl rfl h (fun w1 h => ?_)))
  obtain rfl := Option.some.inj h
  exact ch_aload_n 0 (some t0) dX2_of_5 rfl (ch_areturn (some t0) dX2_of_6 rfl (Or.inl ⟨_, rfl⟩) hk)

theorem bX1_fault_0 : ch_ck cX1_fault 0 [42, 180, 0, 44, 16, 254, 27, 100, 184, 0, 48, 182, 0, 52, 176] := ch_ckof (by decide +kernel)
theorem dX1_fault_0 : decode cX1_fault 0 = .ok (.aload_n 0, 1) := dz_42 (bX1_fault_0 0 _ rfl)
theorem dX1_fault_1 : decode cX1_fault 1 = .ok (.getfield 44, 3) := dz_180 (bX1_fault_0 1 _ rfl) (bX1_fault_0 2 _ rfl) (bX1_fault_0 3 _ rfl)
theorem dX1_fault_4 : decode cX1_fault 4 = .ok (.bipush (-2), 2) := dz_16 (bX1_fault_0 4 _ rfl) (bX1_fault_0 5 _ rfl)
theorem dX1_fault_6 : decode cX1_fault 6 = .ok (.iload_n 1, 1) := dz_27 (bX1_fault_0 6 _ rfl)
theorem dX1_fault_7 : decode cX1_fault 7 = .ok (.isub, 1) := dz_100 (bX1_fault_0 7 _ rfl)
theorem dX1_fault_8 : decode cX1_fault 8 = .ok (.invokestatic 48, 3) := dz_184 (bX1_fault_0 8 _ rfl) (bX1_fault_0 9 _ rfl) (bX1_fault_0 10 _ rfl)
theorem dX1_fault_11 : decode cX1_fault 11 = .ok (.invokevirtual 52, 3) := dz_182 (bX1_fault_0 11 _ rfl) (bX1_fault_0 12 _ rfl) (bX1_fault_0 13 _ rfl)
theorem dX1_fault_14 : decode cX1_fault 14 = .ok (.areturn, 1) := dz_176 (bX1_fault_0 14 _ rfl)
def c_X1_fault (t0 : Nat) (x1 : Int32) (w : ch_W) : Option (Option Nat × ch_W) := (ch_gR w (some t0) 2 fX1_flying).bind fun v1 => (c_X0_placeWord ((-2) - x1) w).bind fun v2 => (ch_rc w v1 3).bind fun b5 => (c_X2_of b5 v2 w).bind fun p6 => some ((p6.1, p6.2))
theorem s_X1_fault {g : State} {t0 : Nat} {x1 : Int32} {w : ch_W} {res : Option Nat × ch_W} {Q : Outcome → ch_W → Prop} (h : c_X1_fault t0 x1 w = some res) (hk : (ch_eR Q) res) : ch_CT g true yX1_fault 3 [.ref t0, .int x1] (w) Q := by
  unfold c_X1_fault at h
  refine ch_ctL mX1_fault (ls := [some (va_rf (some t0)), some (.int x1)]) q1436 rfl (ch_lyr (r := some t0) (ch_lyi ch_ly0)) (Nat.le_of_ble_eq_true rfl) rfl ?_
  refine ch_aload_n 0 (some t0) dX1_fault_0 rfl (cp_gR (ci := 1) (k := 21) dX1_fault_1 fl_X1_44 rfl h (fun v1 h => ?_))
  obtain ⟨v2, hp3, h⟩ := ch_bd h
  refine ch_bipush _ (-2) dX1_fault_4 rfl (ch_iload_n 1 _ dX1_fault_6 rfl (ch_isub _ _ dX1_fault_7 (ch_isT yX0_placeWord prog_1_method_1_code 1 (some .long) (d' := 2) (av := [.int ((-2) - x1)]) (rest := [va_rf v1]) rfl dX1_fault_8 q1343 q1344 q200 q1345 can_X0_placeWord (Nat.le_of_ble_eq_true rfl) (ch_hw (Nat.le_of_ble_eq_true rfl)) (cp_kL (v := v2) (w1 := w) (fun Q' hq => s_X0_placeWord hp3 hq) ?_))))
  obtain ⟨b5, hb4, h⟩ := ch_bd h
  obtain ⟨p6, hp7, h⟩ := ch_bd h
  refine ch_ivN yX2_of prog_11_method_2_code 3 (some (.object "ClassHouse$Thrown")) (ci := 2) (q := (RX2, TX2, 7)) (b := b5) (d' := 2) (av := [.long v2]) (rest := []) (by rw [ch_rs hb4]; rfl) dX1_fault_11 q1437 q1439 rfl qs84 q1440 can_X2_of (Nat.le_of_ble_eq_true rfl) (Nat.le_of_ble_eq_true rfl) (ch_rtg hb4) (cp_kR (v := p6.1) (w1 := p6.2) (fun Q' hq => s_X2_of hp7 hq) ?_)
  obtain rfl := Option.some.inj h
  exact ch_areturn p6.1 dX1_fault_14 rfl (Or.inl ⟨_, rfl⟩) hk

theorem bX1_object_0 : ch_ck cX1_object 0 [31, 184, 0, 172, 2, 160, 0, 9, 42, 3, 182, 0, 164, 191, 31, 184] := ch_ckof (by decide +kernel)
theorem bX1_object_1 : ch_ck cX1_object 16 [0, 172, 172] := ch_ckof (by decide +kernel)
theorem dX1_object_0 : decode cX1_object 0 = .ok (.lload_n 1, 1) := dz_31 (bX1_object_0 0 _ rfl)
theorem dX1_object_1 : decode cX1_object 1 = .ok (.invokestatic 172, 3) := dz_184 (bX1_object_0 1 _ rfl) (bX1_object_0 2 _ rfl) (bX1_object_0 3 _ rfl)
theorem dX1_object_4 : decode cX1_object 4 = .ok (.iconst (-1), 1) := dz_2 (bX1_object_0 4 _ rfl)
theorem dX1_object_5 : decode cX1_object 5 = .ok (.if_icmp .ne 9, 3) := dz_160 (bX1_object_0 5 _ rfl) (bX1_object_0 6 _ rfl) (bX1_object_0 7 _ rfl)
theorem dX1_object_8 : decode cX1_object 8 = .ok (.aload_n 0, 1) := dz_42 (bX1_object_0 8 _ rfl)
theorem dX1_object_9 : decode cX1_object 9 = .ok (.iconst 0, 1) := dz_3 (bX1_object_0 9 _ rfl)
theorem dX1_object_10 : decode cX1_object 10 = .ok (.invokevirtual 164, 3) := dz_182 (bX1_object_0 10 _ rfl) (bX1_object_0 11 _ rfl) (bX1_object_0 12 _ rfl)
theorem dX1_object_13 : decode cX1_object 13 = .ok (.athrow, 1) := dz_191 (bX1_object_0 13 _ rfl)
theorem dX1_object_14 : decode cX1_object 14 = .ok (.lload_n 1, 1) := dz_31 (bX1_object_0 14 _ rfl)
theorem dX1_object_15 : decode cX1_object 15 = .ok (.invokestatic 172, 3) := dz_184 (bX1_object_0 15 _ rfl) (bX1_object_1 0 _ rfl) (bX1_object_1 1 _ rfl)
theorem dX1_object_18 : decode cX1_object 18 = .ok (.ireturn, 1) := dz_172 (bX1_object_1 2 _ rfl)
def c_X1_object (t0 : Nat) (x1 : Int64) (w : ch_W) : Option (Except Nat Int32 × ch_W) := (c_X0_placeOf x1 w).bind fun v1 => if v1 = (-1) then ((ch_rc w (some t0) 2).bind fun _ => (c_X1_fault t0 0 w).bind fun p6 => (p6.1).bind fun a8 => some ((.error a8, p6.2))) else ((c_X0_placeOf x1 w).bind fun v3 => some ((.ok v3, w)))
theorem s_X1_object {g : State} {t0 : Nat} {x1 : Int64} {w : ch_W} {res : Except Nat Int32 × ch_W} {Q : Outcome → ch_W → Prop} (h : c_X1_object t0 x1 w = some res) (hk : (ch_xI Q) res) : ch_CT g true yX1_object 4 [.ref t0, .long x1] (w) Q := by
  unfold c_X1_object at h
  refine ch_ctL mX1_object (ls := [some (va_rf (some t0)), some (.long x1), none]) q1432 rfl (ch_lyr (r := some t0) (ch_lyl ch_ly0)) (Nat.le_of_ble_eq_true rfl) rfl ?_
  obtain ⟨v1, hp2, h⟩ := ch_bd h
  refine ch_lload_n 1 _ dX1_object_0 rfl (ch_isT yX0_placeOf prog_1_method_3_code 2 (some .int) (d' := 2) (av := [.long x1]) (rest := []) rfl dX1_object_1 q1338 q1339 q200 q1340 can_X0_placeOf (Nat.le_of_ble_eq_true rfl) (Nat.le_of_ble_eq_true rfl) (cp_kI (v := v1) (w1 := w) (fun Q' hq => s_X0_placeOf hp2 hq) ?_))
  refine ch_iconst _ (-1) dX1_object_4 rfl (cp_icmp_ne _ _ (tgt := 14) dX1_object_5 rfl h (fun h => ?_) (fun h => ?_))
  · obtain ⟨v3, hp4, h⟩ := ch_bd h
    refine ch_lload_n 1 _ dX1_object_14 rfl (ch_isT yX0_placeOf prog_1_method_3_code 2 (some .int) (d' := 2) (av := [.long x1]) (rest := []) rfl dX1_object_15 q1338 q1339 q200 q1340 can_X0_placeOf (Nat.le_of_ble_eq_true rfl) (Nat.le_of_ble_eq_true rfl) (cp_kI (v := v3) (w1 := w) (fun Q' hq => s_X0_placeOf hp4 hq) ?_))
    obtain rfl := Option.some.inj h
    exact ch_ireturn _ dX1_object_18 rfl rfl hk
  · obtain ⟨_, hb5, h⟩ := ch_bd h
    obtain ⟨p6, hp7, h⟩ := ch_bd h
    refine ch_aload_n 0 (some t0) dX1_object_8 rfl (ch_iconst _ 0 dX1_object_9 rfl (ch_iv yX1_fault prog_5_method_2_code 2 (some (.object "ClassHouse$Thrown")) (ci := 1) (q := (RX1, TX1, 22)) (b := t0) (d' := 3) (av := [.int 0]) (rest := []) rfl dX1_object_10 q1433 q1435 rfl qs83 q1436 can_X1_fault (Nat.le_of_ble_eq_true rfl) (Nat.le_of_ble_eq_true rfl) (ch_rts hb5) (cp_kR (v := p6.1) (w1 := p6.2) (fun Q' hq => s_X1_fault hp7 hq) ?_)))
    obtain ⟨a8, ha, h⟩ := ch_bd h
    obtain rfl := Option.some.inj h
    exact ch_athrow p6.1 ha dX1_object_13 rfl hk

theorem bX0_numberOf_0 : ch_ck cX0_numberOf 0 [30, 4, 123, 136, 172] := ch_ckof (by decide +kernel)
theorem dX0_numberOf_0 : decode cX0_numberOf 0 = .ok (.lload_n 0, 1) := dz_30 (bX0_numberOf_0 0 _ rfl)
theorem dX0_numberOf_1 : decode cX0_numberOf 1 = .ok (.iconst 1, 1) := dz_4 (bX0_numberOf_0 1 _ rfl)
theorem dX0_numberOf_2 : decode cX0_numberOf 2 = .ok (.lshr, 1) := dz_123 (bX0_numberOf_0 2 _ rfl)
theorem dX0_numberOf_3 : decode cX0_numberOf 3 = .ok (.l2i, 1) := dz_136 (bX0_numberOf_0 3 _ rfl)
theorem dX0_numberOf_4 : decode cX0_numberOf 4 = .ok (.ireturn, 1) := dz_172 (bX0_numberOf_0 4 _ rfl)
def c_X0_numberOf (x0 : Int64) (w : ch_W) : Option (Int32) := some (Int64.toInt32 (x0 >>> (Int32.toInt64 1 &&& 63)))
theorem s_X0_numberOf {g : State} {kb : Bool} {x0 : Int64} {w : ch_W} {res : Int32} {Q : Outcome → ch_W → Prop} (h : c_X0_numberOf x0 w = some res) (hk : (fun r => ch_eI Q (r, w)) res) : ch_CT g kb yX0_numberOf 2 [.long x0] (w) Q := by
  unfold c_X0_numberOf at h
  refine ch_ctL mX0_numberOf (ls := [some (.long x0), none]) q1451 rfl (ch_lyl ch_ly0) (Nat.le_of_ble_eq_true rfl) rfl ?_
  obtain rfl := Option.some.inj h
  exact ch_lload_n 0 _ dX0_numberOf_0 rfl (ch_iconst _ 1 dX0_numberOf_1 rfl (ch_lshr _ _ dX0_numberOf_2 (ch_l2i _ dX0_numberOf_3 (ch_ireturn _ dX0_numberOf_4 rfl rfl hk))))

theorem bX1_popNumber_0 : ch_ck cX1_popNumber 0 [42, 182, 0, 190, 184, 0, 194, 172] := ch_ckof (by decide +kernel)
theorem dX1_popNumber_0 : decode cX1_popNumber 0 = .ok (.aload_n 0, 1) := dz_42 (bX1_popNumber_0 0 _ rfl)
theorem dX1_popNumber_1 : decode cX1_popNumber 1 = .ok (.invokevirtual 190, 3) := dz_182 (bX1_popNumber_0 1 _ rfl) (bX1_popNumber_0 2 _ rfl) (bX1_popNumber_0 3 _ rfl)
theorem dX1_popNumber_4 : decode cX1_popNumber 4 = .ok (.invokestatic 194, 3) := dz_184 (bX1_popNumber_0 4 _ rfl) (bX1_popNumber_0 5 _ rfl) (bX1_popNumber_0 6 _ rfl)
theorem dX1_popNumber_7 : decode cX1_popNumber 7 = .ok (.ireturn, 1) := dz_172 (bX1_popNumber_0 7 _ rfl)
def c_X1_popNumber (t0 : Nat)  (w : ch_W) : Option (Int32 × ch_W) := (ch_rc w (some t0) 2).bind fun _ => (c_X1_pop t0 w).bind fun p2 => (c_X0_numberOf p2.1 p2.2).bind fun v4 => some ((v4, p2.2))
theorem s_X1_popNumber {g : State} {t0 : Nat} {w : ch_W} {res : Int32 × ch_W} {Q : Outcome → ch_W → Prop} (h : c_X1_popNumber t0 w = some res) (hk : (ch_eI Q) res) : ch_CT g true yX1_popNumber 3 [.ref t0] (w) Q := by
  unfold c_X1_popNumber at h
  refine ch_ctL mX1_popNumber (ls := [some (va_rf (some t0))]) q1448 rfl (ch_lyr (r := some t0) ch_ly0) (Nat.le_of_ble_eq_true rfl) rfl ?_
  obtain ⟨_, hb1, h⟩ := ch_bd h
  obtain ⟨p2, hp3, h⟩ := ch_bd h
  refine ch_aload_n 0 (some t0) dX1_popNumber_0 rfl (ch_iv yX1_pop prog_5_method_13_code 1 (some .long) (ci := 1) (q := (RX1, TX1, 22)) (b := t0) (d' := 2) (av := []) (rest := []) rfl dX1_popNumber_1 q1425 q1427 rfl qs81 q1428 can_X1_pop (Nat.le_of_ble_eq_true rfl) (Nat.le_of_ble_eq_true rfl) (ch_rts hb1) (cp_kL (v := p2.1) (w1 := p2.2) (fun Q' hq => s_X1_pop hp3 hq) ?_))
  obtain ⟨v4, hp5, h⟩ := ch_bd h
  refine ch_isT yX0_numberOf prog_1_method_5_code 2 (some .int) (d' := 2) (av := [.long p2.1]) (rest := []) rfl dX1_popNumber_4 q1449 q1450 q200 q1451 can_X0_numberOf (Nat.le_of_ble_eq_true rfl) (Nat.le_of_ble_eq_true rfl) (cp_kI (v := v4) (w1 := p2.2) (fun Q' hq => s_X0_numberOf hp5 hq) ?_)
  obtain rfl := Option.some.inj h
  exact ch_ireturn _ dX1_popNumber_7 rfl rfl hk

theorem bX1_elementAt_0 : ch_ck cX1_elementAt 0 [42, 31, 182, 1, 3, 54, 4, 29, 155, 0, 18, 29, 133, 42, 180, 0] := ch_ckof (by decide +kernel)
theorem bX1_elementAt_1 : ch_ck cX1_elementAt 16 [9, 21, 4, 4, 96, 47, 148, 155, 0, 9, 42, 4, 182, 0, 164, 191] := ch_ckof (by decide +kernel)
theorem bX1_elementAt_2 : ch_ck cX1_elementAt 32 [21, 4, 5, 96, 29, 96, 172] := ch_ckof (by decide +kernel)
theorem dX1_elementAt_0 : decode cX1_elementAt 0 = .ok (.aload_n 0, 1) := dz_42 (bX1_elementAt_0 0 _ rfl)
theorem dX1_elementAt_1 : decode cX1_elementAt 1 = .ok (.lload_n 1, 1) := dz_31 (bX1_elementAt_0 1 _ rfl)
theorem dX1_elementAt_2 : decode cX1_elementAt 2 = .ok (.invokevirtual 259, 3) := dz_182 (bX1_elementAt_0 2 _ rfl) (bX1_elementAt_0 3 _ rfl) (bX1_elementAt_0 4 _ rfl)
theorem dX1_elementAt_5 : decode cX1_elementAt 5 = .ok (.istore 4, 2) := dz_54 (bX1_elementAt_0 5 _ rfl) (bX1_elementAt_0 6 _ rfl)
theorem dX1_elementAt_7 : decode cX1_elementAt 7 = .ok (.iload_n 3, 1) := dz_29 (bX1_elementAt_0 7 _ rfl)
theorem dX1_elementAt_8 : decode cX1_elementAt 8 = .ok (.ifCond .lt 18, 3) := dz_155 (bX1_elementAt_0 8 _ rfl) (bX1_elementAt_0 9 _ rfl) (bX1_elementAt_0 10 _ rfl)
theorem dX1_elementAt_11 : decode cX1_elementAt 11 = .ok (.iload_n 3, 1) := dz_29 (bX1_elementAt_0 11 _ rfl)
theorem dX1_elementAt_12 : decode cX1_elementAt 12 = .ok (.i2l, 1) := dz_133 (bX1_elementAt_0 12 _ rfl)
theorem dX1_elementAt_13 : decode cX1_elementAt 13 = .ok (.aload_n 0, 1) := dz_42 (bX1_elementAt_0 13 _ rfl)
theorem dX1_elementAt_14 : decode cX1_elementAt 14 = .ok (.getfield 9, 3) := dz_180 (bX1_elementAt_0 14 _ rfl) (bX1_elementAt_0 15 _ rfl) (bX1_elementAt_1 0 _ rfl)
theorem dX1_elementAt_17 : decode cX1_elementAt 17 = .ok (.iload 4, 2) := dz_21 (bX1_elementAt_1 1 _ rfl) (bX1_elementAt_1 2 _ rfl)
theorem dX1_elementAt_19 : decode cX1_elementAt 19 = .ok (.iconst 1, 1) := dz_4 (bX1_elementAt_1 3 _ rfl)
theorem dX1_elementAt_20 : decode cX1_elementAt 20 = .ok (.iadd, 1) := dz_96 (bX1_elementAt_1 4 _ rfl)
theorem dX1_elementAt_21 : decode cX1_elementAt 21 = .ok (.laload, 1) := dz_47 (bX1_elementAt_1 5 _ rfl)
theorem dX1_elementAt_22 : decode cX1_elementAt 22 = .ok (.lcmp, 1) := dz_148 (bX1_elementAt_1 6 _ rfl)
theorem dX1_elementAt_23 : decode cX1_elementAt 23 = .ok (.ifCond .lt 9, 3) := dz_155 (bX1_elementAt_1 7 _ rfl) (bX1_elementAt_1 8 _ rfl) (bX1_elementAt_1 9 _ rfl)
theorem dX1_elementAt_26 : decode cX1_elementAt 26 = .ok (.aload_n 0, 1) := dz_42 (bX1_elementAt_1 10 _ rfl)
theorem dX1_elementAt_27 : decode cX1_elementAt 27 = .ok (.iconst 1, 1) := dz_4 (bX1_elementAt_1 11 _ rfl)
theorem dX1_elementAt_28 : decode cX1_elementAt 28 = .ok (.invokevirtual 164, 3) := dz_182 (bX1_elementAt_1 12 _ rfl) (bX1_elementAt_1 13 _ rfl) (bX1_elementAt_1 14 _ rfl)
theorem dX1_elementAt_31 : decode cX1_elementAt 31 = .ok (.athrow, 1) := dz_191 (bX1_elementAt_1 15 _ rfl)
theorem dX1_elementAt_32 : decode cX1_elementAt 32 = .ok (.iload 4, 2) := dz_21 (bX1_elementAt_2 0 _ rfl) (bX1_elementAt_2 1 _ rfl)
theorem dX1_elementAt_34 : decode cX1_elementAt 34 = .ok (.iconst 2, 1) := dz_5 (bX1_elementAt_2 2 _ rfl)
theorem dX1_elementAt_35 : decode cX1_elementAt 35 = .ok (.iadd, 1) := dz_96 (bX1_elementAt_2 3 _ rfl)
theorem dX1_elementAt_36 : decode cX1_elementAt 36 = .ok (.iload_n 3, 1) := dz_29 (bX1_elementAt_2 4 _ rfl)
theorem dX1_elementAt_37 : decode cX1_elementAt 37 = .ok (.iadd, 1) := dz_96 (bX1_elementAt_2 5 _ rfl)
theorem dX1_elementAt_38 : decode cX1_elementAt 38 = .ok (.ireturn, 1) := dz_172 (bX1_elementAt_2 6 _ rfl)
def c_X1_elementAt_26 (t0 : Nat)   (w : ch_W) : Option (Except Nat Int32 × ch_W) := (ch_rc w (some t0) 2).bind fun _ => (c_X1_fault t0 1 w).bind fun p2 => (p2.1).bind fun a4 => some ((.error a4, p2.2))
theorem s_X1_elementAt_26 {g : State} {t0 : Nat} {w : ch_W} {res : Except Nat Int32 × ch_W} {Q : Outcome → ch_W → Prop} (h : c_X1_elementAt_26 t0 w = some res) (hk : (ch_xI Q) res) : ch_FT g true mX1_elementAt 5 26 [some (va_rf (some t0)), none, none, none, none] [] (w) Q := by
  unfold c_X1_elementAt_26 at h
  obtain ⟨_, hb1, h⟩ := ch_bd h
  obtain ⟨p2, hp3, h⟩ := ch_bd h
  refine ch_aload_n 0 (some t0) dX1_elementAt_26 rfl (ch_iconst _ 1 dX1_elementAt_27 rfl (ch_iv yX1_fault prog_5_method_2_code 2 (some (.object "ClassHouse$Thrown")) (ci := 1) (q := (RX1, TX1, 22)) (b := t0) (d' := 3) (av := [.int 1]) (rest := []) rfl dX1_elementAt_28 q1433 q1435 rfl qs83 q1436 can_X1_fault (Nat.le_of_ble_eq_true rfl) (Nat.le_of_ble_eq_true rfl) (ch_rts hb1) (cp_kR (v := p2.1) (w1 := p2.2) (fun Q' hq => s_X1_fault hp3 hq) ?_)))
  obtain ⟨a4, ha, h⟩ := ch_bd h
  obtain rfl := Option.some.inj h
  exact ch_athrow p2.1 ha dX1_elementAt_31 rfl hk

def c_X1_elementAt (t0 : Nat) (x1 : Int64) (x3 : Int32) (w : ch_W) : Option (Except Nat Int32 × ch_W) := (ch_rc w (some t0) 2).bind fun _ => ch_tb (c_X1_object t0 x1 w) (fun a w => (.error a, w)) fun v2 w3 => if x3 < 0 then (c_X1_elementAt_26 t0 w3) else ((ch_gR w3 (some t0) 2 fX1_heap).bind fun v4 => (ch_lL w3 v4 24 (v2 + 1)).bind fun v5 => if (lg_cmp (Int32.toInt64 x3) v5) < 0 then (some ((.ok ((v2 + 2) + x3), w3))) else (c_X1_elementAt_26 t0 w3))
theorem s_X1_elementAt {g : State} {t0 : Nat} {x1 : Int64} {x3 : Int32} {w : ch_W} {res : Except Nat Int32 × ch_W} {Q : Outcome → ch_W → Prop} (h : c_X1_elementAt t0 x1 x3 w = some res) (hk : (ch_xI Q) res) : ch_CT g true yX1_elementAt 5 [.ref t0, .long x1, .int x3] (w) Q := by
  unfold c_X1_elementAt at h
  refine ch_ctL mX1_elementAt (ls := [some (va_rf (some t0)), some (.long x1), none, some (.int x3), none]) q1455 rfl (ch_lyr (r := some t0) (ch_lyl (ch_lyi ch_ly0))) (Nat.le_of_ble_eq_true rfl) rfl ?_
  obtain ⟨_, hb1, h⟩ := ch_bd h
  refine ch_aload_n 0 (some t0) dX1_elementAt_0 rfl (ch_lload_n 1 _ dX1_elementAt_1 rfl (ch_iv yX1_object prog_5_method_30_code 3 (some .int) (ci := 1) (q := (RX1, TX1, 22)) (b := t0) (d' := 4) (av := [.long x1]) (rest := []) rfl dX1_elementAt_2 q1429 q1431 rfl qs82 q1432 can_X1_object (Nat.le_of_ble_eq_true rfl) (Nat.le_of_ble_eq_true rfl) (ch_rts hb1) (cp_tI h (fun p hp Q' hq => s_X1_object hp hq) (fun v2 w3 h => ?_) (fun a w1 h => ?_))))
  · refine ch_istore 4 _ (ls1 := [some (va_rf (some t0)), some (.long x1), none, some (.int x3), some (.int v2)]) dX1_elementAt_5 (Nat.le_of_ble_eq_true rfl) rfl (ch_iload_n 3 _ dX1_elementAt_7 rfl (cp_if_lt _ (tgt := 26) dX1_elementAt_8 rfl h (fun h => ?_) (fun h => ?_)))
    · exact ch_FT.wk (ch_wS (ch_wN (ch_wN (ch_wN (ch_wN ch_w0))))) (s_X1_elementAt_26  h hk)
    · refine ch_iload_n 3 _ dX1_elementAt_11 rfl (ch_i2l _ dX1_elementAt_12 (ch_aload_n 0 (some t0) dX1_elementAt_13 rfl (cp_gR (ci := 1) (k := 2) dX1_elementAt_14 fl_X1_9 rfl h (fun v4 h => ?_))))
      refine ch_iload 4 _ dX1_elementAt_17 rfl (ch_iconst _ 1 dX1_elementAt_19 rfl (ch_iadd _ _ dX1_elementAt_20 (cp_lald (t := 24) dX1_elementAt_21 rfl rfl h (fun v5 h => ?_))))
      refine ch_lcmp _ _ dX1_elementAt_22 (cp_if_lt _ (tgt := 32) dX1_elementAt_23 rfl h (fun h => ?_) (fun h => ?_))
      · obtain rfl := Option.some.inj h
        exact ch_iload 4 _ dX1_elementAt_32 rfl (ch_iconst _ 2 dX1_elementAt_34 rfl (ch_iadd _ _ dX1_elementAt_35 (ch_iload_n 3 _ dX1_elementAt_36 rfl (ch_iadd _ _ dX1_elementAt_37 (ch_ireturn _ dX1_elementAt_38 rfl rfl hk)))))
      · exact ch_FT.wk (ch_wS (ch_wN (ch_wN (ch_wN (ch_wN ch_w0))))) (s_X1_elementAt_26  h hk)
  · subst h
    exact ch_th rfl hk

theorem bX1_element_0 : ch_ck cX1_element 0 [42, 182, 1, 15, 60, 42, 42, 180, 0, 9, 42, 42, 182, 0, 190, 27] := ch_ckof (by decide +kernel)
theorem bX1_element_1 : ch_ck cX1_element 16 [182, 1, 45, 47, 136, 184, 0, 253, 182, 0, 108, 177] := ch_ckof (by decide +kernel)
theorem dX1_element_0 : decode cX1_element 0 = .ok (.aload_n 0, 1) := dz_42 (bX1_element_0 0 _ rfl)
theorem dX1_element_1 : decode cX1_element 1 = .ok (.invokevirtual 271, 3) := dz_182 (bX1_element_0 1 _ rfl) (bX1_element_0 2 _ rfl) (bX1_element_0 3 _ rfl)
theorem dX1_element_4 : decode cX1_element 4 = .ok (.istore_n 1, 1) := dz_60 (bX1_element_0 4 _ rfl)
theorem dX1_element_5 : decode cX1_element 5 = .ok (.aload_n 0, 1) := dz_42 (bX1_element_0 5 _ rfl)
theorem dX1_element_6 : decode cX1_element 6 = .ok (.aload_n 0, 1) := dz_42 (bX1_element_0 6 _ rfl)
theorem dX1_element_7 : decode cX1_element 7 = .ok (.getfield 9, 3) := dz_180 (bX1_element_0 7 _ rfl) (bX1_element_0 8 _ rfl) (bX1_element_0 9 _ rfl)
theorem dX1_element_10 : decode cX1_element 10 = .ok (.aload_n 0, 1) := dz_42 (bX1_element_0 10 _ rfl)
theorem dX1_element_11 : decode cX1_element 11 = .ok (.aload_n 0, 1) := dz_42 (bX1_element_0 11 _ rfl)
theorem dX1_element_12 : decode cX1_element 12 = .ok (.invokevirtual 190, 3) := dz_182 (bX1_element_0 12 _ rfl) (bX1_element_0 13 _ rfl) (bX1_element_0 14 _ rfl)
theorem dX1_element_15 : decode cX1_element 15 = .ok (.iload_n 1, 1) := dz_27 (bX1_element_0 15 _ rfl)
theorem dX1_element_16 : decode cX1_element 16 = .ok (.invokevirtual 301, 3) := dz_182 (bX1_element_1 0 _ rfl) (bX1_element_1 1 _ rfl) (bX1_element_1 2 _ rfl)
theorem dX1_element_19 : decode cX1_element 19 = .ok (.laload, 1) := dz_47 (bX1_element_1 3 _ rfl)
theorem dX1_element_20 : decode cX1_element 20 = .ok (.l2i, 1) := dz_136 (bX1_element_1 4 _ rfl)
theorem dX1_element_21 : decode cX1_element 21 = .ok (.invokestatic 253, 3) := dz_184 (bX1_element_1 5 _ rfl) (bX1_element_1 6 _ rfl) (bX1_element_1 7 _ rfl)
theorem dX1_element_24 : decode cX1_element 24 = .ok (.invokevirtual 108, 3) := dz_182 (bX1_element_1 8 _ rfl) (bX1_element_1 9 _ rfl) (bX1_element_1 10 _ rfl)
theorem dX1_element_27 : decode cX1_element 27 = .ok (.return_, 1) := dz_177 (bX1_element_1 11 _ rfl)
def c_X1_element (t0 : Nat)  (w : ch_W) : Option (Except Nat Unit × ch_W) := (ch_rc w (some t0) 2).bind fun _ => (c_X1_popNumber t0 w).bind fun p2 => (ch_gR p2.2 (some t0) 2 fX1_heap).bind fun v4 => (ch_rc p2.2 (some t0) 2).bind fun _ => (c_X1_pop t0 p2.2).bind fun p6 => (ch_rc p6.2 (some t0) 2).bind fun _ => ch_tb (c_X1_elementAt t0 p6.1 p2.1 p6.2) (fun a w => (.error a, w)) fun v9 w10 => (ch_lL w10 v4 24 v9).bind fun v11 => (c_X0_numberWord (Int64.toInt32 v11) w10).bind fun v12 => (ch_rc w10 (some t0) 2).bind fun _ => (c_X1_push t0 v12 w10).bind fun p15 => some ((.ok (), p15))
theorem s_X1_element {g : State} {t0 : Nat} {w : ch_W} {res : Except Nat Unit × ch_W} {Q : Outcome → ch_W → Prop} (h : c_X1_element t0 w = some res) (hk : (ch_xV Q) res) : ch_CT g true yX1_element 6 [.ref t0] (w) Q := by
  unfold c_X1_element at h
  refine ch_ctL mX1_element (ls := [some (va_rf (some t0)), none]) q1444 rfl (ch_lyr (r := some t0) ch_ly0) (Nat.le_of_ble_eq_true rfl) rfl ?_
  obtain ⟨_, hb1, h⟩ := ch_bd h
  obtain ⟨p2, hp3, h⟩ := ch_bd h
  refine ch_aload_n 0 (some t0) dX1_element_0 rfl (ch_iv yX1_popNumber prog_5_method_14_code 1 (some .int) (ci := 1) (q := (RX1, TX1, 22)) (b := t0) (d' := 3) (av := []) (rest := []) rfl dX1_element_1 q1445 q1447 rfl qs86 q1448 can_X1_popNumber (Nat.le_of_ble_eq_true rfl) (Nat.le_of_ble_eq_true rfl) (ch_rts hb1) (cp_kI (v := p2.1) (w1 := p2.2) (fun Q' hq => s_X1_popNumber hp3 hq) ?_))
  refine ch_istore_n 1 _ (ls1 := [some (va_rf (some t0)), some (.int p2.1)]) dX1_element_4 (Nat.le_of_ble_eq_true rfl) rfl (ch_aload_n 0 (some t0) dX1_element_5 rfl (ch_aload_n 0 (some t0) dX1_element_6 rfl (cp_gR (ci := 1) (k := 2) dX1_element_7 fl_X1_9 rfl h (fun v4 h => ?_))))
  obtain ⟨_, hb5, h⟩ := ch_bd h
  obtain ⟨p6, hp7, h⟩ := ch_bd h
  refine ch_aload_n 0 (some t0) dX1_element_10 rfl (ch_aload_n 0 (some t0) dX1_element_11 rfl (ch_iv yX1_pop prog_5_method_13_code 1 (some .long) (ci := 1) (q := (RX1, TX1, 22)) (b := t0) (d' := 2) (av := []) (rest := [va_rf (some t0), va_rf v4, va_rf (some t0)]) rfl dX1_element_12 q1425 q1427 rfl qs81 q1428 can_X1_pop (Nat.le_of_ble_eq_true rfl) (ch_hw (Nat.le_of_ble_eq_true rfl)) (ch_rts hb5) (cp_kL (v := p6.1) (w1 := p6.2) (fun Q' hq => s_X1_pop hp7 hq) ?_)))
  obtain ⟨_, hb8, h⟩ := ch_bd h
  refine ch_iload_n 1 _ dX1_element_15 rfl (ch_iv yX1_elementAt prog_5_method_31_code 5 (some .int) (ci := 1) (q := (RX1, TX1, 22)) (b := t0) (d' := 5) (av := [.long p6.1, .int p2.1]) (rest := [va_rf v4, va_rf (some t0)]) rfl dX1_element_16 q1452 q1454 rfl qs87 q1455 can_X1_elementAt (Nat.le_of_ble_eq_true rfl) (ch_hw (Nat.le_of_ble_eq_true rfl)) (ch_rts hb8) (cp_tI h (fun p hp Q' hq => s_X1_elementAt hp hq) (fun v9 w10 h => ?_) (fun a w1 h => ?_)))
  · refine cp_lald (t := 24) dX1_element_19 rfl rfl h (fun v11 h => ?_)
    obtain ⟨v12, hp13, h⟩ := ch_bd h
    refine ch_l2i _ dX1_element_20 (ch_isT yX0_numberWord prog_1_method_4_code 1 (some .long) (d' := 2) (av := [.int (Int64.toInt32 v11)]) (rest := [va_rf (some t0)]) rfl dX1_element_21 q1418 q1419 q200 q1420 can_X0_numberWord (Nat.le_of_ble_eq_true rfl) (ch_hw (Nat.le_of_ble_eq_true rfl)) (cp_kL (v := v12) (w1 := w10) (fun Q' hq => s_X0_numberWord hp13 hq) ?_))
    obtain ⟨_, hb14, h⟩ := ch_bd h
    obtain ⟨p15, hp16, h⟩ := ch_bd h
    refine ch_iv yX1_push prog_5_method_12_code 3 none (ci := 1) (q := (RX1, TX1, 22)) (b := t0) (d' := 2) (av := [.long v12]) (rest := []) rfl dX1_element_24 q1377 q1379 rfl qs72 q1380 can_X1_push (Nat.le_of_ble_eq_true rfl) (Nat.le_of_ble_eq_true rfl) (ch_rts hb14) (cp_kV (w1 := p15) (fun Q' hq => s_X1_push hp16 hq) ?_)
    obtain rfl := Option.some.inj h
    exact ch_return dX1_element_27 rfl hk
  · subst h
    exact ch_th rfl hk

theorem bX1_newInts_0 : ch_ck cX1_newInts 0 [27, 156, 0, 9, 42, 7, 182, 0, 164, 191, 27, 42, 180, 0, 72, 164] := ch_ckof (by decide +kernel)
theorem bX1_newInts_1 : ch_ck cX1_newInts 16 [0, 16, 42, 182, 0, 119, 187, 0, 122, 89, 6, 183, 0, 124, 191, 42] := ch_ckof (by decide +kernel)
theorem bX1_newInts_2 : ch_ck cX1_newInts 32 [5, 27, 96, 182, 0, 127, 42, 4, 27, 182, 0, 130, 61, 3, 62, 29] := ch_ckof (by decide +kernel)
theorem bX1_newInts_3 : ch_ck cX1_newInts 48 [27, 162, 0, 20, 42, 180, 0, 9, 28, 5, 96, 29, 96, 9, 80, 132] := ch_ckof (by decide +kernel)
theorem bX1_newInts_4 : ch_ck cX1_newInts 64 [3, 1, 167, 255, 237, 28, 184, 0, 48, 173] := ch_ckof (by decide +kernel)
theorem dX1_newInts_0 : decode cX1_newInts 0 = .ok (.iload_n 1, 1) := dz_27 (bX1_newInts_0 0 _ rfl)
theorem dX1_newInts_1 : decode cX1_newInts 1 = .ok (.ifCond .ge 9, 3) := dz_156 (bX1_newInts_0 1 _ rfl) (bX1_newInts_0 2 _ rfl) (bX1_newInts_0 3 _ rfl)
theorem dX1_newInts_4 : decode cX1_newInts 4 = .ok (.aload_n 0, 1) := dz_42 (bX1_newInts_0 4 _ rfl)
theorem dX1_newInts_5 : decode cX1_newInts 5 = .ok (.iconst 4, 1) := dz_7 (bX1_newInts_0 5 _ rfl)
theorem dX1_newInts_6 : decode cX1_newInts 6 = .ok (.invokevirtual 164, 3) := dz_182 (bX1_newInts_0 6 _ rfl) (bX1_newInts_0 7 _ rfl) (bX1_newInts_0 8 _ rfl)
theorem dX1_newInts_9 : decode cX1_newInts 9 = .ok (.athrow, 1) := dz_191 (bX1_newInts_0 9 _ rfl)
theorem dX1_newInts_10 : decode cX1_newInts 10 = .ok (.iload_n 1, 1) := dz_27 (bX1_newInts_0 10 _ rfl)
theorem dX1_newInts_11 : decode cX1_newInts 11 = .ok (.aload_n 0, 1) := dz_42 (bX1_newInts_0 11 _ rfl)
theorem dX1_newInts_12 : decode cX1_newInts 12 = .ok (.getfield 72, 3) := dz_180 (bX1_newInts_0 12 _ rfl) (bX1_newInts_0 13 _ rfl) (bX1_newInts_0 14 _ rfl)
theorem dX1_newInts_15 : decode cX1_newInts 15 = .ok (.if_icmp .le 16, 3) := dz_164 (bX1_newInts_0 15 _ rfl) (bX1_newInts_1 0 _ rfl) (bX1_newInts_1 1 _ rfl)
theorem dX1_newInts_18 : decode cX1_newInts 18 = .ok (.aload_n 0, 1) := dz_42 (bX1_newInts_1 2 _ rfl)
theorem dX1_newInts_19 : decode cX1_newInts 19 = .ok (.invokevirtual 119, 3) := dz_182 (bX1_newInts_1 3 _ rfl) (bX1_newInts_1 4 _ rfl) (bX1_newInts_1 5 _ rfl)
theorem dX1_newInts_22 : decode cX1_newInts 22 = .ok (.new 122, 3) := dz_187 (bX1_newInts_1 6 _ rfl) (bX1_newInts_1 7 _ rfl) (bX1_newInts_1 8 _ rfl)
theorem dX1_newInts_25 : decode cX1_newInts 25 = .ok (.dup, 1) := dz_89 (bX1_newInts_1 9 _ rfl)
theorem dX1_newInts_26 : decode cX1_newInts 26 = .ok (.iconst 3, 1) := dz_6 (bX1_newInts_1 10 _ rfl)
theorem dX1_newInts_27 : decode cX1_newInts 27 = .ok (.invokespecial 124, 3) := dz_183 (bX1_newInts_1 11 _ rfl) (bX1_newInts_1 12 _ rfl) (bX1_newInts_1 13 _ rfl)
theorem dX1_newInts_30 : decode cX1_newInts 30 = .ok (.athrow, 1) := dz_191 (bX1_newInts_1 14 _ rfl)
theorem dX1_newInts_31 : decode cX1_newInts 31 = .ok (.aload_n 0, 1) := dz_42 (bX1_newInts_1 15 _ rfl)
theorem dX1_newInts_32 : decode cX1_newInts 32 = .ok (.iconst 2, 1) := dz_5 (bX1_newInts_2 0 _ rfl)
theorem dX1_newInts_33 : decode cX1_newInts 33 = .ok (.iload_n 1, 1) := dz_27 (bX1_newInts_2 1 _ rfl)
theorem dX1_newInts_34 : decode cX1_newInts 34 = .ok (.iadd, 1) := dz_96 (bX1_newInts_2 2 _ rfl)
theorem dX1_newInts_35 : decode cX1_newInts 35 = .ok (.invokevirtual 127, 3) := dz_182 (bX1_newInts_2 3 _ rfl) (bX1_newInts_2 4 _ rfl) (bX1_newInts_2 5 _ rfl)
theorem dX1_newInts_38 : decode cX1_newInts 38 = .ok (.aload_n 0, 1) := dz_42 (bX1_newInts_2 6 _ rfl)
theorem dX1_newInts_39 : decode cX1_newInts 39 = .ok (.iconst 1, 1) := dz_4 (bX1_newInts_2 7 _ rfl)
theorem dX1_newInts_40 : decode cX1_newInts 40 = .ok (.iload_n 1, 1) := dz_27 (bX1_newInts_2 8 _ rfl)
theorem dX1_newInts_41 : decode cX1_newInts 41 = .ok (.invokevirtual 130, 3) := dz_182 (bX1_newInts_2 9 _ rfl) (bX1_newInts_2 10 _ rfl) (bX1_newInts_2 11 _ rfl)
theorem dX1_newInts_44 : decode cX1_newInts 44 = .ok (.istore_n 2, 1) := dz_61 (bX1_newInts_2 12 _ rfl)
theorem dX1_newInts_45 : decode cX1_newInts 45 = .ok (.iconst 0, 1) := dz_3 (bX1_newInts_2 13 _ rfl)
theorem dX1_newInts_46 : decode cX1_newInts 46 = .ok (.istore_n 3, 1) := dz_62 (bX1_newInts_2 14 _ rfl)
theorem dX1_newInts_47 : decode cX1_newInts 47 = .ok (.iload_n 3, 1) := dz_29 (bX1_newInts_2 15 _ rfl)
theorem dX1_newInts_48 : decode cX1_newInts 48 = .ok (.iload_n 1, 1) := dz_27 (bX1_newInts_3 0 _ rfl)
theorem dX1_newInts_49 : decode cX1_newInts 49 = .ok (.if_icmp .ge 20, 3) := dz_162 (bX1_newInts_3 1 _ rfl) (bX1_newInts_3 2 _ rfl) (bX1_newInts_3 3 _ rfl)
theorem dX1_newInts_52 : decode cX1_newInts 52 = .ok (.aload_n 0, 1) := dz_42 (bX1_newInts_3 4 _ rfl)
theorem dX1_newInts_53 : decode cX1_newInts 53 = .ok (.getfield 9, 3) := dz_180 (bX1_newInts_3 5 _ rfl) (bX1_newInts_3 6 _ rfl) (bX1_newInts_3 7 _ rfl)
theorem dX1_newInts_56 : decode cX1_newInts 56 = .ok (.iload_n 2, 1) := dz_28 (bX1_newInts_3 8 _ rfl)
theorem dX1_newInts_57 : decode cX1_newInts 57 = .ok (.iconst 2, 1) := dz_5 (bX1_newInts_3 9 _ rfl)
theorem dX1_newInts_58 : decode cX1_newInts 58 = .ok (.iadd, 1) := dz_96 (bX1_newInts_3 10 _ rfl)
theorem dX1_newInts_59 : decode cX1_newInts 59 = .ok (.iload_n 3, 1) := dz_29 (bX1_newInts_3 11 _ rfl)
theorem dX1_newInts_60 : decode cX1_newInts 60 = .ok (.iadd, 1) := dz_96 (bX1_newInts_3 12 _ rfl)
theorem dX1_newInts_61 : decode cX1_newInts 61 = .ok (.lconst 0, 1) := dz_9 (bX1_newInts_3 13 _ rfl)
theorem dX1_newInts_62 : decode cX1_newInts 62 = .ok (.lastore, 1) := dz_80 (bX1_newInts_3 14 _ rfl)
theorem dX1_newInts_63 : decode cX1_newInts 63 = .ok (.iinc 3 1, 3) := dz_132 (bX1_newInts_3 15 _ rfl) (bX1_newInts_4 0 _ rfl) (bX1_newInts_4 1 _ rfl)
theorem dX1_newInts_66 : decode cX1_newInts 66 = .ok (.goto (-19), 3) := dz_167 (bX1_newInts_4 2 _ rfl) (bX1_newInts_4 3 _ rfl) (bX1_newInts_4 4 _ rfl)
theorem dX1_newInts_69 : decode cX1_newInts 69 = .ok (.iload_n 2, 1) := dz_28 (bX1_newInts_4 5 _ rfl)
theorem dX1_newInts_70 : decode cX1_newInts 70 = .ok (.invokestatic 48, 3) := dz_184 (bX1_newInts_4 6 _ rfl) (bX1_newInts_4 7 _ rfl) (bX1_newInts_4 8 _ rfl)
theorem dX1_newInts_73 : decode cX1_newInts 73 = .ok (.lreturn, 1) := dz_173 (bX1_newInts_4 9 _ rfl)
def c_X1_newInts_47 (g : State) (t0 : Nat) (x1 : Int32) (x2 : Int32) (x3 : Int32)  (w : ch_W) : Option ((Int32 × ch_W) ⊕ (Except Nat Int64 × ch_W)) := if x3 < x1 then ((ch_gR w (some t0) 2 fX1_heap).bind fun v3 => (ch_wL w v3 24 ((x2 + 2) + x3) 0).bind fun w4 => some (.inl (x3 + 1, w4))) else ((c_X0_placeWord x2 w).bind fun v1 => some (.inr ((.ok v1, w))))
theorem s_X1_newInts_47 {g : State} {t0 : Nat} {x1 : Int32} {x2 : Int32} {x3 : Int32} {w : ch_W} {res : (Int32 × ch_W) ⊕ (Except Nat Int64 × ch_W)} {Q : Outcome → ch_W → Prop} (h : c_X1_newInts_47 g t0 x1 x2 x3 w = some res) (hk : (ch_sm (fun s => ch_FT g true mX1_newInts 8 47 [some (va_rf (some t0)), some (.int x1), some (.int x2), some (.int s.1)] [] (s.2) Q) (ch_xL Q)) res) : ch_FT g true mX1_newInts 8 47 [some (va_rf (some t0)), some (.int x1), some (.int x2), some (.int x3)] [] (w) Q := by
  unfold c_X1_newInts_47 at h
  refine ch_iload_n 3 _ dX1_newInts_47 rfl (ch_iload_n 1 _ dX1_newInts_48 rfl (cp_icmp_ge _ _ (tgt := 69) dX1_newInts_49 rfl h (fun h => ?_) (fun h => ?_)))
  · obtain ⟨v1, hp2, h⟩ := ch_bd h
    refine ch_iload_n 2 _ dX1_newInts_69 rfl (ch_isT yX0_placeWord prog_1_method_1_code 1 (some .long) (d' := 2) (av := [.int x2]) (rest := []) rfl dX1_newInts_70 q1343 q1344 q200 q1345 can_X0_placeWord (Nat.le_of_ble_eq_true rfl) (Nat.le_of_ble_eq_true rfl) (cp_kL (v := v1) (w1 := w) (fun Q' hq => s_X0_placeWord hp2 hq) ?_))
    obtain rfl := Option.some.inj h
    exact ch_lreturn _ dX1_newInts_73 rfl hk
  · refine ch_aload_n 0 (some t0) dX1_newInts_52 rfl (cp_gR (ci := 1) (k := 2) dX1_newInts_53 fl_X1_9 rfl h (fun v3 h => ?_))
    refine ch_iload_n 2 _ dX1_newInts_56 rfl (ch_iconst _ 2 dX1_newInts_57 rfl (ch_iadd _ _ dX1_newInts_58 (ch_iload_n 3 _ dX1_newInts_59 rfl (ch_iadd _ _ dX1_newInts_60 (ch_lconst _ 0 dX1_newInts_61 rfl (cp_last (t := 24) dX1_newInts_62 rfl (Nat.le_of_ble_eq_true rfl) rfl h (fun w4 h => ?_)))))))
    refine ch_iinc 3 _ _ (x3 + 1) (ls1 := [some (va_rf (some t0)), some (.int x1), some (.int x2), some (.int (x3 + 1))]) dX1_newInts_63 rfl rfl (Nat.le_of_ble_eq_true rfl) rfl (ch_goto 47 dX1_newInts_66 rfl (ch_FT.wk (ch_wS (ch_wS (ch_wS (ch_wS ch_w0)))) ?_))
    obtain rfl := Option.some.inj h
    exact hk
theorem sl_X1_newInts_47 {g : State} {t0 : Nat} {x1 : Int32} {x2 : Int32} {a : Int32 × ch_W} {res : Except Nat Int64 × ch_W} {Q : Outcome → ch_W → Prop} (h : ch_loop (fun (s : Int32 × ch_W) => c_X1_newInts_47 g t0 x1 x2 s.1 s.2) a = some res) (hk : (ch_xL Q) res) : ch_FT g true mX1_newInts 8 47 [some (va_rf (some t0)), some (.int x1), some (.int x2), some (.int a.1)] [] (a.2) Q := by
  refine ch_loop_ind (fun (a : Int32 × ch_W) (r : Except Nat Int64 × ch_W) => (ch_xL Q) r → ch_FT g true mX1_newInts 8 47 [some (va_rf (some t0)), some (.int x1), some (.int x2), some (.int a.1)] [] (a.2) Q) ?_ ?_ a res h hk
  · intro a a2 b h1 ih hk
    exact s_X1_newInts_47  h1 (ih hk)
  · intro a b h1 hk
    exact s_X1_newInts_47  h1 hk

def c_X1_newInts (g : State) (t0 : Nat) (x1 : Int32) (w : ch_W) : Option (Except Nat Int64 × ch_W) := if x1 < 0 then ((ch_rc w (some t0) 2).bind fun _ => (c_X1_fault t0 4 w).bind fun p16 => (p16.1).bind fun a18 => some ((.error a18, p16.2))) else ((ch_gI w (some t0) 2 fX1_size).bind fun v1 => if v1 < x1 then ((ch_rc w (some t0) 2).bind fun _ => (c_X1_collect t0 w).bind fun p9 => (ch_nO p9 13 7).bind fun w11 => (c_X12_init g (ch_nx p9) 3 w11).bind fun p12 => (some (ch_nx p9)).bind fun a14 => some ((.error a14, p12))) else ((ch_rc w (some t0) 2).bind fun _ => ch_tb (c_X1_room g t0 (2 + x1) w) (fun a w => (.error a, w)) fun _ w4 => (ch_rc w4 (some t0) 2).bind fun _ => (c_X1_make t0 1 x1 w4).bind fun p6 => ch_loop (fun (s : Int32 × ch_W) => c_X1_newInts_47 g t0 x1 p6.1 s.1 s.2) (0, p6.2)))
theorem s_X1_newInts {g : State} {t0 : Nat} {x1 : Int32} {w : ch_W} {res : Except Nat Int64 × ch_W} {Q : Outcome → ch_W → Prop} (h : c_X1_newInts g t0 x1 w = some res) (hk : (ch_xL Q) res) : ch_CT g true yX1_newInts 8 [.ref t0, .int x1] (w) Q := by
  unfold c_X1_newInts at h
  refine ch_ctL mX1_newInts (ls := [some (va_rf (some t0)), some (.int x1), none, none]) q1463 rfl (ch_lyr (r := some t0) (ch_lyi ch_ly0)) (Nat.le_of_ble_eq_true rfl) rfl ?_
  refine ch_iload_n 1 _ dX1_newInts_0 rfl (cp_if_ge _ (tgt := 10) dX1_newInts_1 rfl h (fun h => ?_) (fun h => ?_))
  · refine ch_iload_n 1 _ dX1_newInts_10 rfl (ch_aload_n 0 (some t0) dX1_newInts_11 rfl (cp_gI (ci := 1) (k := 1) dX1_newInts_12 fl_X1_72 rfl h (fun v1 h => ?_)))
    refine cp_icmp_le _ _ (tgt := 31) dX1_newInts_15 rfl h (fun h => ?_) (fun h => ?_)
    · obtain ⟨_, hb2, h⟩ := ch_bd h
      refine ch_aload_n 0 (some t0) dX1_newInts_31 rfl (ch_iconst _ 2 dX1_newInts_32 rfl (ch_iload_n 1 _ dX1_newInts_33 rfl (ch_iadd _ _ dX1_newInts_34 (ch_iv yX1_room prog_5_method_5_code 2 none (ci := 1) (q := (RX1, TX1, 22)) (b := t0) (d' := 7) (av := [.int (2 + x1)]) (rest := []) rfl dX1_newInts_35 q1323 q1325 rfl qs67 q1326 can_X1_room (Nat.le_of_ble_eq_true rfl) (Nat.le_of_ble_eq_true rfl) (ch_rts hb2) (cp_tV h (fun p hp Q' hq => s_X1_room hp hq) (fun w4 h => ?_) (fun a w1 h => ?_))))))
      · obtain ⟨_, hb5, h⟩ := ch_bd h
        obtain ⟨p6, hp7, h⟩ := ch_bd h
        refine ch_aload_n 0 (some t0) dX1_newInts_38 rfl (ch_iconst _ 1 dX1_newInts_39 rfl (ch_iload_n 1 _ dX1_newInts_40 rfl (ch_iv yX1_make prog_5_method_4_code 4 (some .int) (ci := 1) (q := (RX1, TX1, 22)) (b := t0) (d' := 2) (av := [.int 1, .int x1]) (rest := []) rfl dX1_newInts_41 q1366 q1368 rfl qs70 q1369 can_X1_make (Nat.le_of_ble_eq_true rfl) (Nat.le_of_ble_eq_true rfl) (ch_rts hb5) (cp_kI (v := p6.1) (w1 := p6.2) (fun Q' hq => s_X1_make hp7 hq) ?_))))
        exact ch_istore_n 2 _ (ls1 := [some (va_rf (some t0)), some (.int x1), some (.int p6.1), none]) dX1_newInts_44 (Nat.le_of_ble_eq_true rfl) rfl (ch_iconst _ 0 dX1_newInts_45 rfl (ch_istore_n 3 _ (ls1 := [some (va_rf (some t0)), some (.int x1), some (.int p6.1), some (.int 0)]) dX1_newInts_46 (Nat.le_of_ble_eq_true rfl) rfl (ch_FT.wk (ch_wS (ch_wS (ch_wS (ch_wS ch_w0)))) (sl_X1_newInts_47  h hk))))
      · subst h
        exact ch_th rfl hk
    · obtain ⟨_, hb8, h⟩ := ch_bd h
      obtain ⟨p9, hp10, h⟩ := ch_bd h
      refine ch_aload_n 0 (some t0) dX1_newInts_18 rfl (ch_iv yX1_collect prog_5_method_10_code 4 none (ci := 1) (q := (RX1, TX1, 22)) (b := t0) (d' := 4) (av := []) (rest := []) rfl dX1_newInts_19 q1327 q1329 rfl qs68 q1330 can_X1_collect (Nat.le_of_ble_eq_true rfl) (Nat.le_of_ble_eq_true rfl) (ch_rts hb8) (cp_kV (w1 := p9) (fun Q' hq => s_X1_collect hp10 hq) ?_))
      refine cp_new (ci := 12) (n := 7) (q := (RX12, TX12, 7)) dX1_newInts_22 rfl q1347 q1348 q227 h (fun w11 h => ?_)
      obtain ⟨p12, hp13, h⟩ := ch_bd h
      refine ch_dup dX1_newInts_25 (ch_cat _) (ch_iconst _ 3 dX1_newInts_26 rfl (ch_ii yX12_init prog_3_method_1_code 2 (b := (ch_nx p9)) (d' := 6) (av := [.int 3]) (rest := [va_rf (some (ch_nx p9))]) rfl dX1_newInts_27 rfl q1356 q1357 q1358 can_X12_init (Nat.le_of_ble_eq_true rfl) (ch_hw (Nat.le_of_ble_eq_true rfl)) (cp_kV (w1 := p12) (fun Q' hq => s_X12_init hp13 hq) ?_)))
      obtain ⟨a14, ha, h⟩ := ch_bd h
      obtain rfl := Option.some.inj h
      exact ch_athrow (some (ch_nx p9)) ha dX1_newInts_30 rfl hk
  · obtain ⟨_, hb15, h⟩ := ch_bd h
    obtain ⟨p16, hp17, h⟩ := ch_bd h
    refine ch_aload_n 0 (some t0) dX1_newInts_4 rfl (ch_iconst _ 4 dX1_newInts_5 rfl (ch_iv yX1_fault prog_5_method_2_code 2 (some (.object "ClassHouse$Thrown")) (ci := 1) (q := (RX1, TX1, 22)) (b := t0) (d' := 3) (av := [.int 4]) (rest := []) rfl dX1_newInts_6 q1433 q1435 rfl qs83 q1436 can_X1_fault (Nat.le_of_ble_eq_true rfl) (Nat.le_of_ble_eq_true rfl) (ch_rts hb15) (cp_kR (v := p16.1) (w1 := p16.2) (fun Q' hq => s_X1_fault hp17 hq) ?_)))
    obtain ⟨a18, ha, h⟩ := ch_bd h
    obtain rfl := Option.some.inj h
    exact ch_athrow p16.1 ha dX1_newInts_9 rfl hk

theorem bX1_newRow_0 : ch_ck cX1_newRow 0 [42, 42, 180, 0, 19, 42, 180, 0, 78, 4, 100, 47, 184, 0, 194, 182] := ch_ckof (by decide +kernel)
theorem bX1_newRow_1 : ch_ck cX1_newRow 16 [1, 49, 64, 42, 180, 0, 19, 42, 180, 0, 78, 4, 100, 31, 80, 177] := ch_ckof (by decide +kernel)
theorem dX1_newRow_0 : decode cX1_newRow 0 = .ok (.aload_n 0, 1) := dz_42 (bX1_newRow_0 0 _ rfl)
theorem dX1_newRow_1 : decode cX1_newRow 1 = .ok (.aload_n 0, 1) := dz_42 (bX1_newRow_0 1 _ rfl)
theorem dX1_newRow_2 : decode cX1_newRow 2 = .ok (.getfield 19, 3) := dz_180 (bX1_newRow_0 2 _ rfl) (bX1_newRow_0 3 _ rfl) (bX1_newRow_0 4 _ rfl)
theorem dX1_newRow_5 : decode cX1_newRow 5 = .ok (.aload_n 0, 1) := dz_42 (bX1_newRow_0 5 _ rfl)
theorem dX1_newRow_6 : decode cX1_newRow 6 = .ok (.getfield 78, 3) := dz_180 (bX1_newRow_0 6 _ rfl) (bX1_newRow_0 7 _ rfl) (bX1_newRow_0 8 _ rfl)
theorem dX1_newRow_9 : decode cX1_newRow 9 = .ok (.iconst 1, 1) := dz_4 (bX1_newRow_0 9 _ rfl)
theorem dX1_newRow_10 : decode cX1_newRow 10 = .ok (.isub, 1) := dz_100 (bX1_newRow_0 10 _ rfl)
theorem dX1_newRow_11 : decode cX1_newRow 11 = .ok (.laload, 1) := dz_47 (bX1_newRow_0 11 _ rfl)
theorem dX1_newRow_12 : decode cX1_newRow 12 = .ok (.invokestatic 194, 3) := dz_184 (bX1_newRow_0 12 _ rfl) (bX1_newRow_0 13 _ rfl) (bX1_newRow_0 14 _ rfl)
theorem dX1_newRow_15 : decode cX1_newRow 15 = .ok (.invokevirtual 305, 3) := dz_182 (bX1_newRow_0 15 _ rfl) (bX1_newRow_1 0 _ rfl) (bX1_newRow_1 1 _ rfl)
theorem dX1_newRow_18 : decode cX1_newRow 18 = .ok (.lstore_n 1, 1) := dz_64 (bX1_newRow_1 2 _ rfl)
theorem dX1_newRow_19 : decode cX1_newRow 19 = .ok (.aload_n 0, 1) := dz_42 (bX1_newRow_1 3 _ rfl)
theorem dX1_newRow_20 : decode cX1_newRow 20 = .ok (.getfield 19, 3) := dz_180 (bX1_newRow_1 4 _ rfl) (bX1_newRow_1 5 _ rfl) (bX1_newRow_1 6 _ rfl)
theorem dX1_newRow_23 : decode cX1_newRow 23 = .ok (.aload_n 0, 1) := dz_42 (bX1_newRow_1 7 _ rfl)
theorem dX1_newRow_24 : decode cX1_newRow 24 = .ok (.getfield 78, 3) := dz_180 (bX1_newRow_1 8 _ rfl) (bX1_newRow_1 9 _ rfl) (bX1_newRow_1 10 _ rfl)
theorem dX1_newRow_27 : decode cX1_newRow 27 = .ok (.iconst 1, 1) := dz_4 (bX1_newRow_1 11 _ rfl)
theorem dX1_newRow_28 : decode cX1_newRow 28 = .ok (.isub, 1) := dz_100 (bX1_newRow_1 12 _ rfl)
theorem dX1_newRow_29 : decode cX1_newRow 29 = .ok (.lload_n 1, 1) := dz_31 (bX1_newRow_1 13 _ rfl)
theorem dX1_newRow_30 : decode cX1_newRow 30 = .ok (.lastore, 1) := dz_80 (bX1_newRow_1 14 _ rfl)
theorem dX1_newRow_31 : decode cX1_newRow 31 = .ok (.return_, 1) := dz_177 (bX1_newRow_1 15 _ rfl)
def c_X1_newRow (g : State) (t0 : Nat)  (w : ch_W) : Option (Except Nat Unit × ch_W) := (ch_gR w (some t0) 2 fX1_pile).bind fun v1 => (ch_gI w (some t0) 2 fX1_top).bind fun v2 => (ch_lL w v1 24 (v2 - 1)).bind fun v3 => (c_X0_numberOf v3 w).bind fun v4 => (ch_rc w (some t0) 2).bind fun _ => ch_tb (c_X1_newInts g t0 v4 w) (fun a w => (.error a, w)) fun v7 w8 => (ch_gR w8 (some t0) 2 fX1_pile).bind fun v9 => (ch_gI w8 (some t0) 2 fX1_top).bind fun v10 => (ch_wL w8 v9 24 (v10 - 1) v7).bind fun w11 => some ((.ok (), w11))
theorem s_X1_newRow {g : State} {t0 : Nat} {w : ch_W} {res : Except Nat Unit × ch_W} {Q : Outcome → ch_W → Prop} (h : c_X1_newRow g t0 w = some res) (hk : (ch_xV Q) res) : ch_CT g true yX1_newRow 9 [.ref t0] (w) Q := by
  unfold c_X1_newRow at h
  refine ch_ctL mX1_newRow (ls := [some (va_rf (some t0)), none, none]) q1459 rfl (ch_lyr (r := some t0) ch_ly0) (Nat.le_of_ble_eq_true rfl) rfl ?_
  refine ch_aload_n 0 (some t0) dX1_newRow_0 rfl (ch_aload_n 0 (some t0) dX1_newRow_1 rfl (cp_gR (ci := 1) (k := 5) dX1_newRow_2 fl_X1_19 rfl h (fun v1 h => ?_)))
  refine ch_aload_n 0 (some t0) dX1_newRow_5 rfl (cp_gI (ci := 1) (k := 6) dX1_newRow_6 fl_X1_78 rfl h (fun v2 h => ?_))
  refine ch_iconst _ 1 dX1_newRow_9 rfl (ch_isub _ _ dX1_newRow_10 (cp_lald (t := 24) dX1_newRow_11 rfl rfl h (fun v3 h => ?_)))
  obtain ⟨v4, hp5, h⟩ := ch_bd h
  refine ch_isT yX0_numberOf prog_1_method_5_code 2 (some .int) (d' := 2) (av := [.long v3]) (rest := [va_rf (some t0)]) rfl dX1_newRow_12 q1449 q1450 q200 q1451 can_X0_numberOf (Nat.le_of_ble_eq_true rfl) (ch_hw (Nat.le_of_ble_eq_true rfl)) (cp_kI (v := v4) (w1 := w) (fun Q' hq => s_X0_numberOf hp5 hq) ?_)
  obtain ⟨_, hb6, h⟩ := ch_bd h
  refine ch_iv yX1_newInts prog_5_method_8_code 4 (some .long) (ci := 1) (q := (RX1, TX1, 22)) (b := t0) (d' := 8) (av := [.int v4]) (rest := []) rfl dX1_newRow_15 q1460 q1462 rfl qs89 q1463 can_X1_newInts (Nat.le_of_ble_eq_true rfl) (Nat.le_of_ble_eq_true rfl) (ch_rts hb6) (cp_tL h (fun p hp Q' hq => s_X1_newInts hp hq) (fun v7 w8 h => ?_) (fun a w1 h => ?_))
  · refine ch_lstore_n 1 _ (ls1 := [some (va_rf (some t0)), some (.long v7), none]) dX1_newRow_18 (Nat.le_of_ble_eq_true rfl) rfl (ch_aload_n 0 (some t0) dX1_newRow_19 rfl (cp_gR (ci := 1) (k := 5) dX1_newRow_20 fl_X1_19 rfl h (fun v9 h => ?_)))
    refine ch_aload_n 0 (some t0) dX1_newRow_23 rfl (cp_gI (ci := 1) (k := 6) dX1_newRow_24 fl_X1_78 rfl h (fun v10 h => ?_))
    refine ch_iconst _ 1 dX1_newRow_27 rfl (ch_isub _ _ dX1_newRow_28 (ch_lload_n 1 _ dX1_newRow_29 rfl (cp_last (t := 24) dX1_newRow_30 rfl (Nat.le_of_ble_eq_true rfl) rfl h (fun w11 h => ?_))))
    obtain rfl := Option.some.inj h
    exact ch_return dX1_newRow_31 rfl hk
  · subst h
    exact ch_th rfl hk

theorem bX1_classOf_0 : ch_ck cX1_classOf 0 [27, 2, 162, 0, 10, 16, 254, 27, 100, 167, 0, 12, 42, 180, 0, 9] := ch_ckof (by decide +kernel)
theorem bX1_classOf_1 : ch_ck cX1_classOf 16 [27, 47, 5, 123, 136, 172] := ch_ckof (by decide +kernel)
theorem dX1_classOf_0 : decode cX1_classOf 0 = .ok (.iload_n 1, 1) := dz_27 (bX1_classOf_0 0 _ rfl)
theorem dX1_classOf_1 : decode cX1_classOf 1 = .ok (.iconst (-1), 1) := dz_2 (bX1_classOf_0 1 _ rfl)
theorem dX1_classOf_2 : decode cX1_classOf 2 = .ok (.if_icmp .ge 10, 3) := dz_162 (bX1_classOf_0 2 _ rfl) (bX1_classOf_0 3 _ rfl) (bX1_classOf_0 4 _ rfl)
theorem dX1_classOf_5 : decode cX1_classOf 5 = .ok (.bipush (-2), 2) := dz_16 (bX1_classOf_0 5 _ rfl) (bX1_classOf_0 6 _ rfl)
theorem dX1_classOf_7 : decode cX1_classOf 7 = .ok (.iload_n 1, 1) := dz_27 (bX1_classOf_0 7 _ rfl)
theorem dX1_classOf_8 : decode cX1_classOf 8 = .ok (.isub, 1) := dz_100 (bX1_classOf_0 8 _ rfl)
theorem dX1_classOf_9 : decode cX1_classOf 9 = .ok (.goto 12, 3) := dz_167 (bX1_classOf_0 9 _ rfl) (bX1_classOf_0 10 _ rfl) (bX1_classOf_0 11 _ rfl)
theorem dX1_classOf_12 : decode cX1_classOf 12 = .ok (.aload_n 0, 1) := dz_42 (bX1_classOf_0 12 _ rfl)
theorem dX1_classOf_13 : decode cX1_classOf 13 = .ok (.getfield 9, 3) := dz_180 (bX1_classOf_0 13 _ rfl) (bX1_classOf_0 14 _ rfl) (bX1_classOf_0 15 _ rfl)
theorem dX1_classOf_16 : decode cX1_classOf 16 = .ok (.iload_n 1, 1) := dz_27 (bX1_classOf_1 0 _ rfl)
theorem dX1_classOf_17 : decode cX1_classOf 17 = .ok (.laload, 1) := dz_47 (bX1_classOf_1 1 _ rfl)
theorem dX1_classOf_18 : decode cX1_classOf 18 = .ok (.iconst 2, 1) := dz_5 (bX1_classOf_1 2 _ rfl)
theorem dX1_classOf_19 : decode cX1_classOf 19 = .ok (.lshr, 1) := dz_123 (bX1_classOf_1 3 _ rfl)
theorem dX1_classOf_20 : decode cX1_classOf 20 = .ok (.l2i, 1) := dz_136 (bX1_classOf_1 4 _ rfl)
theorem dX1_classOf_21 : decode cX1_classOf 21 = .ok (.ireturn, 1) := dz_172 (bX1_classOf_1 5 _ rfl)
def c_X1_classOf (t0 : Nat) (x1 : Int32) (w : ch_W) : Option (Int32) := if x1 < (-1) then (some ((-2) - x1)) else ((ch_gR w (some t0) 2 fX1_heap).bind fun v1 => (ch_lL w v1 24 x1).bind fun v2 => some (Int64.toInt32 (v2 >>> (Int32.toInt64 2 &&& 63))))
theorem s_X1_classOf {g : State} {kb : Bool} {t0 : Nat} {x1 : Int32} {w : ch_W} {res : Int32} {Q : Outcome → ch_W → Prop} (h : c_X1_classOf t0 x1 w = some res) (hk : (fun r => ch_eI Q (r, w)) res) : ch_CT g kb yX1_classOf 2 [.ref t0, .int x1] (w) Q := by
  unfold c_X1_classOf at h
  refine ch_ctL mX1_classOf (ls := [some (va_rf (some t0)), some (.int x1)]) q1475 rfl (ch_lyr (r := some t0) (ch_lyi ch_ly0)) (Nat.le_of_ble_eq_true rfl) rfl ?_
  refine ch_iload_n 1 _ dX1_classOf_0 rfl (ch_iconst _ (-1) dX1_classOf_1 rfl (cp_icmp_ge _ _ (tgt := 12) dX1_classOf_2 rfl h (fun h => ?_) (fun h => ?_)))
  · refine ch_aload_n 0 (some t0) dX1_classOf_12 rfl (cp_gR (ci := 1) (k := 2) dX1_classOf_13 fl_X1_9 rfl h (fun v1 h => ?_))
    refine ch_iload_n 1 _ dX1_classOf_16 rfl (cp_lald (t := 24) dX1_classOf_17 rfl rfl h (fun v2 h => ?_))
    obtain rfl := Option.some.inj h
    exact ch_iconst _ 2 dX1_classOf_18 rfl (ch_lshr _ _ dX1_classOf_19 (ch_l2i _ dX1_classOf_20 (ch_ireturn _ dX1_classOf_21 rfl rfl hk)))
  · obtain rfl := Option.some.inj h
    exact ch_bipush _ (-2) dX1_classOf_5 rfl (ch_iload_n 1 _ dX1_classOf_7 rfl (ch_isub _ _ dX1_classOf_8 (ch_goto 21 dX1_classOf_9 rfl (ch_ireturn _ dX1_classOf_21 rfl rfl hk))))

theorem bX1_isOf_0 : ch_ck cX1_isOf 0 [31, 184, 0, 172, 54, 4, 21, 4, 2, 159, 0, 30, 42, 180, 0, 56] := ch_ckof (by decide +kernel)
theorem bX1_isOf_1 : ch_ck cX1_isOf 16 [42, 21, 4, 182, 0, 200, 50, 42, 180, 0, 56, 29, 50, 182, 0, 204] := ch_ckof (by decide +kernel)
theorem bX1_isOf_2 : ch_ck cX1_isOf 32 [153, 0, 7, 4, 167, 0, 4, 3, 172] := ch_ckof (by decide +kernel)
theorem dX1_isOf_0 : decode cX1_isOf 0 = .ok (.lload_n 1, 1) := dz_31 (bX1_isOf_0 0 _ rfl)
theorem dX1_isOf_1 : decode cX1_isOf 1 = .ok (.invokestatic 172, 3) := dz_184 (bX1_isOf_0 1 _ rfl) (bX1_isOf_0 2 _ rfl) (bX1_isOf_0 3 _ rfl)
theorem dX1_isOf_4 : decode cX1_isOf 4 = .ok (.istore 4, 2) := dz_54 (bX1_isOf_0 4 _ rfl) (bX1_isOf_0 5 _ rfl)
theorem dX1_isOf_6 : decode cX1_isOf 6 = .ok (.iload 4, 2) := dz_21 (bX1_isOf_0 6 _ rfl) (bX1_isOf_0 7 _ rfl)
theorem dX1_isOf_8 : decode cX1_isOf 8 = .ok (.iconst (-1), 1) := dz_2 (bX1_isOf_0 8 _ rfl)
theorem dX1_isOf_9 : decode cX1_isOf 9 = .ok (.if_icmp .eq 30, 3) := dz_159 (bX1_isOf_0 9 _ rfl) (bX1_isOf_0 10 _ rfl) (bX1_isOf_0 11 _ rfl)
theorem dX1_isOf_12 : decode cX1_isOf 12 = .ok (.aload_n 0, 1) := dz_42 (bX1_isOf_0 12 _ rfl)
theorem dX1_isOf_13 : decode cX1_isOf 13 = .ok (.getfield 56, 3) := dz_180 (bX1_isOf_0 13 _ rfl) (bX1_isOf_0 14 _ rfl) (bX1_isOf_0 15 _ rfl)
theorem dX1_isOf_16 : decode cX1_isOf 16 = .ok (.aload_n 0, 1) := dz_42 (bX1_isOf_1 0 _ rfl)
theorem dX1_isOf_17 : decode cX1_isOf 17 = .ok (.iload 4, 2) := dz_21 (bX1_isOf_1 1 _ rfl) (bX1_isOf_1 2 _ rfl)
theorem dX1_isOf_19 : decode cX1_isOf 19 = .ok (.invokevirtual 200, 3) := dz_182 (bX1_isOf_1 3 _ rfl) (bX1_isOf_1 4 _ rfl) (bX1_isOf_1 5 _ rfl)
theorem dX1_isOf_22 : decode cX1_isOf 22 = .ok (.aaload, 1) := dz_50 (bX1_isOf_1 6 _ rfl)
theorem dX1_isOf_23 : decode cX1_isOf 23 = .ok (.aload_n 0, 1) := dz_42 (bX1_isOf_1 7 _ rfl)
theorem dX1_isOf_24 : decode cX1_isOf 24 = .ok (.getfield 56, 3) := dz_180 (bX1_isOf_1 8 _ rfl) (bX1_isOf_1 9 _ rfl) (bX1_isOf_1 10 _ rfl)
theorem dX1_isOf_27 : decode cX1_isOf 27 = .ok (.iload_n 3, 1) := dz_29 (bX1_isOf_1 11 _ rfl)
theorem dX1_isOf_28 : decode cX1_isOf 28 = .ok (.aaload, 1) := dz_50 (bX1_isOf_1 12 _ rfl)
theorem dX1_isOf_29 : decode cX1_isOf 29 = .ok (.invokevirtual 204, 3) := dz_182 (bX1_isOf_1 13 _ rfl) (bX1_isOf_1 14 _ rfl) (bX1_isOf_1 15 _ rfl)
theorem dX1_isOf_32 : decode cX1_isOf 32 = .ok (.ifCond .eq 7, 3) := dz_153 (bX1_isOf_2 0 _ rfl) (bX1_isOf_2 1 _ rfl) (bX1_isOf_2 2 _ rfl)
theorem dX1_isOf_35 : decode cX1_isOf 35 = .ok (.iconst 1, 1) := dz_4 (bX1_isOf_2 3 _ rfl)
theorem dX1_isOf_36 : decode cX1_isOf 36 = .ok (.goto 4, 3) := dz_167 (bX1_isOf_2 4 _ rfl) (bX1_isOf_2 5 _ rfl) (bX1_isOf_2 6 _ rfl)
theorem dX1_isOf_39 : decode cX1_isOf 39 = .ok (.iconst 0, 1) := dz_3 (bX1_isOf_2 7 _ rfl)
theorem dX1_isOf_40 : decode cX1_isOf 40 = .ok (.ireturn, 1) := dz_172 (bX1_isOf_2 8 _ rfl)
def c_X1_isOf (t0 : Nat) (x1 : Int64) (x3 : Int32) (w : ch_W) : Option (Int32) := (c_X0_placeOf x1 w).bind fun v1 => if v1 = (-1) then (some (0)) else ((ch_gR w (some t0) 2 fX1_kinds).bind fun v3 => (ch_rc w (some t0) 2).bind fun _ => (c_X1_classOf t0 v1 w).bind fun v5 => (ch_lR w v3 29 v5).bind fun v7 => (ch_gR w (some t0) 2 fX1_kinds).bind fun v8 => (ch_lR w v8 29 x3).bind fun v9 => (ch_rc w v7 7).bind fun b11 => (c_X6_isSub b11 v9 w).bind fun v12 => if v12 = 0 then (some (0)) else (some (1)))
theorem s_X1_isOf {g : State} {kb : Bool} {t0 : Nat} {x1 : Int64} {x3 : Int32} {w : ch_W} {res : Int32} {Q : Outcome → ch_W → Prop} (h : c_X1_isOf t0 x1 x3 w = some res) (hk : (fun r => ch_eI Q (r, w)) res) : ch_CT g kb yX1_isOf 3 [.ref t0, .long x1, .int x3] (w) Q := by
  unfold c_X1_isOf at h
  refine ch_ctL mX1_isOf (ls := [some (va_rf (some t0)), some (.long x1), none, some (.int x3), none]) q1471 rfl (ch_lyr (r := some t0) (ch_lyl (ch_lyi ch_ly0))) (Nat.le_of_ble_eq_true rfl) rfl ?_
  obtain ⟨v1, hp2, h⟩ := ch_bd h
  refine ch_lload_n 1 _ dX1_isOf_0 rfl (ch_isT yX0_placeOf prog_1_method_3_code 2 (some .int) (d' := 2) (av := [.long x1]) (rest := []) rfl dX1_isOf_1 q1338 q1339 q200 q1340 can_X0_placeOf (Nat.le_of_ble_eq_true rfl) (Nat.le_of_ble_eq_true rfl) (cp_kI (v := v1) (w1 := w) (fun Q' hq => s_X0_placeOf hp2 hq) ?_))
  refine ch_istore 4 _ (ls1 := [some (va_rf (some t0)), some (.long x1), none, some (.int x3), some (.int v1)]) dX1_isOf_4 (Nat.le_of_ble_eq_true rfl) rfl (ch_iload 4 _ dX1_isOf_6 rfl (ch_iconst _ (-1) dX1_isOf_8 rfl (cp_icmp_eq _ _ (tgt := 39) dX1_isOf_9 rfl h (fun h => ?_) (fun h => ?_))))
  · obtain rfl := Option.some.inj h
    exact ch_iconst _ 0 dX1_isOf_39 rfl (ch_ireturn _ dX1_isOf_40 rfl rfl hk)
  · refine ch_aload_n 0 (some t0) dX1_isOf_12 rfl (cp_gR (ci := 1) (k := 0) dX1_isOf_13 fl_X1_56 rfl h (fun v3 h => ?_))
    obtain ⟨_, hb4, h⟩ := ch_bd h
    obtain ⟨v5, hp6, h⟩ := ch_bd h
    refine ch_aload_n 0 (some t0) dX1_isOf_16 rfl (ch_iload 4 _ dX1_isOf_17 rfl (ch_iv yX1_classOf prog_5_method_18_code 2 (some .int) (ci := 1) (q := (RX1, TX1, 22)) (b := t0) (d' := 2) (av := [.int v1]) (rest := [va_rf v3]) rfl dX1_isOf_19 q1472 q1474 rfl qs92 q1475 can_X1_classOf (Nat.le_of_ble_eq_true rfl) (ch_hw (Nat.le_of_ble_eq_true rfl)) (ch_rts hb4) (cp_kI (v := v5) (w1 := w) (fun Q' hq => s_X1_classOf hp6 hq) ?_)))
    refine cp_aald (t := 29) dX1_isOf_22 rfl rfl h (fun v7 h => ?_)
    refine ch_aload_n 0 (some t0) dX1_isOf_23 rfl (cp_gR (ci := 1) (k := 0) dX1_isOf_24 fl_X1_56 rfl h (fun v8 h => ?_))
    refine ch_iload_n 3 _ dX1_isOf_27 rfl (cp_aald (t := 29) dX1_isOf_28 rfl rfl h (fun v9 h => ?_))
    obtain ⟨b11, hb10, h⟩ := ch_bd h
    obtain ⟨v12, hp13, h⟩ := ch_bd h
    refine ch_iv yX6_isSub prog_4_method_6_code 3 (some .boolean) (ci := 6) (q := (RX6, TX6, 8)) (b := b11) (d' := 2) (av := [va_rf v9]) (rest := []) (by rw [ch_rs hb10]; rfl) dX1_isOf_29 q1476 q1239 rfl q1240 q1241 can_X6_isSub (Nat.le_of_ble_eq_true rfl) (Nat.le_of_ble_eq_true rfl) (ch_rtg hb10) (cp_kI (v := v12) (w1 := w) (fun Q' hq => s_X6_isSub hp13 hq) ?_)
    refine cp_if_eq _ (tgt := 39) dX1_isOf_32 rfl h (fun h => ?_) (fun h => ?_)
    · obtain rfl := Option.some.inj h
      exact ch_iconst _ 0 dX1_isOf_39 rfl (ch_ireturn _ dX1_isOf_40 rfl rfl hk)
    · obtain rfl := Option.some.inj h
      exact ch_iconst _ 1 dX1_isOf_35 rfl (ch_goto 40 dX1_isOf_36 rfl (ch_ireturn _ dX1_isOf_40 rfl rfl hk))

theorem bX1_cast_0 : ch_ck cX1_cast 0 [42, 180, 0, 19, 42, 180, 0, 78, 4, 100, 47, 65, 32, 184, 0, 172] := ch_ckof (by decide +kernel)
theorem bX1_cast_1 : ch_ck cX1_cast 16 [2, 159, 0, 18, 42, 32, 27, 182, 0, 233, 154, 0, 9, 42, 6, 182] := ch_ckof (by decide +kernel)
theorem bX1_cast_2 : ch_ck cX1_cast 32 [0, 164, 191, 177] := ch_ckof (by decide +kernel)
theorem dX1_cast_0 : decode cX1_cast 0 = .ok (.aload_n 0, 1) := dz_42 (bX1_cast_0 0 _ rfl)
theorem dX1_cast_1 : decode cX1_cast 1 = .ok (.getfield 19, 3) := dz_180 (bX1_cast_0 1 _ rfl) (bX1_cast_0 2 _ rfl) (bX1_cast_0 3 _ rfl)
theorem dX1_cast_4 : decode cX1_cast 4 = .ok (.aload_n 0, 1) := dz_42 (bX1_cast_0 4 _ rfl)
theorem dX1_cast_5 : decode cX1_cast 5 = .ok (.getfield 78, 3) := dz_180 (bX1_cast_0 5 _ rfl) (bX1_cast_0 6 _ rfl) (bX1_cast_0 7 _ rfl)
theorem dX1_cast_8 : decode cX1_cast 8 = .ok (.iconst 1, 1) := dz_4 (bX1_cast_0 8 _ rfl)
theorem dX1_cast_9 : decode cX1_cast 9 = .ok (.isub, 1) := dz_100 (bX1_cast_0 9 _ rfl)
theorem dX1_cast_10 : decode cX1_cast 10 = .ok (.laload, 1) := dz_47 (bX1_cast_0 10 _ rfl)
theorem dX1_cast_11 : decode cX1_cast 11 = .ok (.lstore_n 2, 1) := dz_65 (bX1_cast_0 11 _ rfl)
theorem dX1_cast_12 : decode cX1_cast 12 = .ok (.lload_n 2, 1) := dz_32 (bX1_cast_0 12 _ rfl)
theorem dX1_cast_13 : decode cX1_cast 13 = .ok (.invokestatic 172, 3) := dz_184 (bX1_cast_0 13 _ rfl) (bX1_cast_0 14 _ rfl) (bX1_cast_0 15 _ rfl)
theorem dX1_cast_16 : decode cX1_cast 16 = .ok (.iconst (-1), 1) := dz_2 (bX1_cast_1 0 _ rfl)
theorem dX1_cast_17 : decode cX1_cast 17 = .ok (.if_icmp .eq 18, 3) := dz_159 (bX1_cast_1 1 _ rfl) (bX1_cast_1 2 _ rfl) (bX1_cast_1 3 _ rfl)
theorem dX1_cast_20 : decode cX1_cast 20 = .ok (.aload_n 0, 1) := dz_42 (bX1_cast_1 4 _ rfl)
theorem dX1_cast_21 : decode cX1_cast 21 = .ok (.lload_n 2, 1) := dz_32 (bX1_cast_1 5 _ rfl)
theorem dX1_cast_22 : decode cX1_cast 22 = .ok (.iload_n 1, 1) := dz_27 (bX1_cast_1 6 _ rfl)
theorem dX1_cast_23 : decode cX1_cast 23 = .ok (.invokevirtual 233, 3) := dz_182 (bX1_cast_1 7 _ rfl) (bX1_cast_1 8 _ rfl) (bX1_cast_1 9 _ rfl)
theorem dX1_cast_26 : decode cX1_cast 26 = .ok (.ifCond .ne 9, 3) := dz_154 (bX1_cast_1 10 _ rfl) (bX1_cast_1 11 _ rfl) (bX1_cast_1 12 _ rfl)
theorem dX1_cast_29 : decode cX1_cast 29 = .ok (.aload_n 0, 1) := dz_42 (bX1_cast_1 13 _ rfl)
theorem dX1_cast_30 : decode cX1_cast 30 = .ok (.iconst 3, 1) := dz_6 (bX1_cast_1 14 _ rfl)
theorem dX1_cast_31 : decode cX1_cast 31 = .ok (.invokevirtual 164, 3) := dz_182 (bX1_cast_1 15 _ rfl) (bX1_cast_2 0 _ rfl) (bX1_cast_2 1 _ rfl)
theorem dX1_cast_34 : decode cX1_cast 34 = .ok (.athrow, 1) := dz_191 (bX1_cast_2 2 _ rfl)
theorem dX1_cast_35 : decode cX1_cast 35 = .ok (.return_, 1) := dz_177 (bX1_cast_2 3 _ rfl)
def c_X1_cast (t0 : Nat) (x1 : Int32) (w : ch_W) : Option (Except Nat Unit × ch_W) := (ch_gR w (some t0) 2 fX1_pile).bind fun v1 => (ch_gI w (some t0) 2 fX1_top).bind fun v2 => (ch_lL w v1 24 (v2 - 1)).bind fun v3 => (c_X0_placeOf v3 w).bind fun v4 => if v4 = (-1) then (some ((.ok (), w))) else ((ch_rc w (some t0) 2).bind fun _ => (c_X1_isOf t0 v3 x1 w).bind fun v7 => if v7 = 0 then ((ch_rc w (some t0) 2).bind fun _ => (c_X1_fault t0 3 w).bind fun p10 => (p10.1).bind fun a12 => some ((.error a12, p10.2))) else (some ((.ok (), w))))
theorem s_X1_cast {g : State} {t0 : Nat} {x1 : Int32} {w : ch_W} {res : Except Nat Unit × ch_W} {Q : Outcome → ch_W → Prop} (h : c_X1_cast t0 x1 w = some res) (hk : (ch_xV Q) res) : ch_CT g true yX1_cast 4 [.ref t0, .int x1] (w) Q := by
  unfold c_X1_cast at h
  refine ch_ctL mX1_cast (ls := [some (va_rf (some t0)), some (.int x1), none, none]) q1467 rfl (ch_lyr (r := some t0) (ch_lyi ch_ly0)) (Nat.le_of_ble_eq_true rfl) rfl ?_
  refine ch_aload_n 0 (some t0) dX1_cast_0 rfl (cp_gR (ci := 1) (k := 5) dX1_cast_1 fl_X1_19 rfl h (fun v1 h => ?_))
  refine ch_aload_n 0 (some t0) dX1_cast_4 rfl (cp_gI (ci := 1) (k := 6) dX1_cast_5 fl_X1_78 rfl h (fun v2 h => ?_))
  refine ch_iconst _ 1 dX1_cast_8 rfl (ch_isub _ _ dX1_cast_9 (cp_lald (t := 24) dX1_cast_10 rfl rfl h (fun v3 h => ?_)))
  obtain ⟨v4, hp5, h⟩ := ch_bd h
  refine ch_lstore_n 2 _ (ls1 := [some (va_rf (some t0)), some (.int x1), some (.long v3), none]) dX1_cast_11 (Nat.le_of_ble_eq_true rfl) rfl (ch_lload_n 2 _ dX1_cast_12 rfl (ch_isT yX0_placeOf prog_1_method_3_code 2 (some .int) (d' := 2) (av := [.long v3]) (rest := []) rfl dX1_cast_13 q1338 q1339 q200 q1340 can_X0_placeOf (Nat.le_of_ble_eq_true rfl) (Nat.le_of_ble_eq_true rfl) (cp_kI (v := v4) (w1 := w) (fun Q' hq => s_X0_placeOf hp5 hq) ?_)))
  refine ch_iconst _ (-1) dX1_cast_16 rfl (cp_icmp_eq _ _ (tgt := 35) dX1_cast_17 rfl h (fun h => ?_) (fun h => ?_))
  · obtain rfl := Option.some.inj h
    exact ch_return dX1_cast_35 rfl hk
  · obtain ⟨_, hb6, h⟩ := ch_bd h
    obtain ⟨v7, hp8, h⟩ := ch_bd h
    refine ch_aload_n 0 (some t0) dX1_cast_20 rfl (ch_lload_n 2 _ dX1_cast_21 rfl (ch_iload_n 1 _ dX1_cast_22 rfl (ch_iv yX1_isOf prog_5_method_19_code 5 (some .boolean) (ci := 1) (q := (RX1, TX1, 22)) (b := t0) (d' := 3) (av := [.long v3, .int x1]) (rest := []) rfl dX1_cast_23 q1468 q1470 rfl qs91 q1471 can_X1_isOf (Nat.le_of_ble_eq_true rfl) (Nat.le_of_ble_eq_true rfl) (ch_rts hb6) (cp_kI (v := v7) (w1 := w) (fun Q' hq => s_X1_isOf hp8 hq) ?_))))
    refine cp_if_ne _ (tgt := 35) dX1_cast_26 rfl h (fun h => ?_) (fun h => ?_)
    · obtain rfl := Option.some.inj h
      exact ch_return dX1_cast_35 rfl hk
    · obtain ⟨_, hb9, h⟩ := ch_bd h
      obtain ⟨p10, hp11, h⟩ := ch_bd h
      refine ch_aload_n 0 (some t0) dX1_cast_29 rfl (ch_iconst _ 3 dX1_cast_30 rfl (ch_iv yX1_fault prog_5_method_2_code 2 (some (.object "ClassHouse$Thrown")) (ci := 1) (q := (RX1, TX1, 22)) (b := t0) (d' := 3) (av := [.int 3]) (rest := []) rfl dX1_cast_31 q1433 q1435 rfl qs83 q1436 can_X1_fault (Nat.le_of_ble_eq_true rfl) (Nat.le_of_ble_eq_true rfl) (ch_rts hb9) (cp_kR (v := p10.1) (w1 := p10.2) (fun Q' hq => s_X1_fault hp11 hq) ?_)))
      obtain ⟨a12, ha, h⟩ := ch_bd h
      obtain rfl := Option.some.inj h
      exact ch_athrow p10.1 ha dX1_cast_34 rfl hk

theorem bX1_joined_0 : ch_ck cX1_joined 0 [27, 171, 0, 0, 0, 0, 0, 85, 0, 0, 0, 5, 0, 0, 0, 42] := ch_ckof (by decide +kernel)
theorem bX1_joined_1 : ch_ck cX1_joined 16 [0, 0, 0, 59, 0, 0, 0, 43, 0, 0, 0, 51, 0, 0, 0, 45] := ch_ckof (by decide +kernel)
theorem bX1_joined_2 : ch_ck cX1_joined 32 [0, 0, 0, 55, 0, 0, 0, 60, 0, 0, 0, 63, 0, 0, 0, 108] := ch_ckof (by decide +kernel)
theorem bX1_joined_3 : ch_ck cX1_joined 48 [0, 0, 0, 74, 28, 29, 96, 172, 28, 29, 100, 172, 28, 29, 104, 172] := ch_ckof (by decide +kernel)
theorem bX1_joined_4 : ch_ck cX1_joined 64 [28, 29, 162, 0, 7, 4, 167, 0, 4, 3, 172, 28, 29, 163, 0, 7] := ch_ckof (by decide +kernel)
theorem bX1_joined_5 : ch_ck cX1_joined 80 [4, 167, 0, 4, 3, 172, 29, 154, 0, 9, 42, 5, 182, 0, 164, 191] := ch_ckof (by decide +kernel)
theorem bX1_joined_6 : ch_ck cX1_joined 96 [27, 16, 47, 160, 0, 9, 28, 29, 108, 167, 0, 6, 28, 29, 112, 172] := ch_ckof (by decide +kernel)
theorem dX1_joined_0 : decode cX1_joined 0 = .ok (.iload_n 1, 1) := dz_27 (bX1_joined_0 0 _ rfl)
theorem dX1_joined_1 : decode cX1_joined 1 = .ok (.lookupswitch 85 #[(42, 59), (43, 51), (45, 55), (60, 63), (108, 74)], 51) := by decide +kernel
theorem dX1_joined_52 : decode cX1_joined 52 = .ok (.iload_n 2, 1) := dz_28 (bX1_joined_3 4 _ rfl)
theorem dX1_joined_53 : decode cX1_joined 53 = .ok (.iload_n 3, 1) := dz_29 (bX1_joined_3 5 _ rfl)
theorem dX1_joined_54 : decode cX1_joined 54 = .ok (.iadd, 1) := dz_96 (bX1_joined_3 6 _ rfl)
theorem dX1_joined_55 : decode cX1_joined 55 = .ok (.ireturn, 1) := dz_172 (bX1_joined_3 7 _ rfl)
theorem dX1_joined_56 : decode cX1_joined 56 = .ok (.iload_n 2, 1) := dz_28 (bX1_joined_3 8 _ rfl)
theorem dX1_joined_57 : decode cX1_joined 57 = .ok (.iload_n 3, 1) := dz_29 (bX1_joined_3 9 _ rfl)
theorem dX1_joined_58 : decode cX1_joined 58 = .ok (.isub, 1) := dz_100 (bX1_joined_3 10 _ rfl)
theorem dX1_joined_59 : decode cX1_joined 59 = .ok (.ireturn, 1) := dz_172 (bX1_joined_3 11 _ rfl)
theorem dX1_joined_60 : decode cX1_joined 60 = .ok (.iload_n 2, 1) := dz_28 (bX1_joined_3 12 _ rfl)
theorem dX1_joined_61 : decode cX1_joined 61 = .ok (.iload_n 3, 1) := dz_29 (bX1_joined_3 13 _ rfl)
theorem dX1_joined_62 : decode cX1_joined 62 = .ok (.imul, 1) := dz_104 (bX1_joined_3 14 _ rfl)
theorem dX1_joined_63 : decode cX1_joined 63 = .ok (.ireturn, 1) := dz_172 (bX1_joined_3 15 _ rfl)
theorem dX1_joined_64 : decode cX1_joined 64 = .ok (.iload_n 2, 1) := dz_28 (bX1_joined_4 0 _ rfl)
theorem dX1_joined_65 : decode cX1_joined 65 = .ok (.iload_n 3, 1) := dz_29 (bX1_joined_4 1 _ rfl)
theorem dX1_joined_66 : decode cX1_joined 66 = .ok (.if_icmp .ge 7, 3) := dz_162 (bX1_joined_4 2 _ rfl) (bX1_joined_4 3 _ rfl) (bX1_joined_4 4 _ rfl)
theorem dX1_joined_69 : decode cX1_joined 69 = .ok (.iconst 1, 1) := dz_4 (bX1_joined_4 5 _ rfl)
theorem dX1_joined_70 : decode cX1_joined 70 = .ok (.goto 4, 3) := dz_167 (bX1_joined_4 6 _ rfl) (bX1_joined_4 7 _ rfl) (bX1_joined_4 8 _ rfl)
theorem dX1_joined_73 : decode cX1_joined 73 = .ok (.iconst 0, 1) := dz_3 (bX1_joined_4 9 _ rfl)
theorem dX1_joined_74 : decode cX1_joined 74 = .ok (.ireturn, 1) := dz_172 (bX1_joined_4 10 _ rfl)
theorem dX1_joined_75 : decode cX1_joined 75 = .ok (.iload_n 2, 1) := dz_28 (bX1_joined_4 11 _ rfl)
theorem dX1_joined_76 : decode cX1_joined 76 = .ok (.iload_n 3, 1) := dz_29 (bX1_joined_4 12 _ rfl)
theorem dX1_joined_77 : decode cX1_joined 77 = .ok (.if_icmp .gt 7, 3) := dz_163 (bX1_joined_4 13 _ rfl) (bX1_joined_4 14 _ rfl) (bX1_joined_4 15 _ rfl)
theorem dX1_joined_80 : decode cX1_joined 80 = .ok (.iconst 1, 1) := dz_4 (bX1_joined_5 0 _ rfl)
theorem dX1_joined_81 : decode cX1_joined 81 = .ok (.goto 4, 3) := dz_167 (bX1_joined_5 1 _ rfl) (bX1_joined_5 2 _ rfl) (bX1_joined_5 3 _ rfl)
theorem dX1_joined_84 : decode cX1_joined 84 = .ok (.iconst 0, 1) := dz_3 (bX1_joined_5 4 _ rfl)
theorem dX1_joined_85 : decode cX1_joined 85 = .ok (.ireturn, 1) := dz_172 (bX1_joined_5 5 _ rfl)
theorem dX1_joined_86 : decode cX1_joined 86 = .ok (.iload_n 3, 1) := dz_29 (bX1_joined_5 6 _ rfl)
theorem dX1_joined_87 : decode cX1_joined 87 = .ok (.ifCond .ne 9, 3) := dz_154 (bX1_joined_5 7 _ rfl) (bX1_joined_5 8 _ rfl) (bX1_joined_5 9 _ rfl)
theorem dX1_joined_90 : decode cX1_joined 90 = .ok (.aload_n 0, 1) := dz_42 (bX1_joined_5 10 _ rfl)
theorem dX1_joined_91 : decode cX1_joined 91 = .ok (.iconst 2, 1) := dz_5 (bX1_joined_5 11 _ rfl)
theorem dX1_joined_92 : decode cX1_joined 92 = .ok (.invokevirtual 164, 3) := dz_182 (bX1_joined_5 12 _ rfl) (bX1_joined_5 13 _ rfl) (bX1_joined_5 14 _ rfl)
theorem dX1_joined_95 : decode cX1_joined 95 = .ok (.athrow, 1) := dz_191 (bX1_joined_5 15 _ rfl)
theorem dX1_joined_96 : decode cX1_joined 96 = .ok (.iload_n 1, 1) := dz_27 (bX1_joined_6 0 _ rfl)
theorem dX1_joined_97 : decode cX1_joined 97 = .ok (.bipush 47, 2) := dz_16 (bX1_joined_6 1 _ rfl) (bX1_joined_6 2 _ rfl)
theorem dX1_joined_99 : decode cX1_joined 99 = .ok (.if_icmp .ne 9, 3) := dz_160 (bX1_joined_6 3 _ rfl) (bX1_joined_6 4 _ rfl) (bX1_joined_6 5 _ rfl)
theorem dX1_joined_102 : decode cX1_joined 102 = .ok (.iload_n 2, 1) := dz_28 (bX1_joined_6 6 _ rfl)
theorem dX1_joined_103 : decode cX1_joined 103 = .ok (.iload_n 3, 1) := dz_29 (bX1_joined_6 7 _ rfl)
theorem dX1_joined_104 : decode cX1_joined 104 = .ok (.idiv, 1) := dz_108 (bX1_joined_6 8 _ rfl)
theorem dX1_joined_105 : decode cX1_joined 105 = .ok (.goto 6, 3) := dz_167 (bX1_joined_6 9 _ rfl) (bX1_joined_6 10 _ rfl) (bX1_joined_6 11 _ rfl)
theorem dX1_joined_108 : decode cX1_joined 108 = .ok (.iload_n 2, 1) := dz_28 (bX1_joined_6 12 _ rfl)
theorem dX1_joined_109 : decode cX1_joined 109 = .ok (.iload_n 3, 1) := dz_29 (bX1_joined_6 13 _ rfl)
theorem dX1_joined_110 : decode cX1_joined 110 = .ok (.irem, 1) := dz_112 (bX1_joined_6 14 _ rfl)
theorem dX1_joined_111 : decode cX1_joined 111 = .ok (.ireturn, 1) := dz_172 (bX1_joined_6 15 _ rfl)
def c_X1_joined (t0 : Nat) (x1 : Int32) (x2 : Int32) (x3 : Int32) (w : ch_W) : Option (Except Nat Int32 × ch_W) := if x1 = 42 then (some ((.ok (x2 * x3), w))) else (if x1 = 43 then (some ((.ok (x2 + x3), w))) else (if x1 = 45 then (some ((.ok (x2 - x3), w))) else (if x1 = 60 then (if x2 < x3 then (some ((.ok 1, w))) else (some ((.ok 0, w)))) else (if x1 = 108 then (if x3 < x2 then (some ((.ok 0, w))) else (some ((.ok 1, w)))) else (if x3 = 0 then ((ch_rc w (some t0) 2).bind fun _ => (c_X1_fault t0 2 w).bind fun p2 => (p2.1).bind fun a4 => some ((.error a4, p2.2))) else (if x1 = 47 then ((ch_nz x3).bind fun _ => some ((.ok (x2 / x3), w))) else ((ch_nz x3).bind fun _ => some ((.ok (x2 - x2 / x3 * x3), w)))))))))
theorem s_X1_joined {g : State} {t0 : Nat} {x1 : Int32} {x2 : Int32} {x3 : Int32} {w : ch_W} {res : Except Nat Int32 × ch_W} {Q : Outcome → ch_W → Prop} (h : c_X1_joined t0 x1 x2 x3 w = some res) (hk : (ch_xI Q) res) : ch_CT g true yX1_joined 4 [.ref t0, .int x1, .int x2, .int x3] (w) Q := by
  unfold c_X1_joined at h
  refine ch_ctL mX1_joined (ls := [some (va_rf (some t0)), some (.int x1), some (.int x2), some (.int x3)]) q1484 rfl (ch_lyr (r := some t0) (ch_lyi (ch_lyi (ch_lyi ch_ly0)))) (Nat.le_of_ble_eq_true rfl) rfl ?_
  refine ch_iload_n 1 _ dX1_joined_0 rfl (?_)
  by_cases e0 : x1 = 42
  · have h := ch_ifT e0 h
    refine ch_lookup _ (off := 59) (tgt := 60) dX1_joined_1 (by decide) (by rw [e0]; decide) rfl ?_
    obtain rfl := Option.some.inj h
    exact ch_iload_n 2 _ dX1_joined_60 rfl (ch_iload_n 3 _ dX1_joined_61 rfl (ch_imul _ _ dX1_joined_62 (ch_ireturn _ dX1_joined_63 rfl rfl hk)))
  replace h := ch_ifF e0 h
  by_cases e1 : x1 = 43
  · have h := ch_ifT e1 h
    refine ch_lookup _ (off := 51) (tgt := 52) dX1_joined_1 (by decide) (by rw [e1]; decide) rfl ?_
    obtain rfl := Option.some.inj h
    exact ch_iload_n 2 _ dX1_joined_52 rfl (ch_iload_n 3 _ dX1_joined_53 rfl (ch_iadd _ _ dX1_joined_54 (ch_ireturn _ dX1_joined_55 rfl rfl hk)))
  replace h := ch_ifF e1 h
  by_cases e2 : x1 = 45
  · have h := ch_ifT e2 h
    refine ch_lookup _ (off := 55) (tgt := 56) dX1_joined_1 (by decide) (by rw [e2]; decide) rfl ?_
    obtain rfl := Option.some.inj h
    exact ch_iload_n 2 _ dX1_joined_56 rfl (ch_iload_n 3 _ dX1_joined_57 rfl (ch_isub _ _ dX1_joined_58 (ch_ireturn _ dX1_joined_59 rfl rfl hk)))
  replace h := ch_ifF e2 h
  by_cases e3 : x1 = 60
  · have h := ch_ifT e3 h
    refine ch_lookup _ (off := 63) (tgt := 64) dX1_joined_1 (by decide) (by rw [e3]; decide) rfl ?_
    refine ch_iload_n 2 _ dX1_joined_64 rfl (ch_iload_n 3 _ dX1_joined_65 rfl (cp_icmp_ge _ _ (tgt := 73) dX1_joined_66 rfl h (fun h => ?_) (fun h => ?_)))
    · obtain rfl := Option.some.inj h
      exact ch_iconst _ 0 dX1_joined_73 rfl (ch_ireturn _ dX1_joined_74 rfl rfl hk)
    · obtain rfl := Option.some.inj h
      exact ch_iconst _ 1 dX1_joined_69 rfl (ch_goto 74 dX1_joined_70 rfl (ch_ireturn _ dX1_joined_74 rfl rfl hk))
  replace h := ch_ifF e3 h
  by_cases e4 : x1 = 108
  · have h := ch_ifT e4 h
    refine ch_lookup _ (off := 74) (tgt := 75) dX1_joined_1 (by decide) (by rw [e4]; decide) rfl ?_
    refine ch_iload_n 2 _ dX1_joined_75 rfl (ch_iload_n 3 _ dX1_joined_76 rfl (cp_icmp_gt _ _ (tgt := 84) dX1_joined_77 rfl h (fun h => ?_) (fun h => ?_)))
    · obtain rfl := Option.some.inj h
      exact ch_iconst _ 0 dX1_joined_84 rfl (ch_ireturn _ dX1_joined_85 rfl rfl hk)
    · obtain rfl := Option.some.inj h
      exact ch_iconst _ 1 dX1_joined_80 rfl (ch_goto 85 dX1_joined_81 rfl (ch_ireturn _ dX1_joined_85 rfl rfl hk))
  replace h := ch_ifF e4 h
  refine ch_lookup _ (off := 85) (tgt := 86) dX1_joined_1 (by decide) (by rw [lv_osw e0 (by decide)]; rw [lv_osw e1 (by decide)]; rw [lv_osw e2 (by decide)]; rw [lv_osw e3 (by decide)]; rw [lv_osw e4 (by decide)]; rfl) rfl ?_
  refine ch_iload_n 3 _ dX1_joined_86 rfl (cp_if_ne _ (tgt := 96) dX1_joined_87 rfl h (fun h => ?_) (fun h => ?_))
  · refine ch_iload_n 1 _ dX1_joined_96 rfl (ch_bipush _ 47 dX1_joined_97 rfl (cp_icmp_ne _ _ (tgt := 108) dX1_joined_99 rfl h (fun h => ?_) (fun h => ?_)))
    · refine ch_iload_n 2 _ dX1_joined_108 rfl (ch_iload_n 3 _ dX1_joined_109 rfl (cp_rem dX1_joined_110 h (fun h => ?_)))
      obtain rfl := Option.some.inj h
      exact ch_ireturn _ dX1_joined_111 rfl rfl hk
    · refine ch_iload_n 2 _ dX1_joined_102 rfl (ch_iload_n 3 _ dX1_joined_103 rfl (cp_div dX1_joined_104 h (fun h => ?_)))
      obtain rfl := Option.some.inj h
      exact ch_goto 111 dX1_joined_105 rfl (ch_ireturn _ dX1_joined_111 rfl rfl hk)
  · obtain ⟨_, hb1, h⟩ := ch_bd h
    obtain ⟨p2, hp3, h⟩ := ch_bd h
    refine ch_aload_n 0 (some t0) dX1_joined_90 rfl (ch_iconst _ 2 dX1_joined_91 rfl (ch_iv yX1_fault prog_5_method_2_code 2 (some (.object "ClassHouse$Thrown")) (ci := 1) (q := (RX1, TX1, 22)) (b := t0) (d' := 3) (av := [.int 2]) (rest := []) rfl dX1_joined_92 q1433 q1435 rfl qs83 q1436 can_X1_fault (Nat.le_of_ble_eq_true rfl) (Nat.le_of_ble_eq_true rfl) (ch_rts hb1) (cp_kR (v := p2.1) (w1 := p2.2) (fun Q' hq => s_X1_fault hp3 hq) ?_)))
    obtain ⟨a4, ha, h⟩ := ch_bd h
    obtain rfl := Option.some.inj h
    exact ch_athrow p2.1 ha dX1_joined_95 rfl hk

theorem bX1_join_0 : ch_ck cX1_join 0 [42, 182, 0, 190, 65, 42, 182, 0, 190, 55, 4, 27, 16, 61, 159, 0] := ch_ckof (by decide +kernel)
theorem bX1_join_1 : ch_ck cX1_join 16 [9, 27, 16, 33, 160, 0, 42, 42, 22, 4, 32, 148, 154, 0, 7, 4] := ch_ckof (by decide +kernel)
theorem bX1_join_2 : ch_ck cX1_join 32 [167, 0, 4, 3, 27, 16, 61, 160, 0, 7, 4, 167, 0, 4, 3, 160] := ch_ckof (by decide +kernel)
theorem bX1_join_3 : ch_ck cX1_join 48 [0, 7, 4, 167, 0, 4, 3, 184, 0, 253, 182, 0, 108, 177, 42, 42] := ch_ckof (by decide +kernel)
theorem bX1_join_4 : ch_ck cX1_join 64 [27, 22, 4, 184, 0, 194, 32, 184, 0, 194, 182, 1, 52, 184, 0, 253] := ch_ckof (by decide +kernel)
theorem bX1_join_5 : ch_ck cX1_join 80 [182, 0, 108, 177] := ch_ckof (by decide +kernel)
theorem dX1_join_0 : decode cX1_join 0 = .ok (.aload_n 0, 1) := dz_42 (bX1_join_0 0 _ rfl)
theorem dX1_join_1 : decode cX1_join 1 = .ok (.invokevirtual 190, 3) := dz_182 (bX1_join_0 1 _ rfl) (bX1_join_0 2 _ rfl) (bX1_join_0 3 _ rfl)
theorem dX1_join_4 : decode cX1_join 4 = .ok (.lstore_n 2, 1) := dz_65 (bX1_join_0 4 _ rfl)
theorem dX1_join_5 : decode cX1_join 5 = .ok (.aload_n 0, 1) := dz_42 (bX1_join_0 5 _ rfl)
theorem dX1_join_6 : decode cX1_join 6 = .ok (.invokevirtual 190, 3) := dz_182 (bX1_join_0 6 _ rfl) (bX1_join_0 7 _ rfl) (bX1_join_0 8 _ rfl)
theorem dX1_join_9 : decode cX1_join 9 = .ok (.lstore 4, 2) := dz_55 (bX1_join_0 9 _ rfl) (bX1_join_0 10 _ rfl)
theorem dX1_join_11 : decode cX1_join 11 = .ok (.iload_n 1, 1) := dz_27 (bX1_join_0 11 _ rfl)
theorem dX1_join_12 : decode cX1_join 12 = .ok (.bipush 61, 2) := dz_16 (bX1_join_0 12 _ rfl) (bX1_join_0 13 _ rfl)
theorem dX1_join_14 : decode cX1_join 14 = .ok (.if_icmp .eq 9, 3) := dz_159 (bX1_join_0 14 _ rfl) (bX1_join_0 15 _ rfl) (bX1_join_1 0 _ rfl)
theorem dX1_join_17 : decode cX1_join 17 = .ok (.iload_n 1, 1) := dz_27 (bX1_join_1 1 _ rfl)
theorem dX1_join_18 : decode cX1_join 18 = .ok (.bipush 33, 2) := dz_16 (bX1_join_1 2 _ rfl) (bX1_join_1 3 _ rfl)
theorem dX1_join_20 : decode cX1_join 20 = .ok (.if_icmp .ne 42, 3) := dz_160 (bX1_join_1 4 _ rfl) (bX1_join_1 5 _ rfl) (bX1_join_1 6 _ rfl)
theorem dX1_join_23 : decode cX1_join 23 = .ok (.aload_n 0, 1) := dz_42 (bX1_join_1 7 _ rfl)
theorem dX1_join_24 : decode cX1_join 24 = .ok (.lload 4, 2) := dz_22 (bX1_join_1 8 _ rfl) (bX1_join_1 9 _ rfl)
theorem dX1_join_26 : decode cX1_join 26 = .ok (.lload_n 2, 1) := dz_32 (bX1_join_1 10 _ rfl)
theorem dX1_join_27 : decode cX1_join 27 = .ok (.lcmp, 1) := dz_148 (bX1_join_1 11 _ rfl)
theorem dX1_join_28 : decode cX1_join 28 = .ok (.ifCond .ne 7, 3) := dz_154 (bX1_join_1 12 _ rfl) (bX1_join_1 13 _ rfl) (bX1_join_1 14 _ rfl)
theorem dX1_join_31 : decode cX1_join 31 = .ok (.iconst 1, 1) := dz_4 (bX1_join_1 15 _ rfl)
theorem dX1_join_32 : decode cX1_join 32 = .ok (.goto 4, 3) := dz_167 (bX1_join_2 0 _ rfl) (bX1_join_2 1 _ rfl) (bX1_join_2 2 _ rfl)
theorem dX1_join_35 : decode cX1_join 35 = .ok (.iconst 0, 1) := dz_3 (bX1_join_2 3 _ rfl)
theorem dX1_join_36 : decode cX1_join 36 = .ok (.iload_n 1, 1) := dz_27 (bX1_join_2 4 _ rfl)
theorem dX1_join_37 : decode cX1_join 37 = .ok (.bipush 61, 2) := dz_16 (bX1_join_2 5 _ rfl) (bX1_join_2 6 _ rfl)
theorem dX1_join_39 : decode cX1_join 39 = .ok (.if_icmp .ne 7, 3) := dz_160 (bX1_join_2 7 _ rfl) (bX1_join_2 8 _ rfl) (bX1_join_2 9 _ rfl)
theorem dX1_join_42 : decode cX1_join 42 = .ok (.iconst 1, 1) := dz_4 (bX1_join_2 10 _ rfl)
theorem dX1_join_43 : decode cX1_join 43 = .ok (.goto 4, 3) := dz_167 (bX1_join_2 11 _ rfl) (bX1_join_2 12 _ rfl) (bX1_join_2 13 _ rfl)
theorem dX1_join_46 : decode cX1_join 46 = .ok (.iconst 0, 1) := dz_3 (bX1_join_2 14 _ rfl)
theorem dX1_join_47 : decode cX1_join 47 = .ok (.if_icmp .ne 7, 3) := dz_160 (bX1_join_2 15 _ rfl) (bX1_join_3 0 _ rfl) (bX1_join_3 1 _ rfl)
theorem dX1_join_50 : decode cX1_join 50 = .ok (.iconst 1, 1) := dz_4 (bX1_join_3 2 _ rfl)
theorem dX1_join_51 : decode cX1_join 51 = .ok (.goto 4, 3) := dz_167 (bX1_join_3 3 _ rfl) (bX1_join_3 4 _ rfl) (bX1_join_3 5 _ rfl)
theorem dX1_join_54 : decode cX1_join 54 = .ok (.iconst 0, 1) := dz_3 (bX1_join_3 6 _ rfl)
theorem dX1_join_55 : decode cX1_join 55 = .ok (.invokestatic 253, 3) := dz_184 (bX1_join_3 7 _ rfl) (bX1_join_3 8 _ rfl) (bX1_join_3 9 _ rfl)
theorem dX1_join_58 : decode cX1_join 58 = .ok (.invokevirtual 108, 3) := dz_182 (bX1_join_3 10 _ rfl) (bX1_join_3 11 _ rfl) (bX1_join_3 12 _ rfl)
theorem dX1_join_61 : decode cX1_join 61 = .ok (.return_, 1) := dz_177 (bX1_join_3 13 _ rfl)
theorem dX1_join_62 : decode cX1_join 62 = .ok (.aload_n 0, 1) := dz_42 (bX1_join_3 14 _ rfl)
theorem dX1_join_63 : decode cX1_join 63 = .ok (.aload_n 0, 1) := dz_42 (bX1_join_3 15 _ rfl)
theorem dX1_join_64 : decode cX1_join 64 = .ok (.iload_n 1, 1) := dz_27 (bX1_join_4 0 _ rfl)
theorem dX1_join_65 : decode cX1_join 65 = .ok (.lload 4, 2) := dz_22 (bX1_join_4 1 _ rfl) (bX1_join_4 2 _ rfl)
theorem dX1_join_67 : decode cX1_join 67 = .ok (.invokestatic 194, 3) := dz_184 (bX1_join_4 3 _ rfl) (bX1_join_4 4 _ rfl) (bX1_join_4 5 _ rfl)
theorem dX1_join_70 : decode cX1_join 70 = .ok (.lload_n 2, 1) := dz_32 (bX1_join_4 6 _ rfl)
theorem dX1_join_71 : decode cX1_join 71 = .ok (.invokestatic 194, 3) := dz_184 (bX1_join_4 7 _ rfl) (bX1_join_4 8 _ rfl) (bX1_join_4 9 _ rfl)
theorem dX1_join_74 : decode cX1_join 74 = .ok (.invokevirtual 308, 3) := dz_182 (bX1_join_4 10 _ rfl) (bX1_join_4 11 _ rfl) (bX1_join_4 12 _ rfl)
theorem dX1_join_77 : decode cX1_join 77 = .ok (.invokestatic 253, 3) := dz_184 (bX1_join_4 13 _ rfl) (bX1_join_4 14 _ rfl) (bX1_join_4 15 _ rfl)
theorem dX1_join_80 : decode cX1_join 80 = .ok (.invokevirtual 108, 3) := dz_182 (bX1_join_5 0 _ rfl) (bX1_join_5 1 _ rfl) (bX1_join_5 2 _ rfl)
theorem dX1_join_83 : decode cX1_join 83 = .ok (.return_, 1) := dz_177 (bX1_join_5 3 _ rfl)
def c_X1_join_55 (t0 : Nat)  (y0 : Int32) (y1 : Nat) (w : ch_W) : Option (Except Nat Unit × ch_W) := (c_X0_numberWord y0 w).bind fun v1 => (ch_rc w (some y1) 2).bind fun _ => (c_X1_push y1 v1 w).bind fun p4 => some ((.ok (), p4))
theorem s_X1_join_55 {g : State} {t0 : Nat} {y0 : Int32} {y1 : Nat} {w : ch_W} {res : Except Nat Unit × ch_W} {Q : Outcome → ch_W → Prop} (h : c_X1_join_55 t0 y0 y1 w = some res) (hk : (ch_xV Q) res) : ch_FT g true mX1_join 5 55 [none, none, none, none, none, none] [.int y0, va_rf (some y1)] (w) Q := by
  unfold c_X1_join_55 at h
  obtain ⟨v1, hp2, h⟩ := ch_bd h
  refine ch_isT yX0_numberWord prog_1_method_4_code 1 (some .long) (d' := 2) (av := [.int y0]) (rest := [va_rf (some y1)]) rfl dX1_join_55 q1418 q1419 q200 q1420 can_X0_numberWord (Nat.le_of_ble_eq_true rfl) (ch_hw (Nat.le_of_ble_eq_true rfl)) (cp_kL (v := v1) (w1 := w) (fun Q' hq => s_X0_numberWord hp2 hq) ?_)
  obtain ⟨_, hb3, h⟩ := ch_bd h
  obtain ⟨p4, hp5, h⟩ := ch_bd h
  refine ch_iv yX1_push prog_5_method_12_code 3 none (ci := 1) (q := (RX1, TX1, 22)) (b := y1) (d' := 2) (av := [.long v1]) (rest := []) rfl dX1_join_58 q1377 q1379 rfl qs72 q1380 can_X1_push (Nat.le_of_ble_eq_true rfl) (Nat.le_of_ble_eq_true rfl) (ch_rts hb3) (cp_kV (w1 := p4) (fun Q' hq => s_X1_push hp5 hq) ?_)
  obtain rfl := Option.some.inj h
  exact ch_return dX1_join_61 rfl hk

def c_X1_join_47 (t0 : Nat)  (y0 : Int32) (y1 : Int32) (y2 : Nat) (w : ch_W) : Option (Except Nat Unit × ch_W) := if y1 = y0 then (c_X1_join_55 t0 1 y2 w) else (c_X1_join_55 t0 0 y2 w)
theorem s_X1_join_47 {g : State} {t0 : Nat} {y0 : Int32} {y1 : Int32} {y2 : Nat} {w : ch_W} {res : Except Nat Unit × ch_W} {Q : Outcome → ch_W → Prop} (h : c_X1_join_47 t0 y0 y1 y2 w = some res) (hk : (ch_xV Q) res) : ch_FT g true mX1_join 5 47 [none, none, none, none, none, none] [.int y0, .int y1, va_rf (some y2)] (w) Q := by
  unfold c_X1_join_47 at h
  refine cp_icmp_ne _ _ (tgt := 54) dX1_join_47 rfl h (fun h => ?_) (fun h => ?_)
  · exact ch_iconst _ 0 dX1_join_54 rfl (ch_FT.wk (ch_wN (ch_wN (ch_wN (ch_wN (ch_wN (ch_wN ch_w0)))))) (s_X1_join_55  h hk))
  · exact ch_iconst _ 1 dX1_join_50 rfl (ch_goto 55 dX1_join_51 rfl (ch_FT.wk (ch_wN (ch_wN (ch_wN (ch_wN (ch_wN (ch_wN ch_w0)))))) (s_X1_join_55  h hk)))

def c_X1_join_36 (t0 : Nat) (x1 : Int32) (y0 : Int32) (y1 : Nat) (w : ch_W) : Option (Except Nat Unit × ch_W) := if x1 = 61 then (c_X1_join_47 t0 1 y0 y1 w) else (c_X1_join_47 t0 0 y0 y1 w)
theorem s_X1_join_36 {g : State} {t0 : Nat} {x1 : Int32} {y0 : Int32} {y1 : Nat} {w : ch_W} {res : Except Nat Unit × ch_W} {Q : Outcome → ch_W → Prop} (h : c_X1_join_36 t0 x1 y0 y1 w = some res) (hk : (ch_xV Q) res) : ch_FT g true mX1_join 5 36 [none, some (.int x1), none, none, none, none] [.int y0, va_rf (some y1)] (w) Q := by
  unfold c_X1_join_36 at h
  refine ch_iload_n 1 _ dX1_join_36 rfl (ch_bipush _ 61 dX1_join_37 rfl (cp_icmp_ne _ _ (tgt := 46) dX1_join_39 rfl h (fun h => ?_) (fun h => ?_)))
  · exact ch_iconst _ 0 dX1_join_46 rfl (ch_FT.wk (ch_wN (ch_wN (ch_wN (ch_wN (ch_wN (ch_wN ch_w0)))))) (s_X1_join_47  h hk))
  · exact ch_iconst _ 1 dX1_join_42 rfl (ch_goto 47 dX1_join_43 rfl (ch_FT.wk (ch_wN (ch_wN (ch_wN (ch_wN (ch_wN (ch_wN ch_w0)))))) (s_X1_join_47  h hk)))

def c_X1_join_23 (t0 : Nat) (x1 : Int32) (x2 : Int64) (x4 : Int64)  (w : ch_W) : Option (Except Nat Unit × ch_W) := if (lg_cmp x4 x2) = 0 then (c_X1_join_36 t0 x1 1 t0 w) else (c_X1_join_36 t0 x1 0 t0 w)
theorem s_X1_join_23 {g : State} {t0 : Nat} {x1 : Int32} {x2 : Int64} {x4 : Int64} {w : ch_W} {res : Except Nat Unit × ch_W} {Q : Outcome → ch_W → Prop} (h : c_X1_join_23 t0 x1 x2 x4 w = some res) (hk : (ch_xV Q) res) : ch_FT g true mX1_join 5 23 [some (va_rf (some t0)), some (.int x1), some (.long x2), none, some (.long x4), none] [] (w) Q := by
  unfold c_X1_join_23 at h
  refine ch_aload_n 0 (some t0) dX1_join_23 rfl (ch_lload 4 _ dX1_join_24 rfl (ch_lload_n 2 _ dX1_join_26 rfl (ch_lcmp _ _ dX1_join_27 (cp_if_ne _ (tgt := 35) dX1_join_28 rfl h (fun h => ?_) (fun h => ?_)))))
  · exact ch_iconst _ 0 dX1_join_35 rfl (ch_FT.wk (ch_wN (ch_wS (ch_wN (ch_wN (ch_wN (ch_wN ch_w0)))))) (s_X1_join_36  h hk))
  · exact ch_iconst _ 1 dX1_join_31 rfl (ch_goto 36 dX1_join_32 rfl (ch_FT.wk (ch_wN (ch_wS (ch_wN (ch_wN (ch_wN (ch_wN ch_w0)))))) (s_X1_join_36  h hk)))

def c_X1_join (t0 : Nat) (x1 : Int32) (w : ch_W) : Option (Except Nat Unit × ch_W) := (ch_rc w (some t0) 2).bind fun _ => (c_X1_pop t0 w).bind fun p2 => (ch_rc p2.2 (some t0) 2).bind fun _ => (c_X1_pop t0 p2.2).bind fun p5 => if x1 = 61 then (c_X1_join_23 t0 x1 p2.1 p5.1 p5.2) else (if x1 = 33 then (c_X1_join_23 t0 x1 p2.1 p5.1 p5.2) else ((c_X0_numberOf p5.1 p5.2).bind fun v7 => (c_X0_numberOf p2.1 p5.2).bind fun v9 => (ch_rc p5.2 (some t0) 2).bind fun _ => ch_tb (c_X1_joined t0 x1 v7 v9 p5.2) (fun a w => (.error a, w)) fun v12 w13 => (c_X0_numberWord v12 w13).bind fun v14 => (ch_rc w13 (some t0) 2).bind fun _ => (c_X1_push t0 v14 w13).bind fun p17 => some ((.ok (), p17))))
theorem s_X1_join {g : State} {t0 : Nat} {x1 : Int32} {w : ch_W} {res : Except Nat Unit × ch_W} {Q : Outcome → ch_W → Prop} (h : c_X1_join t0 x1 w = some res) (hk : (ch_xV Q) res) : ch_CT g true yX1_join 5 [.ref t0, .int x1] (w) Q := by
  unfold c_X1_join at h
  refine ch_ctL mX1_join (ls := [some (va_rf (some t0)), some (.int x1), none, none, none, none]) q1480 rfl (ch_lyr (r := some t0) (ch_lyi ch_ly0)) (Nat.le_of_ble_eq_true rfl) rfl ?_
  obtain ⟨_, hb1, h⟩ := ch_bd h
  obtain ⟨p2, hp3, h⟩ := ch_bd h
  refine ch_aload_n 0 (some t0) dX1_join_0 rfl (ch_iv yX1_pop prog_5_method_13_code 1 (some .long) (ci := 1) (q := (RX1, TX1, 22)) (b := t0) (d' := 2) (av := []) (rest := []) rfl dX1_join_1 q1425 q1427 rfl qs81 q1428 can_X1_pop (Nat.le_of_ble_eq_true rfl) (Nat.le_of_ble_eq_true rfl) (ch_rts hb1) (cp_kL (v := p2.1) (w1 := p2.2) (fun Q' hq => s_X1_pop hp3 hq) ?_))
  obtain ⟨_, hb4, h⟩ := ch_bd h
  obtain ⟨p5, hp6, h⟩ := ch_bd h
  refine ch_lstore_n 2 _ (ls1 := [some (va_rf (some t0)), some (.int x1), some (.long p2.1), none, none, none]) dX1_join_4 (Nat.le_of_ble_eq_true rfl) rfl (ch_aload_n 0 (some t0) dX1_join_5 rfl (ch_iv yX1_pop prog_5_method_13_code 1 (some .long) (ci := 1) (q := (RX1, TX1, 22)) (b := t0) (d' := 2) (av := []) (rest := []) rfl dX1_join_6 q1425 q1427 rfl qs81 q1428 can_X1_pop (Nat.le_of_ble_eq_true rfl) (Nat.le_of_ble_eq_true rfl) (ch_rts hb4) (cp_kL (v := p5.1) (w1 := p5.2) (fun Q' hq => s_X1_pop hp6 hq) ?_)))
  refine ch_lstore 4 _ (ls1 := [some (va_rf (some t0)), some (.int x1), some (.long p2.1), none, some (.long p5.1), none]) dX1_join_9 (Nat.le_of_ble_eq_true rfl) rfl (ch_iload_n 1 _ dX1_join_11 rfl (ch_bipush _ 61 dX1_join_12 rfl (cp_icmp_eq _ _ (tgt := 23) dX1_join_14 rfl h (fun h => ?_) (fun h => ?_))))
  · exact ch_FT.wk (ch_wS (ch_wS (ch_wS (ch_wN (ch_wS (ch_wN ch_w0)))))) (s_X1_join_23  h hk)
  · refine ch_iload_n 1 _ dX1_join_17 rfl (ch_bipush _ 33 dX1_join_18 rfl (cp_icmp_ne _ _ (tgt := 62) dX1_join_20 rfl h (fun h => ?_) (fun h => ?_)))
    · obtain ⟨v7, hp8, h⟩ := ch_bd h
      refine ch_aload_n 0 (some t0) dX1_join_62 rfl (ch_aload_n 0 (some t0) dX1_join_63 rfl (ch_iload_n 1 _ dX1_join_64 rfl (ch_lload 4 _ dX1_join_65 rfl (ch_isT yX0_numberOf prog_1_method_5_code 2 (some .int) (d' := 2) (av := [.long p5.1]) (rest := [.int x1, va_rf (some t0), va_rf (some t0)]) rfl dX1_join_67 q1449 q1450 q200 q1451 can_X0_numberOf (Nat.le_of_ble_eq_true rfl) (ch_hw (Nat.le_of_ble_eq_true rfl)) (cp_kI (v := v7) (w1 := p5.2) (fun Q' hq => s_X0_numberOf hp8 hq) ?_)))))
      obtain ⟨v9, hp10, h⟩ := ch_bd h
      refine ch_lload_n 2 _ dX1_join_70 rfl (ch_isT yX0_numberOf prog_1_method_5_code 2 (some .int) (d' := 2) (av := [.long p2.1]) (rest := [.int v7, .int x1, va_rf (some t0), va_rf (some t0)]) rfl dX1_join_71 q1449 q1450 q200 q1451 can_X0_numberOf (Nat.le_of_ble_eq_true rfl) (ch_hw (Nat.le_of_ble_eq_true rfl)) (cp_kI (v := v9) (w1 := p5.2) (fun Q' hq => s_X0_numberOf hp10 hq) ?_))
      obtain ⟨_, hb11, h⟩ := ch_bd h
      refine ch_iv yX1_joined prog_5_method_37_code 4 (some .int) (ci := 1) (q := (RX1, TX1, 22)) (b := t0) (d' := 4) (av := [.int x1, .int v7, .int v9]) (rest := [va_rf (some t0)]) rfl dX1_join_74 q1481 q1483 rfl qs94 q1484 can_X1_joined (Nat.le_of_ble_eq_true rfl) (ch_hw (Nat.le_of_ble_eq_true rfl)) (ch_rts hb11) (cp_tI h (fun p hp Q' hq => s_X1_joined hp hq) (fun v12 w13 h => ?_) (fun a w1 h => ?_))
      · obtain ⟨v14, hp15, h⟩ := ch_bd h
        refine ch_isT yX0_numberWord prog_1_method_4_code 1 (some .long) (d' := 2) (av := [.int v12]) (rest := [va_rf (some t0)]) rfl dX1_join_77 q1418 q1419 q200 q1420 can_X0_numberWord (Nat.le_of_ble_eq_true rfl) (ch_hw (Nat.le_of_ble_eq_true rfl)) (cp_kL (v := v14) (w1 := w13) (fun Q' hq => s_X0_numberWord hp15 hq) ?_)
        obtain ⟨_, hb16, h⟩ := ch_bd h
        obtain ⟨p17, hp18, h⟩ := ch_bd h
        refine ch_iv yX1_push prog_5_method_12_code 3 none (ci := 1) (q := (RX1, TX1, 22)) (b := t0) (d' := 2) (av := [.long v14]) (rest := []) rfl dX1_join_80 q1377 q1379 rfl qs72 q1380 can_X1_push (Nat.le_of_ble_eq_true rfl) (Nat.le_of_ble_eq_true rfl) (ch_rts hb16) (cp_kV (w1 := p17) (fun Q' hq => s_X1_push hp18 hq) ?_)
        obtain rfl := Option.some.inj h
        exact ch_return dX1_join_83 rfl hk
      · subst h
        exact ch_th rfl hk
    · exact ch_FT.wk (ch_wS (ch_wS (ch_wS (ch_wN (ch_wS (ch_wN ch_w0)))))) (s_X1_join_23  h hk)

theorem bX1_putElement_0 : ch_ck cX1_putElement 0 [42, 182, 1, 15, 60, 42, 182, 1, 15, 61, 42, 180, 0, 9, 42, 42] := ch_ckof (by decide +kernel)
theorem bX1_putElement_1 : ch_ck cX1_putElement 16 [182, 0, 190, 28, 182, 1, 45, 27, 133, 80, 177] := ch_ckof (by decide +kernel)
theorem dX1_putElement_0 : decode cX1_putElement 0 = .ok (.aload_n 0, 1) := dz_42 (bX1_putElement_0 0 _ rfl)
theorem dX1_putElement_1 : decode cX1_putElement 1 = .ok (.invokevirtual 271, 3) := dz_182 (bX1_putElement_0 1 _ rfl) (bX1_putElement_0 2 _ rfl) (bX1_putElement_0 3 _ rfl)
theorem dX1_putElement_4 : decode cX1_putElement 4 = .ok (.istore_n 1, 1) := dz_60 (bX1_putElement_0 4 _ rfl)
theorem dX1_putElement_5 : decode cX1_putElement 5 = .ok (.aload_n 0, 1) := dz_42 (bX1_putElement_0 5 _ rfl)
theorem dX1_putElement_6 : decode cX1_putElement 6 = .ok (.invokevirtual 271, 3) := dz_182 (bX1_putElement_0 6 _ rfl) (bX1_putElement_0 7 _ rfl) (bX1_putElement_0 8 _ rfl)
theorem dX1_putElement_9 : decode cX1_putElement 9 = .ok (.istore_n 2, 1) := dz_61 (bX1_putElement_0 9 _ rfl)
theorem dX1_putElement_10 : decode cX1_putElement 10 = .ok (.aload_n 0, 1) := dz_42 (bX1_putElement_0 10 _ rfl)
theorem dX1_putElement_11 : decode cX1_putElement 11 = .ok (.getfield 9, 3) := dz_180 (bX1_putElement_0 11 _ rfl) (bX1_putElement_0 12 _ rfl) (bX1_putElement_0 13 _ rfl)
theorem dX1_putElement_14 : decode cX1_putElement 14 = .ok (.aload_n 0, 1) := dz_42 (bX1_putElement_0 14 _ rfl)
theorem dX1_putElement_15 : decode cX1_putElement 15 = .ok (.aload_n 0, 1) := dz_42 (bX1_putElement_0 15 _ rfl)
theorem dX1_putElement_16 : decode cX1_putElement 16 = .ok (.invokevirtual 190, 3) := dz_182 (bX1_putElement_1 0 _ rfl) (bX1_putElement_1 1 _ rfl) (bX1_putElement_1 2 _ rfl)
theorem dX1_putElement_19 : decode cX1_putElement 19 = .ok (.iload_n 2, 1) := dz_28 (bX1_putElement_1 3 _ rfl)
theorem dX1_putElement_20 : decode cX1_putElement 20 = .ok (.invokevirtual 301, 3) := dz_182 (bX1_putElement_1 4 _ rfl) (bX1_putElement_1 5 _ rfl) (bX1_putElement_1 6 _ rfl)
theorem dX1_putElement_23 : decode cX1_putElement 23 = .ok (.iload_n 1, 1) := dz_27 (bX1_putElement_1 7 _ rfl)
theorem dX1_putElement_24 : decode cX1_putElement 24 = .ok (.i2l, 1) := dz_133 (bX1_putElement_1 8 _ rfl)
theorem dX1_putElement_25 : decode cX1_putElement 25 = .ok (.lastore, 1) := dz_80 (bX1_putElement_1 9 _ rfl)
theorem dX1_putElement_26 : decode cX1_putElement 26 = .ok (.return_, 1) := dz_177 (bX1_putElement_1 10 _ rfl)
def c_X1_putElement (t0 : Nat)  (w : ch_W) : Option (Except Nat Unit × ch_W) := (ch_rc w (some t0) 2).bind fun _ => (c_X1_popNumber t0 w).bind fun p2 => (ch_rc p2.2 (some t0) 2).bind fun _ => (c_X1_popNumber t0 p2.2).bind fun p5 => (ch_gR p5.2 (some t0) 2 fX1_heap).bind fun v7 => (ch_rc p5.2 (some t0) 2).bind fun _ => (c_X1_pop t0 p5.2).bind fun p9 => (ch_rc p9.2 (some t0) 2).bind fun _ => ch_tb (c_X1_elementAt t0 p9.1 p5.1 p9.2) (fun a w => (.error a, w)) fun v12 w13 => (ch_wL w13 v7 24 v12 (Int32.toInt64 p2.1)).bind fun w14 => some ((.ok (), w14))
theorem s_X1_putElement {g : State} {t0 : Nat} {w : ch_W} {res : Except Nat Unit × ch_W} {Q : Outcome → ch_W → Prop} (h : c_X1_putElement t0 w = some res) (hk : (ch_xV Q) res) : ch_CT g true yX1_putElement 6 [.ref t0] (w) Q := by
  unfold c_X1_putElement at h
  refine ch_ctL mX1_putElement (ls := [some (va_rf (some t0)), none, none]) q1492 rfl (ch_lyr (r := some t0) ch_ly0) (Nat.le_of_ble_eq_true rfl) rfl ?_
  obtain ⟨_, hb1, h⟩ := ch_bd h
  obtain ⟨p2, hp3, h⟩ := ch_bd h
  refine ch_aload_n 0 (some t0) dX1_putElement_0 rfl (ch_iv yX1_popNumber prog_5_method_14_code 1 (some .int) (ci := 1) (q := (RX1, TX1, 22)) (b := t0) (d' := 3) (av := []) (rest := []) rfl dX1_putElement_1 q1445 q1447 rfl qs86 q1448 can_X1_popNumber (Nat.le_of_ble_eq_true rfl) (Nat.le_of_ble_eq_true rfl) (ch_rts hb1) (cp_kI (v := p2.1) (w1 := p2.2) (fun Q' hq => s_X1_popNumber hp3 hq) ?_))
  obtain ⟨_, hb4, h⟩ := ch_bd h
  obtain ⟨p5, hp6, h⟩ := ch_bd h
  refine ch_istore_n 1 _ (ls1 := [some (va_rf (some t0)), some (.int p2.1), none]) dX1_putElement_4 (Nat.le_of_ble_eq_true rfl) rfl (ch_aload_n 0 (some t0) dX1_putElement_5 rfl (ch_iv yX1_popNumber prog_5_method_14_code 1 (some .int) (ci := 1) (q := (RX1, TX1, 22)) (b := t0) (d' := 3) (av := []) (rest := []) rfl dX1_putElement_6 q1445 q1447 rfl qs86 q1448 can_X1_popNumber (Nat.le_of_ble_eq_true rfl) (Nat.le_of_ble_eq_true rfl) (ch_rts hb4) (cp_kI (v := p5.1) (w1 := p5.2) (fun Q' hq => s_X1_popNumber hp6 hq) ?_)))
  refine ch_istore_n 2 _ (ls1 := [some (va_rf (some t0)), some (.int p2.1), some (.int p5.1)]) dX1_putElement_9 (Nat.le_of_ble_eq_true rfl) rfl (ch_aload_n 0 (some t0) dX1_putElement_10 rfl (cp_gR (ci := 1) (k := 2) dX1_putElement_11 fl_X1_9 rfl h (fun v7 h => ?_)))
  obtain ⟨_, hb8, h⟩ := ch_bd h
  obtain ⟨p9, hp10, h⟩ := ch_bd h
  refine ch_aload_n 0 (some t0) dX1_putElement_14 rfl (ch_aload_n 0 (some t0) dX1_putElement_15 rfl (ch_iv yX1_pop prog_5_method_13_code 1 (some .long) (ci := 1) (q := (RX1, TX1, 22)) (b := t0) (d' := 2) (av := []) (rest := [va_rf (some t0), va_rf v7]) rfl dX1_putElement_16 q1425 q1427 rfl qs81 q1428 can_X1_pop (Nat.le_of_ble_eq_true rfl) (ch_hw (Nat.le_of_ble_eq_true rfl)) (ch_rts hb8) (cp_kL (v := p9.1) (w1 := p9.2) (fun Q' hq => s_X1_pop hp10 hq) ?_)))
  obtain ⟨_, hb11, h⟩ := ch_bd h
  refine ch_iload_n 2 _ dX1_putElement_19 rfl (ch_iv yX1_elementAt prog_5_method_31_code 5 (some .int) (ci := 1) (q := (RX1, TX1, 22)) (b := t0) (d' := 5) (av := [.long p9.1, .int p5.1]) (rest := [va_rf v7]) rfl dX1_putElement_20 q1452 q1454 rfl qs87 q1455 can_X1_elementAt (Nat.le_of_ble_eq_true rfl) (ch_hw (Nat.le_of_ble_eq_true rfl)) (ch_rts hb11) (cp_tI h (fun p hp Q' hq => s_X1_elementAt hp hq) (fun v12 w13 h => ?_) (fun a w1 h => ?_)))
  · refine ch_iload_n 1 _ dX1_putElement_23 rfl (ch_i2l _ dX1_putElement_24 (cp_last (t := 24) dX1_putElement_25 rfl (Nat.le_of_ble_eq_true rfl) rfl h (fun w14 h => ?_)))
    obtain rfl := Option.some.inj h
    exact ch_return dX1_putElement_26 rfl hk
  · subst h
    exact ch_th rfl hk

theorem bX1_show_0 : ch_ck cX1_show 0 [42, 180, 0, 84, 17, 1, 244, 162, 0, 13, 42, 180, 0, 38, 42, 180] := ch_ckof (by decide +kernel)
theorem bX1_show_1 : ch_ck cX1_show 16 [0, 84, 27, 79, 42, 89, 180, 0, 84, 4, 96, 181, 0, 84, 177] := ch_ckof (by decide +kernel)
theorem dX1_show_0 : decode cX1_show 0 = .ok (.aload_n 0, 1) := dz_42 (bX1_show_0 0 _ rfl)
theorem dX1_show_1 : decode cX1_show 1 = .ok (.getfield 84, 3) := dz_180 (bX1_show_0 1 _ rfl) (bX1_show_0 2 _ rfl) (bX1_show_0 3 _ rfl)
theorem dX1_show_4 : decode cX1_show 4 = .ok (.sipush 500, 3) := dz_17 (bX1_show_0 4 _ rfl) (bX1_show_0 5 _ rfl) (bX1_show_0 6 _ rfl)
theorem dX1_show_7 : decode cX1_show 7 = .ok (.if_icmp .ge 13, 3) := dz_162 (bX1_show_0 7 _ rfl) (bX1_show_0 8 _ rfl) (bX1_show_0 9 _ rfl)
theorem dX1_show_10 : decode cX1_show 10 = .ok (.aload_n 0, 1) := dz_42 (bX1_show_0 10 _ rfl)
theorem dX1_show_11 : decode cX1_show 11 = .ok (.getfield 38, 3) := dz_180 (bX1_show_0 11 _ rfl) (bX1_show_0 12 _ rfl) (bX1_show_0 13 _ rfl)
theorem dX1_show_14 : decode cX1_show 14 = .ok (.aload_n 0, 1) := dz_42 (bX1_show_0 14 _ rfl)
theorem dX1_show_15 : decode cX1_show 15 = .ok (.getfield 84, 3) := dz_180 (bX1_show_0 15 _ rfl) (bX1_show_1 0 _ rfl) (bX1_show_1 1 _ rfl)
theorem dX1_show_18 : decode cX1_show 18 = .ok (.iload_n 1, 1) := dz_27 (bX1_show_1 2 _ rfl)
theorem dX1_show_19 : decode cX1_show 19 = .ok (.iastore, 1) := dz_79 (bX1_show_1 3 _ rfl)
theorem dX1_show_20 : decode cX1_show 20 = .ok (.aload_n 0, 1) := dz_42 (bX1_show_1 4 _ rfl)
theorem dX1_show_21 : decode cX1_show 21 = .ok (.dup, 1) := dz_89 (bX1_show_1 5 _ rfl)
theorem dX1_show_22 : decode cX1_show 22 = .ok (.getfield 84, 3) := dz_180 (bX1_show_1 6 _ rfl) (bX1_show_1 7 _ rfl) (bX1_show_1 8 _ rfl)
theorem dX1_show_25 : decode cX1_show 25 = .ok (.iconst 1, 1) := dz_4 (bX1_show_1 9 _ rfl)
theorem dX1_show_26 : decode cX1_show 26 = .ok (.iadd, 1) := dz_96 (bX1_show_1 10 _ rfl)
theorem dX1_show_27 : decode cX1_show 27 = .ok (.putfield 84, 3) := dz_181 (bX1_show_1 11 _ rfl) (bX1_show_1 12 _ rfl) (bX1_show_1 13 _ rfl)
theorem dX1_show_30 : decode cX1_show 30 = .ok (.return_, 1) := dz_177 (bX1_show_1 14 _ rfl)
def c_X1_show_20 (t0 : Nat)   (w : ch_W) : Option (ch_W) := (ch_gI w (some t0) 2 fX1_printed).bind fun v1 => (ch_pI w (some t0) 2 fX1_printed (v1 + 1)).bind fun w2 => some (w2)
theorem s_X1_show_20 {g : State} {t0 : Nat} {w : ch_W} {res : ch_W} {Q : Outcome → ch_W → Prop} (h : c_X1_show_20 t0 w = some res) (hk : (ch_eV Q) res) : ch_FT g true mX1_show 2 20 [some (va_rf (some t0)), none] [] (w) Q := by
  unfold c_X1_show_20 at h
  refine ch_aload_n 0 (some t0) dX1_show_20 rfl (ch_dup dX1_show_21 (ch_cat _) (cp_gI (ci := 1) (k := 15) dX1_show_22 fl_X1_84 rfl h (fun v1 h => ?_)))
  refine ch_iconst _ 1 dX1_show_25 rfl (ch_iadd _ _ dX1_show_26 (cp_pI (ci := 1) (k := 15) dX1_show_27 fl_X1_84 rfl rfl rfl h (fun w2 h => ?_)))
  obtain rfl := Option.some.inj h
  exact ch_return dX1_show_30 rfl hk

def c_X1_show (t0 : Nat) (x1 : Int32) (w : ch_W) : Option (ch_W) := (ch_gI w (some t0) 2 fX1_printed).bind fun v1 => if v1 < 500 then ((ch_gR w (some t0) 2 fX1_outputs).bind fun v2 => (ch_gI w (some t0) 2 fX1_printed).bind fun v3 => (ch_wI w v2 21 v3 x1).bind fun w4 => c_X1_show_20 t0 w4) else (c_X1_show_20 t0 w)
theorem s_X1_show {g : State} {t0 : Nat} {x1 : Int32} {w : ch_W} {res : ch_W} {Q : Outcome → ch_W → Prop} (h : c_X1_show t0 x1 w = some res) (hk : (ch_eV Q) res) : ch_CT g true yX1_show 2 [.ref t0, .int x1] (w) Q := by
  unfold c_X1_show at h
  refine ch_ctL mX1_show (ls := [some (va_rf (some t0)), some (.int x1)]) q1496 rfl (ch_lyr (r := some t0) (ch_lyi ch_ly0)) (Nat.le_of_ble_eq_true rfl) rfl ?_
  refine ch_aload_n 0 (some t0) dX1_show_0 rfl (cp_gI (ci := 1) (k := 15) dX1_show_1 fl_X1_84 rfl h (fun v1 h => ?_))
  refine ch_sipush _ 500 dX1_show_4 rfl (cp_icmp_ge _ _ (tgt := 20) dX1_show_7 rfl h (fun h => ?_) (fun h => ?_))
  · exact ch_FT.wk (ch_wS (ch_wN ch_w0)) (s_X1_show_20  h hk)
  · refine ch_aload_n 0 (some t0) dX1_show_10 rfl (cp_gR (ci := 1) (k := 14) dX1_show_11 fl_X1_38 rfl h (fun v2 h => ?_))
    refine ch_aload_n 0 (some t0) dX1_show_14 rfl (cp_gI (ci := 1) (k := 15) dX1_show_15 fl_X1_84 rfl h (fun v3 h => ?_))
    refine ch_iload_n 1 _ dX1_show_18 rfl (cp_iast (t := 21) dX1_show_19 rfl (Nat.le_of_ble_eq_true rfl) rfl h (fun w4 h => ?_))
    exact ch_FT.wk (ch_wS (ch_wN ch_w0)) (s_X1_show_20  h hk)

theorem bX1_invoke_0 : ch_ck cX1_invoke 0 [42, 180, 0, 19, 42, 180, 0, 78, 4, 100, 28, 100, 47, 66, 42, 33] := ch_ckof (by decide +kernel)
theorem bX1_invoke_1 : ch_ck cX1_invoke 16 [182, 1, 3, 54, 5, 42, 42, 180, 0, 56, 42, 21, 5, 182, 0, 200] := ch_ckof (by decide +kernel)
theorem bX1_invoke_2 : ch_ck cX1_invoke 32 [50, 27, 182, 1, 56, 28, 182, 0, 112, 177] := ch_ckof (by decide +kernel)
theorem dX1_invoke_0 : decode cX1_invoke 0 = .ok (.aload_n 0, 1) := dz_42 (bX1_invoke_0 0 _ rfl)
theorem dX1_invoke_1 : decode cX1_invoke 1 = .ok (.getfield 19, 3) := dz_180 (bX1_invoke_0 1 _ rfl) (bX1_invoke_0 2 _ rfl) (bX1_invoke_0 3 _ rfl)
theorem dX1_invoke_4 : decode cX1_invoke 4 = .ok (.aload_n 0, 1) := dz_42 (bX1_invoke_0 4 _ rfl)
theorem dX1_invoke_5 : decode cX1_invoke 5 = .ok (.getfield 78, 3) := dz_180 (bX1_invoke_0 5 _ rfl) (bX1_invoke_0 6 _ rfl) (bX1_invoke_0 7 _ rfl)
theorem dX1_invoke_8 : decode cX1_invoke 8 = .ok (.iconst 1, 1) := dz_4 (bX1_invoke_0 8 _ rfl)
theorem dX1_invoke_9 : decode cX1_invoke 9 = .ok (.isub, 1) := dz_100 (bX1_invoke_0 9 _ rfl)
theorem dX1_invoke_10 : decode cX1_invoke 10 = .ok (.iload_n 2, 1) := dz_28 (bX1_invoke_0 10 _ rfl)
theorem dX1_invoke_11 : decode cX1_invoke 11 = .ok (.isub, 1) := dz_100 (bX1_invoke_0 11 _ rfl)
theorem dX1_invoke_12 : decode cX1_invoke 12 = .ok (.laload, 1) := dz_47 (bX1_invoke_0 12 _ rfl)
theorem dX1_invoke_13 : decode cX1_invoke 13 = .ok (.lstore_n 3, 1) := dz_66 (bX1_invoke_0 13 _ rfl)
theorem dX1_invoke_14 : decode cX1_invoke 14 = .ok (.aload_n 0, 1) := dz_42 (bX1_invoke_0 14 _ rfl)
theorem dX1_invoke_15 : decode cX1_invoke 15 = .ok (.lload_n 3, 1) := dz_33 (bX1_invoke_0 15 _ rfl)
theorem dX1_invoke_16 : decode cX1_invoke 16 = .ok (.invokevirtual 259, 3) := dz_182 (bX1_invoke_1 0 _ rfl) (bX1_invoke_1 1 _ rfl) (bX1_invoke_1 2 _ rfl)
theorem dX1_invoke_19 : decode cX1_invoke 19 = .ok (.istore 5, 2) := dz_54 (bX1_invoke_1 3 _ rfl) (bX1_invoke_1 4 _ rfl)
theorem dX1_invoke_21 : decode cX1_invoke 21 = .ok (.aload_n 0, 1) := dz_42 (bX1_invoke_1 5 _ rfl)
theorem dX1_invoke_22 : decode cX1_invoke 22 = .ok (.aload_n 0, 1) := dz_42 (bX1_invoke_1 6 _ rfl)
theorem dX1_invoke_23 : decode cX1_invoke 23 = .ok (.getfield 56, 3) := dz_180 (bX1_invoke_1 7 _ rfl) (bX1_invoke_1 8 _ rfl) (bX1_invoke_1 9 _ rfl)
theorem dX1_invoke_26 : decode cX1_invoke 26 = .ok (.aload_n 0, 1) := dz_42 (bX1_invoke_1 10 _ rfl)
theorem dX1_invoke_27 : decode cX1_invoke 27 = .ok (.iload 5, 2) := dz_21 (bX1_invoke_1 11 _ rfl) (bX1_invoke_1 12 _ rfl)
theorem dX1_invoke_29 : decode cX1_invoke 29 = .ok (.invokevirtual 200, 3) := dz_182 (bX1_invoke_1 13 _ rfl) (bX1_invoke_1 14 _ rfl) (bX1_invoke_1 15 _ rfl)
theorem dX1_invoke_32 : decode cX1_invoke 32 = .ok (.aaload, 1) := dz_50 (bX1_invoke_2 0 _ rfl)
theorem dX1_invoke_33 : decode cX1_invoke 33 = .ok (.iload_n 1, 1) := dz_27 (bX1_invoke_2 1 _ rfl)
theorem dX1_invoke_34 : decode cX1_invoke 34 = .ok (.invokevirtual 312, 3) := dz_182 (bX1_invoke_2 2 _ rfl) (bX1_invoke_2 3 _ rfl) (bX1_invoke_2 4 _ rfl)
theorem dX1_invoke_37 : decode cX1_invoke 37 = .ok (.iload_n 2, 1) := dz_28 (bX1_invoke_2 5 _ rfl)
theorem dX1_invoke_38 : decode cX1_invoke 38 = .ok (.invokevirtual 112, 3) := dz_182 (bX1_invoke_2 6 _ rfl) (bX1_invoke_2 7 _ rfl) (bX1_invoke_2 8 _ rfl)
theorem dX1_invoke_41 : decode cX1_invoke 41 = .ok (.return_, 1) := dz_177 (bX1_invoke_2 9 _ rfl)
def c_X1_invoke (g : State) (t0 : Nat) (x1 : Int32) (x2 : Int32) (w : ch_W) : Option (Except Nat Unit × ch_W) := (ch_gR w (some t0) 2 fX1_pile).bind fun v1 => (ch_gI w (some t0) 2 fX1_top).bind fun v2 => (ch_lL w v1 24 ((v2 - 1) - x2)).bind fun v3 => (ch_rc w (some t0) 2).bind fun _ => ch_tb (c_X1_object t0 v3 w) (fun a w => (.error a, w)) fun v5 w6 => (ch_gR w6 (some t0) 2 fX1_kinds).bind fun v7 => (ch_rc w6 (some t0) 2).bind fun _ => (c_X1_classOf t0 v5 w6).bind fun v9 => (ch_lR w6 v7 29 v9).bind fun v11 => (ch_rc w6 v11 7).bind fun b13 => (c_X6_method b13 x1 w6).bind fun v14 => (ch_rc w6 (some t0) 2).bind fun _ => ch_tb (c_X1_enter g t0 v14 x2 w6) (fun a w => (.error a, w)) fun _ w18 => some ((.ok (), w18))
theorem s_X1_invoke {g : State} {t0 : Nat} {x1 : Int32} {x2 : Int32} {w : ch_W} {res : Except Nat Unit × ch_W} {Q : Outcome → ch_W → Prop} (h : c_X1_invoke g t0 x1 x2 w = some res) (hk : (ch_xV Q) res) : ch_CT g true yX1_invoke 8 [.ref t0, .int x1, .int x2] (w) Q := by
  unfold c_X1_invoke at h
  refine ch_ctL mX1_invoke (ls := [some (va_rf (some t0)), some (.int x1), some (.int x2), none, none, none]) q1500 rfl (ch_lyr (r := some t0) (ch_lyi (ch_lyi ch_ly0))) (Nat.le_of_ble_eq_true rfl) rfl ?_
  refine ch_aload_n 0 (some t0) dX1_invoke_0 rfl (cp_gR (ci := 1) (k := 5) dX1_invoke_1 fl_X1_19 rfl h (fun v1 h => ?_))
  refine ch_aload_n 0 (some t0) dX1_invoke_4 rfl (cp_gI (ci := 1) (k := 6) dX1_invoke_5 fl_X1_78 rfl h (fun v2 h => ?_))
  refine ch_iconst _ 1 dX1_invoke_8 rfl (ch_isub _ _ dX1_invoke_9 (ch_iload_n 2 _ dX1_invoke_10 rfl (ch_isub _ _ dX1_invoke_11 (cp_lald (t := 24) dX1_invoke_12 rfl rfl h (fun v3 h => ?_)))))
  obtain ⟨_, hb4, h⟩ := ch_bd h
  refine ch_lstore_n 3 _ (ls1 := [some (va_rf (some t0)), some (.int x1), some (.int x2), some (.long v3), none, none]) dX1_invoke_13 (Nat.le_of_ble_eq_true rfl) rfl (ch_aload_n 0 (some t0) dX1_invoke_14 rfl (ch_lload_n 3 _ dX1_invoke_15 rfl (ch_iv yX1_object prog_5_method_30_code 3 (some .int) (ci := 1) (q := (RX1, TX1, 22)) (b := t0) (d' := 4) (av := [.long v3]) (rest := []) rfl dX1_invoke_16 q1429 q1431 rfl qs82 q1432 can_X1_object (Nat.le_of_ble_eq_true rfl) (Nat.le_of_ble_eq_true rfl) (ch_rts hb4) (cp_tI h (fun p hp Q' hq => s_X1_object hp hq) (fun v5 w6 h => ?_) (fun a w1 h => ?_)))))
  · refine ch_istore 5 _ (ls1 := [some (va_rf (some t0)), some (.int x1), some (.int x2), some (.long v3), none, some (.int v5)]) dX1_invoke_19 (Nat.le_of_ble_eq_true rfl) rfl (ch_aload_n 0 (some t0) dX1_invoke_21 rfl (ch_aload_n 0 (some t0) dX1_invoke_22 rfl (cp_gR (ci := 1) (k := 0) dX1_invoke_23 fl_X1_56 rfl h (fun v7 h => ?_))))
    obtain ⟨_, hb8, h⟩ := ch_bd h
    obtain ⟨v9, hp10, h⟩ := ch_bd h
    refine ch_aload_n 0 (some t0) dX1_invoke_26 rfl (ch_iload 5 _ dX1_invoke_27 rfl (ch_iv yX1_classOf prog_5_method_18_code 2 (some .int) (ci := 1) (q := (RX1, TX1, 22)) (b := t0) (d' := 2) (av := [.int v5]) (rest := [va_rf v7, va_rf (some t0)]) rfl dX1_invoke_29 q1472 q1474 rfl qs92 q1475 can_X1_classOf (Nat.le_of_ble_eq_true rfl) (ch_hw (Nat.le_of_ble_eq_true rfl)) (ch_rts hb8) (cp_kI (v := v9) (w1 := w6) (fun Q' hq => s_X1_classOf hp10 hq) ?_)))
    refine cp_aald (t := 29) dX1_invoke_32 rfl rfl h (fun v11 h => ?_)
    obtain ⟨b13, hb12, h⟩ := ch_bd h
    obtain ⟨v14, hp15, h⟩ := ch_bd h
    refine ch_iload_n 1 _ dX1_invoke_33 rfl (ch_iv yX6_method prog_4_method_3_code 4 (some (.object "ClassHouse$Member")) (ci := 6) (q := (RX6, TX6, 8)) (b := b13) (d' := 6) (av := [.int x1]) (rest := [va_rf (some t0)]) (by rw [ch_rs hb12]; rfl) dX1_invoke_34 q1501 q1160 rfl q1161 q1162 can_X6_method (Nat.le_of_ble_eq_true rfl) (ch_hw (Nat.le_of_ble_eq_true rfl)) (ch_rtg hb12) (cp_kR (v := v14) (w1 := w6) (fun Q' hq => s_X6_method hp15 hq) ?_))
    obtain ⟨_, hb16, h⟩ := ch_bd h
    refine ch_iload_n 2 _ dX1_invoke_37 rfl (ch_iv yX1_enter prog_5_method_15_code 4 none (ci := 1) (q := (RX1, TX1, 22)) (b := t0) (d' := 7) (av := [va_rf v14, .int x2]) (rest := []) rfl dX1_invoke_38 q1381 q1383 rfl qs73 q1384 can_X1_enter (Nat.le_of_ble_eq_true rfl) (Nat.le_of_ble_eq_true rfl) (ch_rts hb16) (cp_tV h (fun p hp Q' hq => s_X1_enter hp hq) (fun w18 h => ?_) (fun a w1 h => ?_)))
    · obtain rfl := Option.some.inj h
      exact ch_return dX1_invoke_41 rfl hk
    · subst h
      exact ch_th rfl hk
  · subst h
    exact ch_th rfl hk

theorem bX1_end_0 : ch_ck cX1_end 0 [42, 27, 181, 0, 96, 42, 3, 181, 0, 81, 42, 3, 181, 0, 78, 177] := ch_ckof (by decide +kernel)
theorem dX1_end_0 : decode cX1_end 0 = .ok (.aload_n 0, 1) := dz_42 (bX1_end_0 0 _ rfl)
theorem dX1_end_1 : decode cX1_end 1 = .ok (.iload_n 1, 1) := dz_27 (bX1_end_0 1 _ rfl)
theorem dX1_end_2 : decode cX1_end 2 = .ok (.putfield 96, 3) := dz_181 (bX1_end_0 2 _ rfl) (bX1_end_0 3 _ rfl) (bX1_end_0 4 _ rfl)
theorem dX1_end_5 : decode cX1_end 5 = .ok (.aload_n 0, 1) := dz_42 (bX1_end_0 5 _ rfl)
theorem dX1_end_6 : decode cX1_end 6 = .ok (.iconst 0, 1) := dz_3 (bX1_end_0 6 _ rfl)
theorem dX1_end_7 : decode cX1_end 7 = .ok (.putfield 81, 3) := dz_181 (bX1_end_0 7 _ rfl) (bX1_end_0 8 _ rfl) (bX1_end_0 9 _ rfl)
theorem dX1_end_10 : decode cX1_end 10 = .ok (.aload_n 0, 1) := dz_42 (bX1_end_0 10 _ rfl)
theorem dX1_end_11 : decode cX1_end 11 = .ok (.iconst 0, 1) := dz_3 (bX1_end_0 11 _ rfl)
theorem dX1_end_12 : decode cX1_end 12 = .ok (.putfield 78, 3) := dz_181 (bX1_end_0 12 _ rfl) (bX1_end_0 13 _ rfl) (bX1_end_0 14 _ rfl)
theorem dX1_end_15 : decode cX1_end 15 = .ok (.return_, 1) := dz_177 (bX1_end_0 15 _ rfl)
def c_X1_end (t0 : Nat) (x1 : Int32) (w : ch_W) : Option (ch_W) := (ch_pI w (some t0) 2 fX1_ended x1).bind fun w1 => (ch_pI w1 (some t0) 2 fX1_open 0).bind fun w2 => (ch_pI w2 (some t0) 2 fX1_top 0).bind fun w3 => some (w3)
theorem s_X1_end {g : State} {t0 : Nat} {x1 : Int32} {w : ch_W} {res : ch_W} {Q : Outcome → ch_W → Prop} (h : c_X1_end t0 x1 w = some res) (hk : (ch_eV Q) res) : ch_CT g true yX1_end 2 [.ref t0, .int x1] (w) Q := by
  unfold c_X1_end at h
  refine ch_ctL mX1_end (ls := [some (va_rf (some t0)), some (.int x1)]) q1509 rfl (ch_lyr (r := some t0) (ch_lyi ch_ly0)) (Nat.le_of_ble_eq_true rfl) rfl ?_
  refine ch_aload_n 0 (some t0) dX1_end_0 rfl (ch_iload_n 1 _ dX1_end_1 rfl (cp_pI (ci := 1) (k := 19) dX1_end_2 fl_X1_96 rfl rfl rfl h (fun w1 h => ?_)))
  refine ch_aload_n 0 (some t0) dX1_end_5 rfl (ch_iconst _ 0 dX1_end_6 rfl (cp_pI (ci := 1) (k := 10) dX1_end_7 fl_X1_81 rfl rfl rfl h (fun w2 h => ?_)))
  refine ch_aload_n 0 (some t0) dX1_end_10 rfl (ch_iconst _ 0 dX1_end_11 rfl (cp_pI (ci := 1) (k := 6) dX1_end_12 fl_X1_78 rfl rfl rfl h (fun w3 h => ?_)))
  obtain rfl := Option.some.inj h
  exact ch_return dX1_end_15 rfl hk

theorem bX1_gives_0 : ch_ck cX1_gives 0 [27, 153, 0, 10, 42, 182, 0, 190, 167, 0, 4, 9, 65, 42, 182, 0] := ch_ckof (by decide +kernel)
theorem bX1_gives_1 : ch_ck cX1_gives 16 [237, 42, 180, 0, 81, 154, 0, 17, 42, 32, 184, 0, 194, 181, 0, 99] := ch_ckof (by decide +kernel)
theorem bX1_gives_2 : ch_ck cX1_gives 32 [42, 4, 182, 0, 221, 177, 27, 153, 0, 8, 42, 32, 182, 0, 108, 42] := ch_ckof (by decide +kernel)
theorem bX1_gives_3 : ch_ck cX1_gives 48 [182, 0, 247, 177] := ch_ckof (by decide +kernel)
theorem dX1_gives_0 : decode cX1_gives 0 = .ok (.iload_n 1, 1) := dz_27 (bX1_gives_0 0 _ rfl)
theorem dX1_gives_1 : decode cX1_gives 1 = .ok (.ifCond .eq 10, 3) := dz_153 (bX1_gives_0 1 _ rfl) (bX1_gives_0 2 _ rfl) (bX1_gives_0 3 _ rfl)
theorem dX1_gives_4 : decode cX1_gives 4 = .ok (.aload_n 0, 1) := dz_42 (bX1_gives_0 4 _ rfl)
theorem dX1_gives_5 : decode cX1_gives 5 = .ok (.invokevirtual 190, 3) := dz_182 (bX1_gives_0 5 _ rfl) (bX1_gives_0 6 _ rfl) (bX1_gives_0 7 _ rfl)
theorem dX1_gives_8 : decode cX1_gives 8 = .ok (.goto 4, 3) := dz_167 (bX1_gives_0 8 _ rfl) (bX1_gives_0 9 _ rfl) (bX1_gives_0 10 _ rfl)
theorem dX1_gives_11 : decode cX1_gives 11 = .ok (.lconst 0, 1) := dz_9 (bX1_gives_0 11 _ rfl)
theorem dX1_gives_12 : decode cX1_gives 12 = .ok (.lstore_n 2, 1) := dz_65 (bX1_gives_0 12 _ rfl)
theorem dX1_gives_13 : decode cX1_gives 13 = .ok (.aload_n 0, 1) := dz_42 (bX1_gives_0 13 _ rfl)
theorem dX1_gives_14 : decode cX1_gives 14 = .ok (.invokevirtual 237, 3) := dz_182 (bX1_gives_0 14 _ rfl) (bX1_gives_0 15 _ rfl) (bX1_gives_1 0 _ rfl)
theorem dX1_gives_17 : decode cX1_gives 17 = .ok (.aload_n 0, 1) := dz_42 (bX1_gives_1 1 _ rfl)
theorem dX1_gives_18 : decode cX1_gives 18 = .ok (.getfield 81, 3) := dz_180 (bX1_gives_1 2 _ rfl) (bX1_gives_1 3 _ rfl) (bX1_gives_1 4 _ rfl)
theorem dX1_gives_21 : decode cX1_gives 21 = .ok (.ifCond .ne 17, 3) := dz_154 (bX1_gives_1 5 _ rfl) (bX1_gives_1 6 _ rfl) (bX1_gives_1 7 _ rfl)
theorem dX1_gives_24 : decode cX1_gives 24 = .ok (.aload_n 0, 1) := dz_42 (bX1_gives_1 8 _ rfl)
theorem dX1_gives_25 : decode cX1_gives 25 = .ok (.lload_n 2, 1) := dz_32 (bX1_gives_1 9 _ rfl)
theorem dX1_gives_26 : decode cX1_gives 26 = .ok (.invokestatic 194, 3) := dz_184 (bX1_gives_1 10 _ rfl) (bX1_gives_1 11 _ rfl) (bX1_gives_1 12 _ rfl)
theorem dX1_gives_29 : decode cX1_gives 29 = .ok (.putfield 99, 3) := dz_181 (bX1_gives_1 13 _ rfl) (bX1_gives_1 14 _ rfl) (bX1_gives_1 15 _ rfl)
theorem dX1_gives_32 : decode cX1_gives 32 = .ok (.aload_n 0, 1) := dz_42 (bX1_gives_2 0 _ rfl)
theorem dX1_gives_33 : decode cX1_gives 33 = .ok (.iconst 1, 1) := dz_4 (bX1_gives_2 1 _ rfl)
theorem dX1_gives_34 : decode cX1_gives 34 = .ok (.invokevirtual 221, 3) := dz_182 (bX1_gives_2 2 _ rfl) (bX1_gives_2 3 _ rfl) (bX1_gives_2 4 _ rfl)
theorem dX1_gives_37 : decode cX1_gives 37 = .ok (.return_, 1) := dz_177 (bX1_gives_2 5 _ rfl)
theorem dX1_gives_38 : decode cX1_gives 38 = .ok (.iload_n 1, 1) := dz_27 (bX1_gives_2 6 _ rfl)
theorem dX1_gives_39 : decode cX1_gives 39 = .ok (.ifCond .eq 8, 3) := dz_153 (bX1_gives_2 7 _ rfl) (bX1_gives_2 8 _ rfl) (bX1_gives_2 9 _ rfl)
theorem dX1_gives_42 : decode cX1_gives 42 = .ok (.aload_n 0, 1) := dz_42 (bX1_gives_2 10 _ rfl)
theorem dX1_gives_43 : decode cX1_gives 43 = .ok (.lload_n 2, 1) := dz_32 (bX1_gives_2 11 _ rfl)
theorem dX1_gives_44 : decode cX1_gives 44 = .ok (.invokevirtual 108, 3) := dz_182 (bX1_gives_2 12 _ rfl) (bX1_gives_2 13 _ rfl) (bX1_gives_2 14 _ rfl)
theorem dX1_gives_47 : decode cX1_gives 47 = .ok (.aload_n 0, 1) := dz_42 (bX1_gives_2 15 _ rfl)
theorem dX1_gives_48 : decode cX1_gives 48 = .ok (.invokevirtual 247, 3) := dz_182 (bX1_gives_3 0 _ rfl) (bX1_gives_3 1 _ rfl) (bX1_gives_3 2 _ rfl)
theorem dX1_gives_51 : decode cX1_gives 51 = .ok (.return_, 1) := dz_177 (bX1_gives_3 3 _ rfl)
def c_X1_gives_47 (t0 : Nat)   (w : ch_W) : Option (ch_W) := (ch_rc w (some t0) 2).bind fun _ => (c_X1_goOn t0 w).bind fun p2 => some (p2)
theorem s_X1_gives_47 {g : State} {t0 : Nat} {w : ch_W} {res : ch_W} {Q : Outcome → ch_W → Prop} (h : c_X1_gives_47 t0 w = some res) (hk : (ch_eV Q) res) : ch_FT g true mX1_gives 3 47 [some (va_rf (some t0)), none, none, none] [] (w) Q := by
  unfold c_X1_gives_47 at h
  obtain ⟨_, hb1, h⟩ := ch_bd h
  obtain ⟨p2, hp3, h⟩ := ch_bd h
  refine ch_aload_n 0 (some t0) dX1_gives_47 rfl (ch_iv yX1_goOn prog_5_method_25_code 1 none (ci := 1) (q := (RX1, TX1, 22)) (b := t0) (d' := 2) (av := []) (rest := []) rfl dX1_gives_48 q1398 q1400 rfl qs77 q1401 can_X1_goOn (Nat.le_of_ble_eq_true rfl) (Nat.le_of_ble_eq_true rfl) (ch_rts hb1) (cp_kV (w1 := p2) (fun Q' hq => s_X1_goOn hp3 hq) ?_))
  obtain rfl := Option.some.inj h
  exact ch_return dX1_gives_51 rfl hk

def c_X1_gives_12 (t0 : Nat) (x1 : Int32) (y0 : Int64) (w : ch_W) : Option (ch_W) := (ch_rc w (some t0) 2).bind fun _ => (c_X1_leave t0 w).bind fun p2 => (ch_gI p2 (some t0) 2 fX1_open).bind fun v4 => if v4 = 0 then ((c_X0_numberOf y0 p2).bind fun v8 => (ch_pI p2 (some t0) 2 fX1_result v8).bind fun w10 => (ch_rc w10 (some t0) 2).bind fun _ => (c_X1_end t0 1 w10).bind fun p12 => some (p12)) else (if x1 = 0 then (c_X1_gives_47 t0 p2) else ((ch_rc p2 (some t0) 2).bind fun _ => (c_X1_push t0 y0 p2).bind fun p6 => c_X1_gives_47 t0 p6))
theorem s_X1_gives_12 {g : State} {t0 : Nat} {x1 : Int32} {y0 : Int64} {w : ch_W} {res : ch_W} {Q : Outcome → ch_W → Prop} (h : c_X1_gives_12 t0 x1 y0 w = some res) (hk : (ch_eV Q) res) : ch_FT g true mX1_gives 3 12 [some (va_rf (some t0)), some (.int x1), none, none] [.long y0] (w) Q := by
  unfold c_X1_gives_12 at h
  obtain ⟨_, hb1, h⟩ := ch_bd h
  obtain ⟨p2, hp3, h⟩ := ch_bd h
  refine ch_lstore_n 2 _ (ls1 := [some (va_rf (some t0)), some (.int x1), some (.long y0), none]) dX1_gives_12 (Nat.le_of_ble_eq_true rfl) rfl (ch_aload_n 0 (some t0) dX1_gives_13 rfl (ch_iv yX1_leave prog_5_method_16_code 1 none (ci := 1) (q := (RX1, TX1, 22)) (b := t0) (d' := 2) (av := []) (rest := []) rfl dX1_gives_14 q1394 q1396 rfl qs76 q1397 can_X1_leave (Nat.le_of_ble_eq_true rfl) (Nat.le_of_ble_eq_true rfl) (ch_rts hb1) (cp_kV (w1 := p2) (fun Q' hq => s_X1_leave hp3 hq) ?_)))
  refine ch_aload_n 0 (some t0) dX1_gives_17 rfl (cp_gI (ci := 1) (k := 10) dX1_gives_18 fl_X1_81 rfl h (fun v4 h => ?_))
  refine cp_if_ne _ (tgt := 38) dX1_gives_21 rfl h (fun h => ?_) (fun h => ?_)
  · refine ch_iload_n 1 _ dX1_gives_38 rfl (cp_if_eq _ (tgt := 47) dX1_gives_39 rfl h (fun h => ?_) (fun h => ?_))
    · exact ch_FT.wk (ch_wS (ch_wN (ch_wN (ch_wN ch_w0)))) (s_X1_gives_47  h hk)
    · obtain ⟨_, hb5, h⟩ := ch_bd h
      obtain ⟨p6, hp7, h⟩ := ch_bd h
      refine ch_aload_n 0 (some t0) dX1_gives_42 rfl (ch_lload_n 2 _ dX1_gives_43 rfl (ch_iv yX1_push prog_5_method_12_code 3 none (ci := 1) (q := (RX1, TX1, 22)) (b := t0) (d' := 2) (av := [.long y0]) (rest := []) rfl dX1_gives_44 q1377 q1379 rfl qs72 q1380 can_X1_push (Nat.le_of_ble_eq_true rfl) (Nat.le_of_ble_eq_true rfl) (ch_rts hb5) (cp_kV (w1 := p6) (fun Q' hq => s_X1_push hp7 hq) ?_)))
      exact ch_FT.wk (ch_wS (ch_wN (ch_wN (ch_wN ch_w0)))) (s_X1_gives_47  h hk)
  · obtain ⟨v8, hp9, h⟩ := ch_bd h
    refine ch_aload_n 0 (some t0) dX1_gives_24 rfl (ch_lload_n 2 _ dX1_gives_25 rfl (ch_isT yX0_numberOf prog_1_method_5_code 2 (some .int) (d' := 2) (av := [.long y0]) (rest := [va_rf (some t0)]) rfl dX1_gives_26 q1449 q1450 q200 q1451 can_X0_numberOf (Nat.le_of_ble_eq_true rfl) (ch_hw (Nat.le_of_ble_eq_true rfl)) (cp_kI (v := v8) (w1 := p2) (fun Q' hq => s_X0_numberOf hp9 hq) ?_)))
    refine cp_pI (ci := 1) (k := 20) dX1_gives_29 fl_X1_99 rfl rfl rfl h (fun w10 h => ?_)
    obtain ⟨_, hb11, h⟩ := ch_bd h
    obtain ⟨p12, hp13, h⟩ := ch_bd h
    refine ch_aload_n 0 (some t0) dX1_gives_32 rfl (ch_iconst _ 1 dX1_gives_33 rfl (ch_iv yX1_end prog_5_method_21_code 2 none (ci := 1) (q := (RX1, TX1, 22)) (b := t0) (d' := 2) (av := [.int 1]) (rest := []) rfl dX1_gives_34 q1506 q1508 rfl qs100 q1509 can_X1_end (Nat.le_of_ble_eq_true rfl) (Nat.le_of_ble_eq_true rfl) (ch_rts hb11) (cp_kV (w1 := p12) (fun Q' hq => s_X1_end hp13 hq) ?_)))
    obtain rfl := Option.some.inj h
    exact ch_return dX1_gives_37 rfl hk

def c_X1_gives (t0 : Nat) (x1 : Int32) (w : ch_W) : Option (ch_W) := if x1 = 0 then (c_X1_gives_12 t0 x1 0 w) else ((ch_rc w (some t0) 2).bind fun _ => (c_X1_pop t0 w).bind fun p2 => c_X1_gives_12 t0 x1 p2.1 p2.2)
theorem s_X1_gives {g : State} {t0 : Nat} {x1 : Int32} {w : ch_W} {res : ch_W} {Q : Outcome → ch_W → Prop} (h : c_X1_gives t0 x1 w = some res) (hk : (ch_eV Q) res) : ch_CT g true yX1_gives 3 [.ref t0, .int x1] (w) Q := by
  unfold c_X1_gives at h
  refine ch_ctL mX1_gives (ls := [some (va_rf (some t0)), some (.int x1), none, none]) q1505 rfl (ch_lyr (r := some t0) (ch_lyi ch_ly0)) (Nat.le_of_ble_eq_true rfl) rfl ?_
  refine ch_iload_n 1 _ dX1_gives_0 rfl (cp_if_eq _ (tgt := 11) dX1_gives_1 rfl h (fun h => ?_) (fun h => ?_))
  · exact ch_lconst _ 0 dX1_gives_11 rfl (ch_FT.wk (ch_wS (ch_wS (ch_wN (ch_wN ch_w0)))) (s_X1_gives_12  h hk))
  · obtain ⟨_, hb1, h⟩ := ch_bd h
    obtain ⟨p2, hp3, h⟩ := ch_bd h
    refine ch_aload_n 0 (some t0) dX1_gives_4 rfl (ch_iv yX1_pop prog_5_method_13_code 1 (some .long) (ci := 1) (q := (RX1, TX1, 22)) (b := t0) (d' := 2) (av := []) (rest := []) rfl dX1_gives_5 q1425 q1427 rfl qs81 q1428 can_X1_pop (Nat.le_of_ble_eq_true rfl) (Nat.le_of_ble_eq_true rfl) (ch_rts hb1) (cp_kL (v := p2.1) (w1 := p2.2) (fun Q' hq => s_X1_pop hp3 hq) ?_))
    exact ch_goto 12 dX1_gives_8 rfl (ch_FT.wk (ch_wS (ch_wS (ch_wN (ch_wN ch_w0)))) (s_X1_gives_12  h hk))

theorem bX1_goes_0 : ch_ck cX1_goes 0 [28, 4, 96, 54, 4, 43, 28, 182, 0, 231, 170, 0, 0, 0, 1, 60] := ch_ckof (by decide +kernel)
theorem bX1_goes_1 : ch_ck cX1_goes 16 [0, 0, 0, 16, 0, 0, 0, 27, 0, 0, 0, 62, 0, 0, 0, 62] := ch_ckof (by decide +kernel)
theorem bX1_goes_2 : ch_ck cX1_goes 32 [0, 0, 1, 47, 0, 0, 0, 166, 0, 0, 0, 194, 0, 0, 0, 221] := ch_ckof (by decide +kernel)
theorem bX1_goes_3 : ch_ck cX1_goes 48 [0, 0, 0, 252, 0, 0, 0, 146, 0, 0, 1, 60, 0, 0, 1, 60] := ch_ckof (by decide +kernel)
theorem bX1_goes_4 : ch_ck cX1_goes 64 [0, 0, 1, 14, 0, 0, 1, 3, 42, 180, 0, 19, 42, 180, 0, 78] := ch_ckof (by decide +kernel)
theorem bX1_goes_5 : ch_ck cX1_goes 80 [4, 100, 47, 184, 0, 194, 4, 160, 0, 7, 4, 167, 0, 4, 3, 43] := ch_ckof (by decide +kernel)
theorem bX1_goes_6 : ch_ck cX1_goes 96 [28, 182, 0, 231, 16, 16, 160, 0, 7, 4, 167, 0, 4, 3, 160, 0] := ch_ckof (by decide +kernel)
theorem bX1_goes_7 : ch_ck cX1_goes 112 [7, 4, 167, 0, 4, 3, 54, 5, 42, 89, 180, 0, 78, 21, 5, 153] := ch_ckof (by decide +kernel)
theorem bX1_goes_8 : ch_ck cX1_goes 128 [0, 7, 4, 167, 0, 4, 3, 100, 181, 0, 78, 21, 5, 153, 0, 9] := ch_ckof (by decide +kernel)
theorem bX1_goes_9 : ch_ck cX1_goes 144 [28, 5, 96, 167, 0, 4, 29, 54, 4, 167, 0, 193, 42, 182, 1, 15] := ch_ckof (by decide +kernel)
theorem bX1_goes_10 : ch_ck cX1_goes 160 [4, 160, 0, 9, 28, 5, 96, 167, 0, 4, 29, 54, 4, 167, 0, 173] := ch_ckof (by decide +kernel)
theorem bX1_goes_11 : ch_ck cX1_goes 176 [42, 180, 0, 19, 42, 180, 0, 32, 42, 180, 0, 81, 4, 100, 46, 29] := ch_ckof (by decide +kernel)
theorem bX1_goes_12 : ch_ck cX1_goes 192 [96, 42, 182, 0, 190, 80, 132, 4, 1, 167, 0, 145, 42, 180, 0, 9] := ch_ckof (by decide +kernel)
theorem bX1_goes_13 : ch_ck cX1_goes 208 [42, 3, 182, 0, 250, 184, 0, 172, 5, 96, 29, 96, 42, 182, 0, 190] := ch_ckof (by decide +kernel)
theorem bX1_goes_14 : ch_ck cX1_goes 224 [80, 132, 4, 1, 167, 0, 118, 42, 182, 0, 190, 55, 6, 42, 180, 0] := ch_ckof (by decide +kernel)
theorem bX1_goes_15 : ch_ck cX1_goes 240 [9, 42, 42, 182, 0, 190, 182, 1, 3, 5, 96, 29, 96, 22, 6, 80] := ch_ckof (by decide +kernel)
theorem bX1_goes_16 : ch_ck cX1_goes 256 [132, 4, 1, 167, 0, 87, 42, 182, 1, 25, 167, 0, 80, 42, 42, 182] := ch_ckof (by decide +kernel)
theorem bX1_goes_17 : ch_ck cX1_goes 272 [1, 15, 182, 1, 28, 167, 0, 69, 42, 182, 0, 190, 55, 8, 22, 8] := ch_ckof (by decide +kernel)
theorem bX1_goes_18 : ch_ck cX1_goes 288 [184, 0, 172, 2, 160, 0, 11, 42, 3, 182, 0, 164, 167, 0, 12, 42] := ch_ckof (by decide +kernel)
theorem bX1_goes_19 : ch_ck cX1_goes 304 [180, 0, 44, 22, 8, 182, 0, 52, 191, 42, 29, 43, 28, 5, 96, 182] := ch_ckof (by decide +kernel)
theorem bX1_goes_20 : ch_ck cX1_goes 320 [0, 231, 182, 1, 31, 177, 42, 43, 28, 182, 0, 231, 16, 24, 160, 0] := ch_ckof (by decide +kernel)
theorem bX1_goes_21 : ch_ck cX1_goes 336 [7, 4, 167, 0, 4, 3, 182, 1, 35, 177, 42, 180, 0, 28, 42, 180] := ch_ckof (by decide +kernel)
theorem bX1_goes_22 : ch_ck cX1_goes 352 [0, 81, 4, 100, 21, 4, 79, 177] := ch_ckof (by decide +kernel)
theorem dX1_goes_0 : decode cX1_goes 0 = .ok (.iload_n 2, 1) := dz_28 (bX1_goes_0 0 _ rfl)
theorem dX1_goes_1 : decode cX1_goes 1 = .ok (.iconst 1, 1) := dz_4 (bX1_goes_0 1 _ rfl)
theorem dX1_goes_2 : decode cX1_goes 2 = .ok (.iadd, 1) := dz_96 (bX1_goes_0 2 _ rfl)
theorem dX1_goes_3 : decode cX1_goes 3 = .ok (.istore 4, 2) := dz_54 (bX1_goes_0 3 _ rfl) (bX1_goes_0 4 _ rfl)
theorem dX1_goes_5 : decode cX1_goes 5 = .ok (.aload_n 1, 1) := dz_43 (bX1_goes_0 5 _ rfl)
theorem dX1_goes_6 : decode cX1_goes 6 = .ok (.iload_n 2, 1) := dz_28 (bX1_goes_0 6 _ rfl)
theorem dX1_goes_7 : decode cX1_goes 7 = .ok (.invokevirtual 231, 3) := dz_182 (bX1_goes_0 7 _ rfl) (bX1_goes_0 8 _ rfl) (bX1_goes_0 9 _ rfl)
theorem dX1_goes_10 : decode cX1_goes 10 = .ok (.tableswitch 316 16 27 #[62, 62, 303, 166, 194, 221, 252, 146, 316, 316, 270, 259], 62) := by decide +kernel
theorem dX1_goes_72 : decode cX1_goes 72 = .ok (.aload_n 0, 1) := dz_42 (bX1_goes_4 8 _ rfl)
theorem dX1_goes_73 : decode cX1_goes 73 = .ok (.getfield 19, 3) := dz_180 (bX1_goes_4 9 _ rfl) (bX1_goes_4 10 _ rfl) (bX1_goes_4 11 _ rfl)
theorem dX1_goes_76 : decode cX1_goes 76 = .ok (.aload_n 0, 1) := dz_42 (bX1_goes_4 12 _ rfl)
theorem dX1_goes_77 : decode cX1_goes 77 = .ok (.getfield 78, 3) := dz_180 (bX1_goes_4 13 _ rfl) (bX1_goes_4 14 _ rfl) (bX1_goes_4 15 _ rfl)
theorem dX1_goes_80 : decode cX1_goes 80 = .ok (.iconst 1, 1) := dz_4 (bX1_goes_5 0 _ rfl)
theorem dX1_goes_81 : decode cX1_goes 81 = .ok (.isub, 1) := dz_100 (bX1_goes_5 1 _ rfl)
theorem dX1_goes_82 : decode cX1_goes 82 = .ok (.laload, 1) := dz_47 (bX1_goes_5 2 _ rfl)
theorem dX1_goes_83 : decode cX1_goes 83 = .ok (.invokestatic 194, 3) := dz_184 (bX1_goes_5 3 _ rfl) (bX1_goes_5 4 _ rfl) (bX1_goes_5 5 _ rfl)
theorem dX1_goes_86 : decode cX1_goes 86 = .ok (.iconst 1, 1) := dz_4 (bX1_goes_5 6 _ rfl)
theorem dX1_goes_87 : decode cX1_goes 87 = .ok (.if_icmp .ne 7, 3) := dz_160 (bX1_goes_5 7 _ rfl) (bX1_goes_5 8 _ rfl) (bX1_goes_5 9 _ rfl)
theorem dX1_goes_90 : decode cX1_goes 90 = .ok (.iconst 1, 1) := dz_4 (bX1_goes_5 10 _ rfl)
theorem dX1_goes_91 : decode cX1_goes 91 = .ok (.goto 4, 3) := dz_167 (bX1_goes_5 11 _ rfl) (bX1_goes_5 12 _ rfl) (bX1_goes_5 13 _ rfl)
theorem dX1_goes_94 : decode cX1_goes 94 = .ok (.iconst 0, 1) := dz_3 (bX1_goes_5 14 _ rfl)
theorem dX1_goes_95 : decode cX1_goes 95 = .ok (.aload_n 1, 1) := dz_43 (bX1_goes_5 15 _ rfl)
theorem dX1_goes_96 : decode cX1_goes 96 = .ok (.iload_n 2, 1) := dz_28 (bX1_goes_6 0 _ rfl)
theorem dX1_goes_97 : decode cX1_goes 97 = .ok (.invokevirtual 231, 3) := dz_182 (bX1_goes_6 1 _ rfl) (bX1_goes_6 2 _ rfl) (bX1_goes_6 3 _ rfl)
theorem dX1_goes_100 : decode cX1_goes 100 = .ok (.bipush 16, 2) := dz_16 (bX1_goes_6 4 _ rfl) (bX1_goes_6 5 _ rfl)
theorem dX1_goes_102 : decode cX1_goes 102 = .ok (.if_icmp .ne 7, 3) := dz_160 (bX1_goes_6 6 _ rfl) (bX1_goes_6 7 _ rfl) (bX1_goes_6 8 _ rfl)
theorem dX1_goes_105 : decode cX1_goes 105 = .ok (.iconst 1, 1) := dz_4 (bX1_goes_6 9 _ rfl)
theorem dX1_goes_106 : decode cX1_goes 106 = .ok (.goto 4, 3) := dz_167 (bX1_goes_6 10 _ rfl) (bX1_goes_6 11 _ rfl) (bX1_goes_6 12 _ rfl)
theorem dX1_goes_109 : decode cX1_goes 109 = .ok (.iconst 0, 1) := dz_3 (bX1_goes_6 13 _ rfl)
theorem dX1_goes_110 : decode cX1_goes 110 = .ok (.if_icmp .ne 7, 3) := dz_160 (bX1_goes_6 14 _ rfl) (bX1_goes_6 15 _ rfl) (bX1_goes_7 0 _ rfl)
theorem dX1_goes_113 : decode cX1_goes 113 = .ok (.iconst 1, 1) := dz_4 (bX1_goes_7 1 _ rfl)
theorem dX1_goes_114 : decode cX1_goes 114 = .ok (.goto 4, 3) := dz_167 (bX1_goes_7 2 _ rfl) (bX1_goes_7 3 _ rfl) (bX1_goes_7 4 _ rfl)
theorem dX1_goes_117 : decode cX1_goes 117 = .ok (.iconst 0, 1) := dz_3 (bX1_goes_7 5 _ rfl)
theorem dX1_goes_118 : decode cX1_goes 118 = .ok (.istore 5, 2) := dz_54 (bX1_goes_7 6 _ rfl) (bX1_goes_7 7 _ rfl)
theorem dX1_goes_120 : decode cX1_goes 120 = .ok (.aload_n 0, 1) := dz_42 (bX1_goes_7 8 _ rfl)
theorem dX1_goes_121 : decode cX1_goes 121 = .ok (.dup, 1) := dz_89 (bX1_goes_7 9 _ rfl)
theorem dX1_goes_122 : decode cX1_goes 122 = .ok (.getfield 78, 3) := dz_180 (bX1_goes_7 10 _ rfl) (bX1_goes_7 11 _ rfl) (bX1_goes_7 12 _ rfl)
theorem dX1_goes_125 : decode cX1_goes 125 = .ok (.iload 5, 2) := dz_21 (bX1_goes_7 13 _ rfl) (bX1_goes_7 14 _ rfl)
theorem dX1_goes_127 : decode cX1_goes 127 = .ok (.ifCond .eq 7, 3) := dz_153 (bX1_goes_7 15 _ rfl) (bX1_goes_8 0 _ rfl) (bX1_goes_8 1 _ rfl)
theorem dX1_goes_130 : decode cX1_goes 130 = .ok (.iconst 1, 1) := dz_4 (bX1_goes_8 2 _ rfl)
theorem dX1_goes_131 : decode cX1_goes 131 = .ok (.goto 4, 3) := dz_167 (bX1_goes_8 3 _ rfl) (bX1_goes_8 4 _ rfl) (bX1_goes_8 5 _ rfl)
theorem dX1_goes_134 : decode cX1_goes 134 = .ok (.iconst 0, 1) := dz_3 (bX1_goes_8 6 _ rfl)
theorem dX1_goes_135 : decode cX1_goes 135 = .ok (.isub, 1) := dz_100 (bX1_goes_8 7 _ rfl)
theorem dX1_goes_136 : decode cX1_goes 136 = .ok (.putfield 78, 3) := dz_181 (bX1_goes_8 8 _ rfl) (bX1_goes_8 9 _ rfl) (bX1_goes_8 10 _ rfl)
theorem dX1_goes_139 : decode cX1_goes 139 = .ok (.iload 5, 2) := dz_21 (bX1_goes_8 11 _ rfl) (bX1_goes_8 12 _ rfl)
theorem dX1_goes_141 : decode cX1_goes 141 = .ok (.ifCond .eq 9, 3) := dz_153 (bX1_goes_8 13 _ rfl) (bX1_goes_8 14 _ rfl) (bX1_goes_8 15 _ rfl)
theorem dX1_goes_144 : decode cX1_goes 144 = .ok (.iload_n 2, 1) := dz_28 (bX1_goes_9 0 _ rfl)
theorem dX1_goes_145 : decode cX1_goes 145 = .ok (.iconst 2, 1) := dz_5 (bX1_goes_9 1 _ rfl)
theorem dX1_goes_146 : decode cX1_goes 146 = .ok (.iadd, 1) := dz_96 (bX1_goes_9 2 _ rfl)
theorem dX1_goes_147 : decode cX1_goes 147 = .ok (.goto 4, 3) := dz_167 (bX1_goes_9 3 _ rfl) (bX1_goes_9 4 _ rfl) (bX1_goes_9 5 _ rfl)
theorem dX1_goes_150 : decode cX1_goes 150 = .ok (.iload_n 3, 1) := dz_29 (bX1_goes_9 6 _ rfl)
theorem dX1_goes_151 : decode cX1_goes 151 = .ok (.istore 4, 2) := dz_54 (bX1_goes_9 7 _ rfl) (bX1_goes_9 8 _ rfl)
theorem dX1_goes_153 : decode cX1_goes 153 = .ok (.goto 193, 3) := dz_167 (bX1_goes_9 9 _ rfl) (bX1_goes_9 10 _ rfl) (bX1_goes_9 11 _ rfl)
theorem dX1_goes_156 : decode cX1_goes 156 = .ok (.aload_n 0, 1) := dz_42 (bX1_goes_9 12 _ rfl)
theorem dX1_goes_157 : decode cX1_goes 157 = .ok (.invokevirtual 271, 3) := dz_182 (bX1_goes_9 13 _ rfl) (bX1_goes_9 14 _ rfl) (bX1_goes_9 15 _ rfl)
theorem dX1_goes_160 : decode cX1_goes 160 = .ok (.iconst 1, 1) := dz_4 (bX1_goes_10 0 _ rfl)
theorem dX1_goes_161 : decode cX1_goes 161 = .ok (.if_icmp .ne 9, 3) := dz_160 (bX1_goes_10 1 _ rfl) (bX1_goes_10 2 _ rfl) (bX1_goes_10 3 _ rfl)
theorem dX1_goes_164 : decode cX1_goes 164 = .ok (.iload_n 2, 1) := dz_28 (bX1_goes_10 4 _ rfl)
theorem dX1_goes_165 : decode cX1_goes 165 = .ok (.iconst 2, 1) := dz_5 (bX1_goes_10 5 _ rfl)
theorem dX1_goes_166 : decode cX1_goes 166 = .ok (.iadd, 1) := dz_96 (bX1_goes_10 6 _ rfl)
theorem dX1_goes_167 : decode cX1_goes 167 = .ok (.goto 4, 3) := dz_167 (bX1_goes_10 7 _ rfl) (bX1_goes_10 8 _ rfl) (bX1_goes_10 9 _ rfl)
theorem dX1_goes_170 : decode cX1_goes 170 = .ok (.iload_n 3, 1) := dz_29 (bX1_goes_10 10 _ rfl)
theorem dX1_goes_171 : decode cX1_goes 171 = .ok (.istore 4, 2) := dz_54 (bX1_goes_10 11 _ rfl) (bX1_goes_10 12 _ rfl)
theorem dX1_goes_173 : decode cX1_goes 173 = .ok (.goto 173, 3) := dz_167 (bX1_goes_10 13 _ rfl) (bX1_goes_10 14 _ rfl) (bX1_goes_10 15 _ rfl)
theorem dX1_goes_176 : decode cX1_goes 176 = .ok (.aload_n 0, 1) := dz_42 (bX1_goes_11 0 _ rfl)
theorem dX1_goes_177 : decode cX1_goes 177 = .ok (.getfield 19, 3) := dz_180 (bX1_goes_11 1 _ rfl) (bX1_goes_11 2 _ rfl) (bX1_goes_11 3 _ rfl)
theorem dX1_goes_180 : decode cX1_goes 180 = .ok (.aload_n 0, 1) := dz_42 (bX1_goes_11 4 _ rfl)
theorem dX1_goes_181 : decode cX1_goes 181 = .ok (.getfield 32, 3) := dz_180 (bX1_goes_11 5 _ rfl) (bX1_goes_11 6 _ rfl) (bX1_goes_11 7 _ rfl)
theorem dX1_goes_184 : decode cX1_goes 184 = .ok (.aload_n 0, 1) := dz_42 (bX1_goes_11 8 _ rfl)
theorem dX1_goes_185 : decode cX1_goes 185 = .ok (.getfield 81, 3) := dz_180 (bX1_goes_11 9 _ rfl) (bX1_goes_11 10 _ rfl) (bX1_goes_11 11 _ rfl)
theorem dX1_goes_188 : decode cX1_goes 188 = .ok (.iconst 1, 1) := dz_4 (bX1_goes_11 12 _ rfl)
theorem dX1_goes_189 : decode cX1_goes 189 = .ok (.isub, 1) := dz_100 (bX1_goes_11 13 _ rfl)
theorem dX1_goes_190 : decode cX1_goes 190 = .ok (.iaload, 1) := dz_46 (bX1_goes_11 14 _ rfl)
theorem dX1_goes_191 : decode cX1_goes 191 = .ok (.iload_n 3, 1) := dz_29 (bX1_goes_11 15 _ rfl)
theorem dX1_goes_192 : decode cX1_goes 192 = .ok (.iadd, 1) := dz_96 (bX1_goes_12 0 _ rfl)
theorem dX1_goes_193 : decode cX1_goes 193 = .ok (.aload_n 0, 1) := dz_42 (bX1_goes_12 1 _ rfl)
theorem dX1_goes_194 : decode cX1_goes 194 = .ok (.invokevirtual 190, 3) := dz_182 (bX1_goes_12 2 _ rfl) (bX1_goes_12 3 _ rfl) (bX1_goes_12 4 _ rfl)
theorem dX1_goes_197 : decode cX1_goes 197 = .ok (.lastore, 1) := dz_80 (bX1_goes_12 5 _ rfl)
theorem dX1_goes_198 : decode cX1_goes 198 = .ok (.iinc 4 1, 3) := dz_132 (bX1_goes_12 6 _ rfl) (bX1_goes_12 7 _ rfl) (bX1_goes_12 8 _ rfl)
theorem dX1_goes_201 : decode cX1_goes 201 = .ok (.goto 145, 3) := dz_167 (bX1_goes_12 9 _ rfl) (bX1_goes_12 10 _ rfl) (bX1_goes_12 11 _ rfl)
theorem dX1_goes_204 : decode cX1_goes 204 = .ok (.aload_n 0, 1) := dz_42 (bX1_goes_12 12 _ rfl)
theorem dX1_goes_205 : decode cX1_goes 205 = .ok (.getfield 9, 3) := dz_180 (bX1_goes_12 13 _ rfl) (bX1_goes_12 14 _ rfl) (bX1_goes_12 15 _ rfl)
theorem dX1_goes_208 : decode cX1_goes 208 = .ok (.aload_n 0, 1) := dz_42 (bX1_goes_13 0 _ rfl)
theorem dX1_goes_209 : decode cX1_goes 209 = .ok (.iconst 0, 1) := dz_3 (bX1_goes_13 1 _ rfl)
theorem dX1_goes_210 : decode cX1_goes 210 = .ok (.invokevirtual 250, 3) := dz_182 (bX1_goes_13 2 _ rfl) (bX1_goes_13 3 _ rfl) (bX1_goes_13 4 _ rfl)
theorem dX1_goes_213 : decode cX1_goes 213 = .ok (.invokestatic 172, 3) := dz_184 (bX1_goes_13 5 _ rfl) (bX1_goes_13 6 _ rfl) (bX1_goes_13 7 _ rfl)
theorem dX1_goes_216 : decode cX1_goes 216 = .ok (.iconst 2, 1) := dz_5 (bX1_goes_13 8 _ rfl)
theorem dX1_goes_217 : decode cX1_goes 217 = .ok (.iadd, 1) := dz_96 (bX1_goes_13 9 _ rfl)
theorem dX1_goes_218 : decode cX1_goes 218 = .ok (.iload_n 3, 1) := dz_29 (bX1_goes_13 10 _ rfl)
theorem dX1_goes_219 : decode cX1_goes 219 = .ok (.iadd, 1) := dz_96 (bX1_goes_13 11 _ rfl)
theorem dX1_goes_220 : decode cX1_goes 220 = .ok (.aload_n 0, 1) := dz_42 (bX1_goes_13 12 _ rfl)
theorem dX1_goes_221 : decode cX1_goes 221 = .ok (.invokevirtual 190, 3) := dz_182 (bX1_goes_13 13 _ rfl) (bX1_goes_13 14 _ rfl) (bX1_goes_13 15 _ rfl)
theorem dX1_goes_224 : decode cX1_goes 224 = .ok (.lastore, 1) := dz_80 (bX1_goes_14 0 _ rfl)
theorem dX1_goes_225 : decode cX1_goes 225 = .ok (.iinc 4 1, 3) := dz_132 (bX1_goes_14 1 _ rfl) (bX1_goes_14 2 _ rfl) (bX1_goes_14 3 _ rfl)
theorem dX1_goes_228 : decode cX1_goes 228 = .ok (.goto 118, 3) := dz_167 (bX1_goes_14 4 _ rfl) (bX1_goes_14 5 _ rfl) (bX1_goes_14 6 _ rfl)
theorem dX1_goes_231 : decode cX1_goes 231 = .ok (.aload_n 0, 1) := dz_42 (bX1_goes_14 7 _ rfl)
theorem dX1_goes_232 : decode cX1_goes 232 = .ok (.invokevirtual 190, 3) := dz_182 (bX1_goes_14 8 _ rfl) (bX1_goes_14 9 _ rfl) (bX1_goes_14 10 _ rfl)
theorem dX1_goes_235 : decode cX1_goes 235 = .ok (.lstore 6, 2) := dz_55 (bX1_goes_14 11 _ rfl) (bX1_goes_14 12 _ rfl)
theorem dX1_goes_237 : decode cX1_goes 237 = .ok (.aload_n 0, 1) := dz_42 (bX1_goes_14 13 _ rfl)
theorem dX1_goes_238 : decode cX1_goes 238 = .ok (.getfield 9, 3) := dz_180 (bX1_goes_14 14 _ rfl) (bX1_goes_14 15 _ rfl) (bX1_goes_15 0 _ rfl)
theorem dX1_goes_241 : decode cX1_goes 241 = .ok (.aload_n 0, 1) := dz_42 (bX1_goes_15 1 _ rfl)
theorem dX1_goes_242 : decode cX1_goes 242 = .ok (.aload_n 0, 1) := dz_42 (bX1_goes_15 2 _ rfl)
theorem dX1_goes_243 : decode cX1_goes 243 = .ok (.invokevirtual 190, 3) := dz_182 (bX1_goes_15 3 _ rfl) (bX1_goes_15 4 _ rfl) (bX1_goes_15 5 _ rfl)
theorem dX1_goes_246 : decode cX1_goes 246 = .ok (.invokevirtual 259, 3) := dz_182 (bX1_goes_15 6 _ rfl) (bX1_goes_15 7 _ rfl) (bX1_goes_15 8 _ rfl)
theorem dX1_goes_249 : decode cX1_goes 249 = .ok (.iconst 2, 1) := dz_5 (bX1_goes_15 9 _ rfl)
theorem dX1_goes_250 : decode cX1_goes 250 = .ok (.iadd, 1) := dz_96 (bX1_goes_15 10 _ rfl)
theorem dX1_goes_251 : decode cX1_goes 251 = .ok (.iload_n 3, 1) := dz_29 (bX1_goes_15 11 _ rfl)
theorem dX1_goes_252 : decode cX1_goes 252 = .ok (.iadd, 1) := dz_96 (bX1_goes_15 12 _ rfl)
theorem dX1_goes_253 : decode cX1_goes 253 = .ok (.lload 6, 2) := dz_22 (bX1_goes_15 13 _ rfl) (bX1_goes_15 14 _ rfl)
theorem dX1_goes_255 : decode cX1_goes 255 = .ok (.lastore, 1) := dz_80 (bX1_goes_15 15 _ rfl)
theorem dX1_goes_256 : decode cX1_goes 256 = .ok (.iinc 4 1, 3) := dz_132 (bX1_goes_16 0 _ rfl) (bX1_goes_16 1 _ rfl) (bX1_goes_16 2 _ rfl)
theorem dX1_goes_259 : decode cX1_goes 259 = .ok (.goto 87, 3) := dz_167 (bX1_goes_16 3 _ rfl) (bX1_goes_16 4 _ rfl) (bX1_goes_16 5 _ rfl)
theorem dX1_goes_262 : decode cX1_goes 262 = .ok (.aload_n 0, 1) := dz_42 (bX1_goes_16 6 _ rfl)
theorem dX1_goes_263 : decode cX1_goes 263 = .ok (.invokevirtual 281, 3) := dz_182 (bX1_goes_16 7 _ rfl) (bX1_goes_16 8 _ rfl) (bX1_goes_16 9 _ rfl)
theorem dX1_goes_266 : decode cX1_goes 266 = .ok (.goto 80, 3) := dz_167 (bX1_goes_16 10 _ rfl) (bX1_goes_16 11 _ rfl) (bX1_goes_16 12 _ rfl)
theorem dX1_goes_269 : decode cX1_goes 269 = .ok (.aload_n 0, 1) := dz_42 (bX1_goes_16 13 _ rfl)
theorem dX1_goes_270 : decode cX1_goes 270 = .ok (.aload_n 0, 1) := dz_42 (bX1_goes_16 14 _ rfl)
theorem dX1_goes_271 : decode cX1_goes 271 = .ok (.invokevirtual 271, 3) := dz_182 (bX1_goes_16 15 _ rfl) (bX1_goes_17 0 _ rfl) (bX1_goes_17 1 _ rfl)
theorem dX1_goes_274 : decode cX1_goes 274 = .ok (.invokevirtual 284, 3) := dz_182 (bX1_goes_17 2 _ rfl) (bX1_goes_17 3 _ rfl) (bX1_goes_17 4 _ rfl)
theorem dX1_goes_277 : decode cX1_goes 277 = .ok (.goto 69, 3) := dz_167 (bX1_goes_17 5 _ rfl) (bX1_goes_17 6 _ rfl) (bX1_goes_17 7 _ rfl)
theorem dX1_goes_280 : decode cX1_goes 280 = .ok (.aload_n 0, 1) := dz_42 (bX1_goes_17 8 _ rfl)
theorem dX1_goes_281 : decode cX1_goes 281 = .ok (.invokevirtual 190, 3) := dz_182 (bX1_goes_17 9 _ rfl) (bX1_goes_17 10 _ rfl) (bX1_goes_17 11 _ rfl)
theorem dX1_goes_284 : decode cX1_goes 284 = .ok (.lstore 8, 2) := dz_55 (bX1_goes_17 12 _ rfl) (bX1_goes_17 13 _ rfl)
theorem dX1_goes_286 : decode cX1_goes 286 = .ok (.lload 8, 2) := dz_22 (bX1_goes_17 14 _ rfl) (bX1_goes_17 15 _ rfl)
theorem dX1_goes_288 : decode cX1_goes 288 = .ok (.invokestatic 172, 3) := dz_184 (bX1_goes_18 0 _ rfl) (bX1_goes_18 1 _ rfl) (bX1_goes_18 2 _ rfl)
theorem dX1_goes_291 : decode cX1_goes 291 = .ok (.iconst (-1), 1) := dz_2 (bX1_goes_18 3 _ rfl)
theorem dX1_goes_292 : decode cX1_goes 292 = .ok (.if_icmp .ne 11, 3) := dz_160 (bX1_goes_18 4 _ rfl) (bX1_goes_18 5 _ rfl) (bX1_goes_18 6 _ rfl)
theorem dX1_goes_295 : decode cX1_goes 295 = .ok (.aload_n 0, 1) := dz_42 (bX1_goes_18 7 _ rfl)
theorem dX1_goes_296 : decode cX1_goes 296 = .ok (.iconst 0, 1) := dz_3 (bX1_goes_18 8 _ rfl)
theorem dX1_goes_297 : decode cX1_goes 297 = .ok (.invokevirtual 164, 3) := dz_182 (bX1_goes_18 9 _ rfl) (bX1_goes_18 10 _ rfl) (bX1_goes_18 11 _ rfl)
theorem dX1_goes_300 : decode cX1_goes 300 = .ok (.goto 12, 3) := dz_167 (bX1_goes_18 12 _ rfl) (bX1_goes_18 13 _ rfl) (bX1_goes_18 14 _ rfl)
theorem dX1_goes_303 : decode cX1_goes 303 = .ok (.aload_n 0, 1) := dz_42 (bX1_goes_18 15 _ rfl)
theorem dX1_goes_304 : decode cX1_goes 304 = .ok (.getfield 44, 3) := dz_180 (bX1_goes_19 0 _ rfl) (bX1_goes_19 1 _ rfl) (bX1_goes_19 2 _ rfl)
theorem dX1_goes_307 : decode cX1_goes 307 = .ok (.lload 8, 2) := dz_22 (bX1_goes_19 3 _ rfl) (bX1_goes_19 4 _ rfl)
theorem dX1_goes_309 : decode cX1_goes 309 = .ok (.invokevirtual 52, 3) := dz_182 (bX1_goes_19 5 _ rfl) (bX1_goes_19 6 _ rfl) (bX1_goes_19 7 _ rfl)
theorem dX1_goes_312 : decode cX1_goes 312 = .ok (.athrow, 1) := dz_191 (bX1_goes_19 8 _ rfl)
theorem dX1_goes_313 : decode cX1_goes 313 = .ok (.aload_n 0, 1) := dz_42 (bX1_goes_19 9 _ rfl)
theorem dX1_goes_314 : decode cX1_goes 314 = .ok (.iload_n 3, 1) := dz_29 (bX1_goes_19 10 _ rfl)
theorem dX1_goes_315 : decode cX1_goes 315 = .ok (.aload_n 1, 1) := dz_43 (bX1_goes_19 11 _ rfl)
theorem dX1_goes_316 : decode cX1_goes 316 = .ok (.iload_n 2, 1) := dz_28 (bX1_goes_19 12 _ rfl)
theorem dX1_goes_317 : decode cX1_goes 317 = .ok (.iconst 2, 1) := dz_5 (bX1_goes_19 13 _ rfl)
theorem dX1_goes_318 : decode cX1_goes 318 = .ok (.iadd, 1) := dz_96 (bX1_goes_19 14 _ rfl)
theorem dX1_goes_319 : decode cX1_goes 319 = .ok (.invokevirtual 231, 3) := dz_182 (bX1_goes_19 15 _ rfl) (bX1_goes_20 0 _ rfl) (bX1_goes_20 1 _ rfl)
theorem dX1_goes_322 : decode cX1_goes 322 = .ok (.invokevirtual 287, 3) := dz_182 (bX1_goes_20 2 _ rfl) (bX1_goes_20 3 _ rfl) (bX1_goes_20 4 _ rfl)
theorem dX1_goes_325 : decode cX1_goes 325 = .ok (.return_, 1) := dz_177 (bX1_goes_20 5 _ rfl)
theorem dX1_goes_326 : decode cX1_goes 326 = .ok (.aload_n 0, 1) := dz_42 (bX1_goes_20 6 _ rfl)
theorem dX1_goes_327 : decode cX1_goes 327 = .ok (.aload_n 1, 1) := dz_43 (bX1_goes_20 7 _ rfl)
theorem dX1_goes_328 : decode cX1_goes 328 = .ok (.iload_n 2, 1) := dz_28 (bX1_goes_20 8 _ rfl)
theorem dX1_goes_329 : decode cX1_goes 329 = .ok (.invokevirtual 231, 3) := dz_182 (bX1_goes_20 9 _ rfl) (bX1_goes_20 10 _ rfl) (bX1_goes_20 11 _ rfl)
theorem dX1_goes_332 : decode cX1_goes 332 = .ok (.bipush 24, 2) := dz_16 (bX1_goes_20 12 _ rfl) (bX1_goes_20 13 _ rfl)
theorem dX1_goes_334 : decode cX1_goes 334 = .ok (.if_icmp .ne 7, 3) := dz_160 (bX1_goes_20 14 _ rfl) (bX1_goes_20 15 _ rfl) (bX1_goes_21 0 _ rfl)
theorem dX1_goes_337 : decode cX1_goes 337 = .ok (.iconst 1, 1) := dz_4 (bX1_goes_21 1 _ rfl)
theorem dX1_goes_338 : decode cX1_goes 338 = .ok (.goto 4, 3) := dz_167 (bX1_goes_21 2 _ rfl) (bX1_goes_21 3 _ rfl) (bX1_goes_21 4 _ rfl)
theorem dX1_goes_341 : decode cX1_goes 341 = .ok (.iconst 0, 1) := dz_3 (bX1_goes_21 5 _ rfl)
theorem dX1_goes_342 : decode cX1_goes 342 = .ok (.invokevirtual 291, 3) := dz_182 (bX1_goes_21 6 _ rfl) (bX1_goes_21 7 _ rfl) (bX1_goes_21 8 _ rfl)
theorem dX1_goes_345 : decode cX1_goes 345 = .ok (.return_, 1) := dz_177 (bX1_goes_21 9 _ rfl)
theorem dX1_goes_346 : decode cX1_goes 346 = .ok (.aload_n 0, 1) := dz_42 (bX1_goes_21 10 _ rfl)
theorem dX1_goes_347 : decode cX1_goes 347 = .ok (.getfield 28, 3) := dz_180 (bX1_goes_21 11 _ rfl) (bX1_goes_21 12 _ rfl) (bX1_goes_21 13 _ rfl)
theorem dX1_goes_350 : decode cX1_goes 350 = .ok (.aload_n 0, 1) := dz_42 (bX1_goes_21 14 _ rfl)
theorem dX1_goes_351 : decode cX1_goes 351 = .ok (.getfield 81, 3) := dz_180 (bX1_goes_21 15 _ rfl) (bX1_goes_22 0 _ rfl) (bX1_goes_22 1 _ rfl)
theorem dX1_goes_354 : decode cX1_goes 354 = .ok (.iconst 1, 1) := dz_4 (bX1_goes_22 2 _ rfl)
theorem dX1_goes_355 : decode cX1_goes 355 = .ok (.isub, 1) := dz_100 (bX1_goes_22 3 _ rfl)
theorem dX1_goes_356 : decode cX1_goes 356 = .ok (.iload 4, 2) := dz_21 (bX1_goes_22 4 _ rfl) (bX1_goes_22 5 _ rfl)
theorem dX1_goes_358 : decode cX1_goes 358 = .ok (.iastore, 1) := dz_79 (bX1_goes_22 6 _ rfl)
theorem dX1_goes_359 : decode cX1_goes 359 = .ok (.return_, 1) := dz_177 (bX1_goes_22 7 _ rfl)
def c_X1_goes_342 (g : State) (t0 : Nat)  (y0 : Int32) (y1 : Nat) (w : ch_W) : Option (Except Nat Unit × ch_W) := (ch_rc w (some y1) 2).bind fun _ => (c_X1_gives y1 y0 w).bind fun p2 => some ((.ok (), p2))
theorem s_X1_goes_342 {g : State} {t0 : Nat} {y0 : Int32} {y1 : Nat} {w : ch_W} {res : Except Nat Unit × ch_W} {Q : Outcome → ch_W → Prop} (h : c_X1_goes_342 g t0 y0 y1 w = some res) (hk : (ch_xV Q) res) : ch_FT g true mX1_goes 9 342 [none, none, none, none, none, none, none, none, none, none] [.int y0, va_rf (some y1)] (w) Q := by
  unfold c_X1_goes_342 at h
  obtain ⟨_, hb1, h⟩ := ch_bd h
  obtain ⟨p2, hp3, h⟩ := ch_bd h
  refine ch_iv yX1_gives prog_5_method_39_code 4 none (ci := 1) (q := (RX1, TX1, 22)) (b := y1) (d' := 3) (av := [.int y0]) (rest := []) rfl dX1_goes_342 q1502 q1504 rfl qs99 q1505 can_X1_gives (Nat.le_of_ble_eq_true rfl) (Nat.le_of_ble_eq_true rfl) (ch_rts hb1) (cp_kV (w1 := p2) (fun Q' hq => s_X1_gives hp3 hq) ?_)
  obtain rfl := Option.some.inj h
  exact ch_return dX1_goes_345 rfl hk

def c_X1_goes_346 (g : State) (t0 : Nat) (x4 : Int32)  (w : ch_W) : Option (Except Nat Unit × ch_W) := (ch_gR w (some t0) 2 fX1_places).bind fun v1 => (ch_gI w (some t0) 2 fX1_open).bind fun v2 => (ch_wI w v1 21 (v2 - 1) x4).bind fun w3 => some ((.ok (), w3))
theorem s_X1_goes_346 {g : State} {t0 : Nat} {x4 : Int32} {w : ch_W} {res : Except Nat Unit × ch_W} {Q : Outcome → ch_W → Prop} (h : c_X1_goes_346 g t0 x4 w = some res) (hk : (ch_xV Q) res) : ch_FT g true mX1_goes 9 346 [some (va_rf (some t0)), none, none, none, some (.int x4), none, none, none, none, none] [] (w) Q := by
  unfold c_X1_goes_346 at h
  refine ch_aload_n 0 (some t0) dX1_goes_346 rfl (cp_gR (ci := 1) (k := 8) dX1_goes_347 fl_X1_28 rfl h (fun v1 h => ?_))
  refine ch_aload_n 0 (some t0) dX1_goes_350 rfl (cp_gI (ci := 1) (k := 10) dX1_goes_351 fl_X1_81 rfl h (fun v2 h => ?_))
  refine ch_iconst _ 1 dX1_goes_354 rfl (ch_isub _ _ dX1_goes_355 (ch_iload 4 _ dX1_goes_356 rfl (cp_iast (t := 21) dX1_goes_358 rfl (Nat.le_of_ble_eq_true rfl) rfl h (fun w3 h => ?_))))
  obtain rfl := Option.some.inj h
  exact ch_return dX1_goes_359 rfl hk

def c_X1_goes_151 (g : State) (t0 : Nat)  (y0 : Int32) (w : ch_W) : Option (Except Nat Unit × ch_W) := c_X1_goes_346 g t0 y0 w
theorem s_X1_goes_151 {g : State} {t0 : Nat} {y0 : Int32} {w : ch_W} {res : Except Nat Unit × ch_W} {Q : Outcome → ch_W → Prop} (h : c_X1_goes_151 g t0 y0 w = some res) (hk : (ch_xV Q) res) : ch_FT g true mX1_goes 9 151 [some (va_rf (some t0)), none, none, none, none, none, none, none, none, none] [.int y0] (w) Q := by
  unfold c_X1_goes_151 at h
  exact ch_istore 4 _ (ls1 := [some (va_rf (some t0)), none, none, none, some (.int y0), none, none, none, none, none]) dX1_goes_151 (Nat.le_of_ble_eq_true rfl) rfl (ch_goto 346 dX1_goes_153 rfl (ch_FT.wk (ch_wS (ch_wN (ch_wN (ch_wN (ch_wS (ch_wN (ch_wN (ch_wN (ch_wN (ch_wN ch_w0)))))))))) (s_X1_goes_346  h hk)))

def c_X1_goes_135 (g : State) (t0 : Nat) (x2 : Int32) (x3 : Int32) (x5 : Int32) (y0 : Int32) (y1 : Int32) (y2 : Nat) (w : ch_W) : Option (Except Nat Unit × ch_W) := (ch_pI w (some y2) 2 fX1_top (y1 - y0)).bind fun w1 => if x5 = 0 then (c_X1_goes_151 g t0 x3 w1) else (c_X1_goes_151 g t0 (x2 + 2) w1)
theorem s_X1_goes_135 {g : State} {t0 : Nat} {x2 : Int32} {x3 : Int32} {x5 : Int32} {y0 : Int32} {y1 : Int32} {y2 : Nat} {w : ch_W} {res : Except Nat Unit × ch_W} {Q : Outcome → ch_W → Prop} (h : c_X1_goes_135 g t0 x2 x3 x5 y0 y1 y2 w = some res) (hk : (ch_xV Q) res) : ch_FT g true mX1_goes 9 135 [some (va_rf (some t0)), none, some (.int x2), some (.int x3), none, some (.int x5), none, none, none, none] [.int y0, .int y1, va_rf (some y2)] (w) Q := by
  unfold c_X1_goes_135 at h
  refine ch_isub _ _ dX1_goes_135 (cp_pI (ci := 1) (k := 6) dX1_goes_136 fl_X1_78 rfl rfl rfl h (fun w1 h => ?_))
  refine ch_iload 5 _ dX1_goes_139 rfl (cp_if_eq _ (tgt := 150) dX1_goes_141 rfl h (fun h => ?_) (fun h => ?_))
  · exact ch_iload_n 3 _ dX1_goes_150 rfl (ch_FT.wk (ch_wS (ch_wN (ch_wN (ch_wN (ch_wN (ch_wN (ch_wN (ch_wN (ch_wN (ch_wN ch_w0)))))))))) (s_X1_goes_151  h hk))
  · exact ch_iload_n 2 _ dX1_goes_144 rfl (ch_iconst _ 2 dX1_goes_145 rfl (ch_iadd _ _ dX1_goes_146 (ch_goto 151 dX1_goes_147 rfl (ch_FT.wk (ch_wS (ch_wN (ch_wN (ch_wN (ch_wN (ch_wN (ch_wN (ch_wN (ch_wN (ch_wN ch_w0)))))))))) (s_X1_goes_151  h hk)))))

def c_X1_goes_118 (g : State) (t0 : Nat) (x2 : Int32) (x3 : Int32) (y0 : Int32) (w : ch_W) : Option (Except Nat Unit × ch_W) := (ch_gI w (some t0) 2 fX1_top).bind fun v1 => if y0 = 0 then (c_X1_goes_135 g t0 x2 x3 y0 0 v1 t0 w) else (c_X1_goes_135 g t0 x2 x3 y0 1 v1 t0 w)
theorem s_X1_goes_118 {g : State} {t0 : Nat} {x2 : Int32} {x3 : Int32} {y0 : Int32} {w : ch_W} {res : Except Nat Unit × ch_W} {Q : Outcome → ch_W → Prop} (h : c_X1_goes_118 g t0 x2 x3 y0 w = some res) (hk : (ch_xV Q) res) : ch_FT g true mX1_goes 9 118 [some (va_rf (some t0)), none, some (.int x2), some (.int x3), none, none, none, none, none, none] [.int y0] (w) Q := by
  unfold c_X1_goes_118 at h
  refine ch_istore 5 _ (ls1 := [some (va_rf (some t0)), none, some (.int x2), some (.int x3), none, some (.int y0), none, none, none, none]) dX1_goes_118 (Nat.le_of_ble_eq_true rfl) rfl (ch_aload_n 0 (some t0) dX1_goes_120 rfl (ch_dup dX1_goes_121 (ch_cat _) (cp_gI (ci := 1) (k := 6) dX1_goes_122 fl_X1_78 rfl h (fun v1 h => ?_))))
  refine ch_iload 5 _ dX1_goes_125 rfl (cp_if_eq _ (tgt := 134) dX1_goes_127 rfl h (fun h => ?_) (fun h => ?_))
  · exact ch_iconst _ 0 dX1_goes_134 rfl (ch_FT.wk (ch_wS (ch_wN (ch_wS (ch_wS (ch_wN (ch_wS (ch_wN (ch_wN (ch_wN (ch_wN ch_w0)))))))))) (s_X1_goes_135  h hk))
  · exact ch_iconst _ 1 dX1_goes_130 rfl (ch_goto 135 dX1_goes_131 rfl (ch_FT.wk (ch_wS (ch_wN (ch_wS (ch_wS (ch_wN (ch_wS (ch_wN (ch_wN (ch_wN (ch_wN ch_w0)))))))))) (s_X1_goes_135  h hk)))

def c_X1_goes_110 (g : State) (t0 : Nat) (x2 : Int32) (x3 : Int32) (y0 : Int32) (y1 : Int32) (w : ch_W) : Option (Except Nat Unit × ch_W) := if y1 = y0 then (c_X1_goes_118 g t0 x2 x3 1 w) else (c_X1_goes_118 g t0 x2 x3 0 w)
theorem s_X1_goes_110 {g : State} {t0 : Nat} {x2 : Int32} {x3 : Int32} {y0 : Int32} {y1 : Int32} {w : ch_W} {res : Except Nat Unit × ch_W} {Q : Outcome → ch_W → Prop} (h : c_X1_goes_110 g t0 x2 x3 y0 y1 w = some res) (hk : (ch_xV Q) res) : ch_FT g true mX1_goes 9 110 [some (va_rf (some t0)), none, some (.int x2), some (.int x3), none, none, none, none, none, none] [.int y0, .int y1] (w) Q := by
  unfold c_X1_goes_110 at h
  refine cp_icmp_ne _ _ (tgt := 117) dX1_goes_110 rfl h (fun h => ?_) (fun h => ?_)
  · exact ch_iconst _ 0 dX1_goes_117 rfl (ch_FT.wk (ch_wS (ch_wN (ch_wS (ch_wS (ch_wN (ch_wN (ch_wN (ch_wN (ch_wN (ch_wN ch_w0)))))))))) (s_X1_goes_118  h hk))
  · exact ch_iconst _ 1 dX1_goes_113 rfl (ch_goto 118 dX1_goes_114 rfl (ch_FT.wk (ch_wS (ch_wN (ch_wS (ch_wS (ch_wN (ch_wN (ch_wN (ch_wN (ch_wN (ch_wN ch_w0)))))))))) (s_X1_goes_118  h hk)))

def c_X1_goes_95 (g : State) (t0 : Nat) (x1 : Option Nat) (x2 : Int32) (x3 : Int32) (y0 : Int32) (w : ch_W) : Option (Except Nat Unit × ch_W) := (ch_rc w x1 9).bind fun b2 => (c_X8_get b2 x2 w).bind fun v3 => if v3 = 16 then (c_X1_goes_110 g t0 x2 x3 1 y0 w) else (c_X1_goes_110 g t0 x2 x3 0 y0 w)
theorem s_X1_goes_95 {g : State} {t0 : Nat} {x1 : Option Nat} {x2 : Int32} {x3 : Int32} {y0 : Int32} {w : ch_W} {res : Except Nat Unit × ch_W} {Q : Outcome → ch_W → Prop} (h : c_X1_goes_95 g t0 x1 x2 x3 y0 w = some res) (hk : (ch_xV Q) res) : ch_FT g true mX1_goes 9 95 [some (va_rf (some t0)), some (va_rf x1), some (.int x2), some (.int x3), none, none, none, none, none, none] [.int y0] (w) Q := by
  unfold c_X1_goes_95 at h
  obtain ⟨b2, hb1, h⟩ := ch_bd h
  obtain ⟨v3, hp4, h⟩ := ch_bd h
  refine ch_aload_n 1 x1 dX1_goes_95 rfl (ch_iload_n 2 _ dX1_goes_96 rfl (ch_iv yX8_get prog_9_method_3_code 2 (some .int) (ci := 8) (q := (RX8, TX8, 2)) (b := b2) (d' := 2) (av := [.int x2]) (rest := [.int y0]) (by rw [ch_rs hb1]; rfl) dX1_goes_97 q1389 q1152 rfl q1153 q1154 can_X8_get (Nat.le_of_ble_eq_true rfl) (ch_hw (Nat.le_of_ble_eq_true rfl)) (ch_rtg hb1) (cp_kI (v := v3) (w1 := w) (fun Q' hq => s_X8_get hp4 hq) ?_)))
  refine ch_bipush _ 16 dX1_goes_100 rfl (cp_icmp_ne _ _ (tgt := 109) dX1_goes_102 rfl h (fun h => ?_) (fun h => ?_))
  · exact ch_iconst _ 0 dX1_goes_109 rfl (ch_FT.wk (ch_wS (ch_wN (ch_wS (ch_wS (ch_wN (ch_wN (ch_wN (ch_wN (ch_wN (ch_wN ch_w0)))))))))) (s_X1_goes_110  h hk))
  · exact ch_iconst _ 1 dX1_goes_105 rfl (ch_goto 110 dX1_goes_106 rfl (ch_FT.wk (ch_wS (ch_wN (ch_wS (ch_wS (ch_wN (ch_wN (ch_wN (ch_wN (ch_wN (ch_wN ch_w0)))))))))) (s_X1_goes_110  h hk)))

def c_X1_goes_171 (g : State) (t0 : Nat)  (y0 : Int32) (w : ch_W) : Option (Except Nat Unit × ch_W) := c_X1_goes_346 g t0 y0 w
theorem s_X1_goes_171 {g : State} {t0 : Nat} {y0 : Int32} {w : ch_W} {res : Except Nat Unit × ch_W} {Q : Outcome → ch_W → Prop} (h : c_X1_goes_171 g t0 y0 w = some res) (hk : (ch_xV Q) res) : ch_FT g true mX1_goes 9 171 [some (va_rf (some t0)), none, none, none, none, none, none, none, none, none] [.int y0] (w) Q := by
  unfold c_X1_goes_171 at h
  exact ch_istore 4 _ (ls1 := [some (va_rf (some t0)), none, none, none, some (.int y0), none, none, none, none, none]) dX1_goes_171 (Nat.le_of_ble_eq_true rfl) rfl (ch_goto 346 dX1_goes_173 rfl (ch_FT.wk (ch_wS (ch_wN (ch_wN (ch_wN (ch_wS (ch_wN (ch_wN (ch_wN (ch_wN (ch_wN ch_w0)))))))))) (s_X1_goes_346  h hk)))

def c_X1_goes (g : State) (t0 : Nat) (x1 : Option Nat) (x2 : Int32) (x3 : Int32) (w : ch_W) : Option (Except Nat Unit × ch_W) := (ch_rc w x1 9).bind fun b2 => (c_X8_get b2 x2 w).bind fun v3 => if v3 = 16 then ((ch_gR w (some t0) 2 fX1_pile).bind fun v9 => (ch_gI w (some t0) 2 fX1_top).bind fun v10 => (ch_lL w v9 24 (v10 - 1)).bind fun v11 => (c_X0_numberOf v11 w).bind fun v12 => if v12 = 1 then (c_X1_goes_95 g t0 x1 x2 x3 1 w) else (c_X1_goes_95 g t0 x1 x2 x3 0 w)) else (if v3 = 17 then ((ch_gR w (some t0) 2 fX1_pile).bind fun v14 => (ch_gI w (some t0) 2 fX1_top).bind fun v15 => (ch_lL w v14 24 (v15 - 1)).bind fun v16 => (c_X0_numberOf v16 w).bind fun v17 => if v17 = 1 then (c_X1_goes_95 g t0 x1 x2 x3 1 w) else (c_X1_goes_95 g t0 x1 x2 x3 0 w)) else (if v3 = 18 then ((ch_rc w x1 9).bind fun b20 => (c_X8_get b20 (x2 + 2) w).bind fun v21 => (ch_rc w (some t0) 2).bind fun _ => ch_tb (c_X1_invoke g t0 x3 v21 w) (fun a w => (.error a, w)) fun _ w25 => some ((.ok (), w25))) else (if v3 = 19 then ((ch_gR w (some t0) 2 fX1_pile).bind fun v26 => (ch_gR w (some t0) 2 fX1_bases).bind fun v27 => (ch_gI w (some t0) 2 fX1_open).bind fun v28 => (ch_lI w v27 21 (v28 - 1)).bind fun v29 => (ch_rc w (some t0) 2).bind fun _ => (c_X1_pop t0 w).bind fun p31 => (ch_wL p31.2 v26 24 (v29 + x3) p31.1).bind fun w33 => c_X1_goes_346 g t0 ((x2 + 1) + 1) w33) else (if v3 = 20 then ((ch_gR w (some t0) 2 fX1_heap).bind fun v34 => (ch_rc w (some t0) 2).bind fun _ => (c_X1_local t0 0 w).bind fun v36 => (c_X0_placeOf v36 w).bind fun v38 => (ch_rc w (some t0) 2).bind fun _ => (c_X1_pop t0 w).bind fun p41 => (ch_wL p41.2 v34 24 ((v38 + 2) + x3) p41.1).bind fun w43 => c_X1_goes_346 g t0 ((x2 + 1) + 1) w43) else (if v3 = 21 then ((ch_rc w (some t0) 2).bind fun _ => (c_X1_pop t0 w).bind fun p45 => (ch_gR p45.2 (some t0) 2 fX1_heap).bind fun v47 => (ch_rc p45.2 (some t0) 2).bind fun _ => (c_X1_pop t0 p45.2).bind fun p49 => (ch_rc p49.2 (some t0) 2).bind fun _ => ch_tb (c_X1_object t0 p49.1 p49.2) (fun a w => (.error a, w)) fun v52 w53 => (ch_wL w53 v47 24 ((v52 + 2) + x3) p45.1).bind fun w54 => c_X1_goes_346 g t0 ((x2 + 1) + 1) w54) else (if v3 = 22 then ((ch_rc w (some t0) 2).bind fun _ => ch_tb (c_X1_putElement t0 w) (fun a w => (.error a, w)) fun _ w57 => c_X1_goes_346 g t0 (x2 + 1) w57) else (if v3 = 23 then ((ch_rc w (some t0) 2).bind fun _ => (c_X1_popNumber t0 w).bind fun p59 => if p59.1 = 1 then (c_X1_goes_171 g t0 (x2 + 2) p59.2) else (c_X1_goes_171 g t0 x3 p59.2)) else (if v3 = 24 then ((ch_rc w x1 9).bind fun b62 => (c_X8_get b62 x2 w).bind fun v63 => if v63 = 24 then (c_X1_goes_342 g t0 1 t0 w) else (c_X1_goes_342 g t0 0 t0 w)) else (if v3 = 25 then ((ch_rc w x1 9).bind fun b66 => (c_X8_get b66 x2 w).bind fun v67 => if v67 = 24 then (c_X1_goes_342 g t0 1 t0 w) else (c_X1_goes_342 g t0 0 t0 w)) else (if v3 = 26 then ((ch_rc w (some t0) 2).bind fun _ => (c_X1_pop t0 w).bind fun p70 => (c_X0_placeOf p70.1 p70.2).bind fun v72 => if v72 = (-1) then ((ch_rc p70.2 (some t0) 2).bind fun _ => (c_X1_fault t0 0 p70.2).bind fun p81 => (p81.1).bind fun a83 => some ((.error a83, p81.2))) else ((ch_gR p70.2 (some t0) 2 fX1_flying).bind fun v74 => (ch_rc p70.2 v74 3).bind fun b76 => (c_X2_of b76 p70.1 p70.2).bind fun p77 => (p77.1).bind fun a79 => some ((.error a79, p77.2)))) else (if v3 = 27 then ((ch_rc w (some t0) 2).bind fun _ => (c_X1_popNumber t0 w).bind fun p85 => (ch_rc p85.2 (some t0) 2).bind fun _ => (c_X1_show t0 p85.1 p85.2).bind fun p88 => c_X1_goes_346 g t0 (x2 + 1) p88) else ((ch_rc w x1 9).bind fun b6 => (c_X8_get b6 x2 w).bind fun v7 => if v7 = 24 then (c_X1_goes_342 g t0 1 t0 w) else (c_X1_goes_342 g t0 0 t0 w)))))))))))))
theorem s_X1_goes {g : State} {t0 : Nat} {x1 : Option Nat} {x2 : Int32} {x3 : Int32} {w : ch_W} {res : Except Nat Unit × ch_W} {Q : Outcome → ch_W → Prop} (h : c_X1_goes g t0 x1 x2 x3 w = some res) (hk : (ch_xV Q) res) : ch_CT g true yX1_goes 9 [.ref t0, va_rf x1, .int x2, .int x3] (w) Q := by
  unfold c_X1_goes at h
  refine ch_ctL mX1_goes (ls := [some (va_rf (some t0)), some (va_rf x1), some (.int x2), some (.int x3), none, none, none, none, none, none]) q1488 rfl (ch_lyr (r := some t0) (ch_lyr (r := x1) (ch_lyi (ch_lyi ch_ly0)))) (Nat.le_of_ble_eq_true rfl) rfl ?_
  obtain ⟨b2, hb1, h⟩ := ch_bd h
  obtain ⟨v3, hp4, h⟩ := ch_bd h
  refine ch_iload_n 2 _ dX1_goes_0 rfl (ch_iconst _ 1 dX1_goes_1 rfl (ch_iadd _ _ dX1_goes_2 (ch_istore 4 _ (ls1 := [some (va_rf (some t0)), some (va_rf x1), some (.int x2), some (.int x3), some (.int (x2 + 1)), none, none, none, none, none]) dX1_goes_3 (Nat.le_of_ble_eq_true rfl) rfl (ch_aload_n 1 x1 dX1_goes_5 rfl (ch_iload_n 2 _ dX1_goes_6 rfl (ch_iv yX8_get prog_9_method_3_code 2 (some .int) (ci := 8) (q := (RX8, TX8, 2)) (b := b2) (d' := 2) (av := [.int x2]) (rest := []) (by rw [ch_rs hb1]; rfl) dX1_goes_7 q1389 q1152 rfl q1153 q1154 can_X8_get (Nat.le_of_ble_eq_true rfl) (Nat.le_of_ble_eq_true rfl) (ch_rtg hb1) (cp_kI (v := v3) (w1 := w) (fun Q' hq => s_X8_get hp4 hq) ?_)))))))
  by_cases e0 : v3 = 16
  · have h := ch_ifT e0 h
    refine ch_tableIn _ (off := 62) (tgt := 72) dX1_goes_10 (by rw [e0]; decide) (by rw [e0]; decide) (by rw [e0]; rfl) rfl ?_
    refine ch_aload_n 0 (some t0) dX1_goes_72 rfl (cp_gR (ci := 1) (k := 5) dX1_goes_73 fl_X1_19 rfl h (fun v9 h => ?_))
    refine ch_aload_n 0 (some t0) dX1_goes_76 rfl (cp_gI (ci := 1) (k := 6) dX1_goes_77 fl_X1_78 rfl h (fun v10 h => ?_))
    refine ch_iconst _ 1 dX1_goes_80 rfl (ch_isub _ _ dX1_goes_81 (cp_lald (t := 24) dX1_goes_82 rfl rfl h (fun v11 h => ?_)))
    obtain ⟨v12, hp13, h⟩ := ch_bd h
    refine ch_isT yX0_numberOf prog_1_method_5_code 2 (some .int) (d' := 2) (av := [.long v11]) (rest := []) rfl dX1_goes_83 q1449 q1450 q200 q1451 can_X0_numberOf (Nat.le_of_ble_eq_true rfl) (Nat.le_of_ble_eq_true rfl) (cp_kI (v := v12) (w1 := w) (fun Q' hq => s_X0_numberOf hp13 hq) ?_)
    refine ch_iconst _ 1 dX1_goes_86 rfl (cp_icmp_ne _ _ (tgt := 94) dX1_goes_87 rfl h (fun h => ?_) (fun h => ?_))
    · exact ch_iconst _ 0 dX1_goes_94 rfl (ch_FT.wk (ch_wS (ch_wS (ch_wS (ch_wS (ch_wN (ch_wN (ch_wN (ch_wN (ch_wN (ch_wN ch_w0)))))))))) (s_X1_goes_95  h hk))
    · exact ch_iconst _ 1 dX1_goes_90 rfl (ch_goto 95 dX1_goes_91 rfl (ch_FT.wk (ch_wS (ch_wS (ch_wS (ch_wS (ch_wN (ch_wN (ch_wN (ch_wN (ch_wN (ch_wN ch_w0)))))))))) (s_X1_goes_95  h hk)))
  replace h := ch_ifF e0 h
  by_cases e1 : v3 = 17
  · have h := ch_ifT e1 h
    refine ch_tableIn _ (off := 62) (tgt := 72) dX1_goes_10 (by rw [e1]; decide) (by rw [e1]; decide) (by rw [e1]; rfl) rfl ?_
    refine ch_aload_n 0 (some t0) dX1_goes_72 rfl (cp_gR (ci := 1) (k := 5) dX1_goes_73 fl_X1_19 rfl h (fun v14 h => ?_))
    refine ch_aload_n 0 (some t0) dX1_goes_76 rfl (cp_gI (ci := 1) (k := 6) dX1_goes_77 fl_X1_78 rfl h (fun v15 h => ?_))
    refine ch_iconst _ 1 dX1_goes_80 rfl (ch_isub _ _ dX1_goes_81 (cp_lald (t := 24) dX1_goes_82 rfl rfl h (fun v16 h => ?_)))
    obtain ⟨v17, hp18, h⟩ := ch_bd h
    refine ch_isT yX0_numberOf prog_1_method_5_code 2 (some .int) (d' := 2) (av := [.long v16]) (rest := []) rfl dX1_goes_83 q1449 q1450 q200 q1451 can_X0_numberOf (Nat.le_of_ble_eq_true rfl) (Nat.le_of_ble_eq_true rfl) (cp_kI (v := v17) (w1 := w) (fun Q' hq => s_X0_numberOf hp18 hq) ?_)
    refine ch_iconst _ 1 dX1_goes_86 rfl (cp_icmp_ne _ _ (tgt := 94) dX1_goes_87 rfl h (fun h => ?_) (fun h => ?_))
    · exact ch_iconst _ 0 dX1_goes_94 rfl (ch_FT.wk (ch_wS (ch_wS (ch_wS (ch_wS (ch_wN (ch_wN (ch_wN (ch_wN (ch_wN (ch_wN ch_w0)))))))))) (s_X1_goes_95  h hk))
    · exact ch_iconst _ 1 dX1_goes_90 rfl (ch_goto 95 dX1_goes_91 rfl (ch_FT.wk (ch_wS (ch_wS (ch_wS (ch_wS (ch_wN (ch_wN (ch_wN (ch_wN (ch_wN (ch_wN ch_w0)))))))))) (s_X1_goes_95  h hk)))
  replace h := ch_ifF e1 h
  by_cases e2 : v3 = 18
  · have h := ch_ifT e2 h
    refine ch_tableIn _ (off := 303) (tgt := 313) dX1_goes_10 (by rw [e2]; decide) (by rw [e2]; decide) (by rw [e2]; rfl) rfl ?_
    obtain ⟨b20, hb19, h⟩ := ch_bd h
    obtain ⟨v21, hp22, h⟩ := ch_bd h
    refine ch_aload_n 0 (some t0) dX1_goes_313 rfl (ch_iload_n 3 _ dX1_goes_314 rfl (ch_aload_n 1 x1 dX1_goes_315 rfl (ch_iload_n 2 _ dX1_goes_316 rfl (ch_iconst _ 2 dX1_goes_317 rfl (ch_iadd _ _ dX1_goes_318 (ch_iv yX8_get prog_9_method_3_code 2 (some .int) (ci := 8) (q := (RX8, TX8, 2)) (b := b20) (d' := 2) (av := [.int (x2 + 2)]) (rest := [.int x3, va_rf (some t0)]) (by rw [ch_rs hb19]; rfl) dX1_goes_319 q1389 q1152 rfl q1153 q1154 can_X8_get (Nat.le_of_ble_eq_true rfl) (ch_hw (Nat.le_of_ble_eq_true rfl)) (ch_rtg hb19) (cp_kI (v := v21) (w1 := w) (fun Q' hq => s_X8_get hp22 hq) ?_)))))))
    obtain ⟨_, hb23, h⟩ := ch_bd h
    refine ch_iv yX1_invoke prog_5_method_38_code 6 none (ci := 1) (q := (RX1, TX1, 22)) (b := t0) (d' := 8) (av := [.int x3, .int v21]) (rest := []) rfl dX1_goes_322 q1497 q1499 rfl qs98 q1500 can_X1_invoke (Nat.le_of_ble_eq_true rfl) (Nat.le_of_ble_eq_true rfl) (ch_rts hb23) (cp_tV h (fun p hp Q' hq => s_X1_invoke hp hq) (fun w25 h => ?_) (fun a w1 h => ?_))
    · obtain rfl := Option.some.inj h
      exact ch_return dX1_goes_325 rfl hk
    · subst h
      exact ch_th rfl hk
  replace h := ch_ifF e2 h
  by_cases e3 : v3 = 19
  · have h := ch_ifT e3 h
    refine ch_tableIn _ (off := 166) (tgt := 176) dX1_goes_10 (by rw [e3]; decide) (by rw [e3]; decide) (by rw [e3]; rfl) rfl ?_
    refine ch_aload_n 0 (some t0) dX1_goes_176 rfl (cp_gR (ci := 1) (k := 5) dX1_goes_177 fl_X1_19 rfl h (fun v26 h => ?_))
    refine ch_aload_n 0 (some t0) dX1_goes_180 rfl (cp_gR (ci := 1) (k := 9) dX1_goes_181 fl_X1_32 rfl h (fun v27 h => ?_))
    refine ch_aload_n 0 (some t0) dX1_goes_184 rfl (cp_gI (ci := 1) (k := 10) dX1_goes_185 fl_X1_81 rfl h (fun v28 h => ?_))
    refine ch_iconst _ 1 dX1_goes_188 rfl (ch_isub _ _ dX1_goes_189 (cp_iald (t := 21) dX1_goes_190 rfl rfl h (fun v29 h => ?_)))
    obtain ⟨_, hb30, h⟩ := ch_bd h
    obtain ⟨p31, hp32, h⟩ := ch_bd h
    refine ch_iload_n 3 _ dX1_goes_191 rfl (ch_iadd _ _ dX1_goes_192 (ch_aload_n 0 (some t0) dX1_goes_193 rfl (ch_iv yX1_pop prog_5_method_13_code 1 (some .long) (ci := 1) (q := (RX1, TX1, 22)) (b := t0) (d' := 2) (av := []) (rest := [.int (v29 + x3), va_rf v26]) rfl dX1_goes_194 q1425 q1427 rfl qs81 q1428 can_X1_pop (Nat.le_of_ble_eq_true rfl) (ch_hw (Nat.le_of_ble_eq_true rfl)) (ch_rts hb30) (cp_kL (v := p31.1) (w1 := p31.2) (fun Q' hq => s_X1_pop hp32 hq) ?_))))
    refine cp_last (t := 24) dX1_goes_197 rfl (Nat.le_of_ble_eq_true rfl) rfl h (fun w33 h => ?_)
    exact ch_iinc 4 _ _ ((x2 + 1) + 1) (ls1 := [some (va_rf (some t0)), some (va_rf x1), some (.int x2), some (.int x3), some (.int ((x2 + 1) + 1)), none, none, none, none, none]) dX1_goes_198 rfl rfl (Nat.le_of_ble_eq_true rfl) rfl (ch_goto 346 dX1_goes_201 rfl (ch_FT.wk (ch_wS (ch_wN (ch_wN (ch_wN (ch_wS (ch_wN (ch_wN (ch_wN (ch_wN (ch_wN ch_w0)))))))))) (s_X1_goes_346  h hk)))
  replace h := ch_ifF e3 h
  by_cases e4 : v3 = 20
  · have h := ch_ifT e4 h
    refine ch_tableIn _ (off := 194) (tgt := 204) dX1_goes_10 (by rw [e4]; decide) (by rw [e4]; decide) (by rw [e4]; rfl) rfl ?_
    refine ch_aload_n 0 (some t0) dX1_goes_204 rfl (cp_gR (ci := 1) (k := 2) dX1_goes_205 fl_X1_9 rfl h (fun v34 h => ?_))
    obtain ⟨_, hb35, h⟩ := ch_bd h
    obtain ⟨v36, hp37, h⟩ := ch_bd h
    refine ch_aload_n 0 (some t0) dX1_goes_208 rfl (ch_iconst _ 0 dX1_goes_209 rfl (ch_iv yX1_local prog_5_method_17_code 2 (some .long) (ci := 1) (q := (RX1, TX1, 22)) (b := t0) (d' := 2) (av := [.int 0]) (rest := [va_rf v34]) rfl dX1_goes_210 q1402 q1404 rfl qs78 q1405 can_X1_local (Nat.le_of_ble_eq_true rfl) (ch_hw (Nat.le_of_ble_eq_true rfl)) (ch_rts hb35) (cp_kL (v := v36) (w1 := w) (fun Q' hq => s_X1_local hp37 hq) ?_)))
    obtain ⟨v38, hp39, h⟩ := ch_bd h
    refine ch_isT yX0_placeOf prog_1_method_3_code 2 (some .int) (d' := 2) (av := [.long v36]) (rest := [va_rf v34]) rfl dX1_goes_213 q1338 q1339 q200 q1340 can_X0_placeOf (Nat.le_of_ble_eq_true rfl) (ch_hw (Nat.le_of_ble_eq_true rfl)) (cp_kI (v := v38) (w1 := w) (fun Q' hq => s_X0_placeOf hp39 hq) ?_)
    obtain ⟨_, hb40, h⟩ := ch_bd h
    obtain ⟨p41, hp42, h⟩ := ch_bd h
    refine ch_iconst _ 2 dX1_goes_216 rfl (ch_iadd _ _ dX1_goes_217 (ch_iload_n 3 _ dX1_goes_218 rfl (ch_iadd _ _ dX1_goes_219 (ch_aload_n 0 (some t0) dX1_goes_220 rfl (ch_iv yX1_pop prog_5_method_13_code 1 (some .long) (ci := 1) (q := (RX1, TX1, 22)) (b := t0) (d' := 2) (av := []) (rest := [.int ((v38 + 2) + x3), va_rf v34]) rfl dX1_goes_221 q1425 q1427 rfl qs81 q1428 can_X1_pop (Nat.le_of_ble_eq_true rfl) (ch_hw (Nat.le_of_ble_eq_true rfl)) (ch_rts hb40) (cp_kL (v := p41.1) (w1 := p41.2) (fun Q' hq => s_X1_pop hp42 hq) ?_))))))
    refine cp_last (t := 24) dX1_goes_224 rfl (Nat.le_of_ble_eq_true rfl) rfl h (fun w43 h => ?_)
    exact ch_iinc 4 _ _ ((x2 + 1) + 1) (ls1 := [some (va_rf (some t0)), some (va_rf x1), some (.int x2), some (.int x3), some (.int ((x2 + 1) + 1)), none, none, none, none, none]) dX1_goes_225 rfl rfl (Nat.le_of_ble_eq_true rfl) rfl (ch_goto 346 dX1_goes_228 rfl (ch_FT.wk (ch_wS (ch_wN (ch_wN (ch_wN (ch_wS (ch_wN (ch_wN (ch_wN (ch_wN (ch_wN ch_w0)))))))))) (s_X1_goes_346  h hk)))
  replace h := ch_ifF e4 h
  by_cases e5 : v3 = 21
  · have h := ch_ifT e5 h
    refine ch_tableIn _ (off := 221) (tgt := 231) dX1_goes_10 (by rw [e5]; decide) (by rw [e5]; decide) (by rw [e5]; rfl) rfl ?_
    obtain ⟨_, hb44, h⟩ := ch_bd h
    obtain ⟨p45, hp46, h⟩ := ch_bd h
    refine ch_aload_n 0 (some t0) dX1_goes_231 rfl (ch_iv yX1_pop prog_5_method_13_code 1 (some .long) (ci := 1) (q := (RX1, TX1, 22)) (b := t0) (d' := 2) (av := []) (rest := []) rfl dX1_goes_232 q1425 q1427 rfl qs81 q1428 can_X1_pop (Nat.le_of_ble_eq_true rfl) (Nat.le_of_ble_eq_true rfl) (ch_rts hb44) (cp_kL (v := p45.1) (w1 := p45.2) (fun Q' hq => s_X1_pop hp46 hq) ?_))
    refine ch_lstore 6 _ (ls1 := [some (va_rf (some t0)), some (va_rf x1), some (.int x2), some (.int x3), some (.int (x2 + 1)), none, some (.long p45.1), none, none, none]) dX1_goes_235 (Nat.le_of_ble_eq_true rfl) rfl (ch_aload_n 0 (some t0) dX1_goes_237 rfl (cp_gR (ci := 1) (k := 2) dX1_goes_238 fl_X1_9 rfl h (fun v47 h => ?_)))
    obtain ⟨_, hb48, h⟩ := ch_bd h
    obtain ⟨p49, hp50, h⟩ := ch_bd h
    refine ch_aload_n 0 (some t0) dX1_goes_241 rfl (ch_aload_n 0 (some t0) dX1_goes_242 rfl (ch_iv yX1_pop prog_5_method_13_code 1 (some .long) (ci := 1) (q := (RX1, TX1, 22)) (b := t0) (d' := 2) (av := []) (rest := [va_rf (some t0), va_rf v47]) rfl dX1_goes_243 q1425 q1427 rfl qs81 q1428 can_X1_pop (Nat.le_of_ble_eq_true rfl) (ch_hw (Nat.le_of_ble_eq_true rfl)) (ch_rts hb48) (cp_kL (v := p49.1) (w1 := p49.2) (fun Q' hq => s_X1_pop hp50 hq) ?_)))
    obtain ⟨_, hb51, h⟩ := ch_bd h
    refine ch_iv yX1_object prog_5_method_30_code 3 (some .int) (ci := 1) (q := (RX1, TX1, 22)) (b := t0) (d' := 4) (av := [.long p49.1]) (rest := [va_rf v47]) rfl dX1_goes_246 q1429 q1431 rfl qs82 q1432 can_X1_object (Nat.le_of_ble_eq_true rfl) (ch_hw (Nat.le_of_ble_eq_true rfl)) (ch_rts hb51) (cp_tI h (fun p hp Q' hq => s_X1_object hp hq) (fun v52 w53 h => ?_) (fun a w1 h => ?_))
    · refine ch_iconst _ 2 dX1_goes_249 rfl (ch_iadd _ _ dX1_goes_250 (ch_iload_n 3 _ dX1_goes_251 rfl (ch_iadd _ _ dX1_goes_252 (ch_lload 6 _ dX1_goes_253 rfl (cp_last (t := 24) dX1_goes_255 rfl (Nat.le_of_ble_eq_true rfl) rfl h (fun w54 h => ?_))))))
      exact ch_iinc 4 _ _ ((x2 + 1) + 1) (ls1 := [some (va_rf (some t0)), some (va_rf x1), some (.int x2), some (.int x3), some (.int ((x2 + 1) + 1)), none, some (.long p45.1), none, none, none]) dX1_goes_256 rfl rfl (Nat.le_of_ble_eq_true rfl) rfl (ch_goto 346 dX1_goes_259 rfl (ch_FT.wk (ch_wS (ch_wN (ch_wN (ch_wN (ch_wS (ch_wN (ch_wN (ch_wN (ch_wN (ch_wN ch_w0)))))))))) (s_X1_goes_346  h hk)))
    · subst h
      exact ch_th rfl hk
  replace h := ch_ifF e5 h
  by_cases e6 : v3 = 22
  · have h := ch_ifT e6 h
    refine ch_tableIn _ (off := 252) (tgt := 262) dX1_goes_10 (by rw [e6]; decide) (by rw [e6]; decide) (by rw [e6]; rfl) rfl ?_
    obtain ⟨_, hb55, h⟩ := ch_bd h
    refine ch_aload_n 0 (some t0) dX1_goes_262 rfl (ch_iv yX1_putElement prog_5_method_33_code 3 none (ci := 1) (q := (RX1, TX1, 22)) (b := t0) (d' := 6) (av := []) (rest := []) rfl dX1_goes_263 q1489 q1491 rfl qs96 q1492 can_X1_putElement (Nat.le_of_ble_eq_true rfl) (Nat.le_of_ble_eq_true rfl) (ch_rts hb55) (cp_tV h (fun p hp Q' hq => s_X1_putElement hp hq) (fun w57 h => ?_) (fun a w1 h => ?_)))
    · exact ch_goto 346 dX1_goes_266 rfl (ch_FT.wk (ch_wS (ch_wN (ch_wN (ch_wN (ch_wS (ch_wN (ch_wN (ch_wN (ch_wN (ch_wN ch_w0)))))))))) (s_X1_goes_346  h hk))
    · subst h
      exact ch_th rfl hk
  replace h := ch_ifF e6 h
  by_cases e7 : v3 = 23
  · have h := ch_ifT e7 h
    refine ch_tableIn _ (off := 146) (tgt := 156) dX1_goes_10 (by rw [e7]; decide) (by rw [e7]; decide) (by rw [e7]; rfl) rfl ?_
    obtain ⟨_, hb58, h⟩ := ch_bd h
    obtain ⟨p59, hp60, h⟩ := ch_bd h
    refine ch_aload_n 0 (some t0) dX1_goes_156 rfl (ch_iv yX1_popNumber prog_5_method_14_code 1 (some .int) (ci := 1) (q := (RX1, TX1, 22)) (b := t0) (d' := 3) (av := []) (rest := []) rfl dX1_goes_157 q1445 q1447 rfl qs86 q1448 can_X1_popNumber (Nat.le_of_ble_eq_true rfl) (Nat.le_of_ble_eq_true rfl) (ch_rts hb58) (cp_kI (v := p59.1) (w1 := p59.2) (fun Q' hq => s_X1_popNumber hp60 hq) ?_))
    refine ch_iconst _ 1 dX1_goes_160 rfl (cp_icmp_ne _ _ (tgt := 170) dX1_goes_161 rfl h (fun h => ?_) (fun h => ?_))
    · exact ch_iload_n 3 _ dX1_goes_170 rfl (ch_FT.wk (ch_wS (ch_wN (ch_wN (ch_wN (ch_wN (ch_wN (ch_wN (ch_wN (ch_wN (ch_wN ch_w0)))))))))) (s_X1_goes_171  h hk))
    · exact ch_iload_n 2 _ dX1_goes_164 rfl (ch_iconst _ 2 dX1_goes_165 rfl (ch_iadd _ _ dX1_goes_166 (ch_goto 171 dX1_goes_167 rfl (ch_FT.wk (ch_wS (ch_wN (ch_wN (ch_wN (ch_wN (ch_wN (ch_wN (ch_wN (ch_wN (ch_wN ch_w0)))))))))) (s_X1_goes_171  h hk)))))
  replace h := ch_ifF e7 h
  by_cases e8 : v3 = 24
  · have h := ch_ifT e8 h
    refine ch_tableIn _ (off := 316) (tgt := 326) dX1_goes_10 (by rw [e8]; decide) (by rw [e8]; decide) (by rw [e8]; rfl) rfl ?_
    obtain ⟨b62, hb61, h⟩ := ch_bd h
    obtain ⟨v63, hp64, h⟩ := ch_bd h
    refine ch_aload_n 0 (some t0) dX1_goes_326 rfl (ch_aload_n 1 x1 dX1_goes_327 rfl (ch_iload_n 2 _ dX1_goes_328 rfl (ch_iv yX8_get prog_9_method_3_code 2 (some .int) (ci := 8) (q := (RX8, TX8, 2)) (b := b62) (d' := 2) (av := [.int x2]) (rest := [va_rf (some t0)]) (by rw [ch_rs hb61]; rfl) dX1_goes_329 q1389 q1152 rfl q1153 q1154 can_X8_get (Nat.le_of_ble_eq_true rfl) (ch_hw (Nat.le_of_ble_eq_true rfl)) (ch_rtg hb61) (cp_kI (v := v63) (w1 := w) (fun Q' hq => s_X8_get hp64 hq) ?_))))
    refine ch_bipush _ 24 dX1_goes_332 rfl (cp_icmp_ne _ _ (tgt := 341) dX1_goes_334 rfl h (fun h => ?_) (fun h => ?_))
    · exact ch_iconst _ 0 dX1_goes_341 rfl (ch_FT.wk (ch_wN (ch_wN (ch_wN (ch_wN (ch_wN (ch_wN (ch_wN (ch_wN (ch_wN (ch_wN ch_w0)))))))))) (s_X1_goes_342  h hk))
    · exact ch_iconst _ 1 dX1_goes_337 rfl (ch_goto 342 dX1_goes_338 rfl (ch_FT.wk (ch_wN (ch_wN (ch_wN (ch_wN (ch_wN (ch_wN (ch_wN (ch_wN (ch_wN (ch_wN ch_w0)))))))))) (s_X1_goes_342  h hk)))
  replace h := ch_ifF e8 h
  by_cases e9 : v3 = 25
  · have h := ch_ifT e9 h
    refine ch_tableIn _ (off := 316) (tgt := 326) dX1_goes_10 (by rw [e9]; decide) (by rw [e9]; decide) (by rw [e9]; rfl) rfl ?_
    obtain ⟨b66, hb65, h⟩ := ch_bd h
    obtain ⟨v67, hp68, h⟩ := ch_bd h
    refine ch_aload_n 0 (some t0) dX1_goes_326 rfl (ch_aload_n 1 x1 dX1_goes_327 rfl (ch_iload_n 2 _ dX1_goes_328 rfl (ch_iv yX8_get prog_9_method_3_code 2 (some .int) (ci := 8) (q := (RX8, TX8, 2)) (b := b66) (d' := 2) (av := [.int x2]) (rest := [va_rf (some t0)]) (by rw [ch_rs hb65]; rfl) dX1_goes_329 q1389 q1152 rfl q1153 q1154 can_X8_get (Nat.le_of_ble_eq_true rfl) (ch_hw (Nat.le_of_ble_eq_true rfl)) (ch_rtg hb65) (cp_kI (v := v67) (w1 := w) (fun Q' hq => s_X8_get hp68 hq) ?_))))
    refine ch_bipush _ 24 dX1_goes_332 rfl (cp_icmp_ne _ _ (tgt := 341) dX1_goes_334 rfl h (fun h => ?_) (fun h => ?_))
    · exact ch_iconst _ 0 dX1_goes_341 rfl (ch_FT.wk (ch_wN (ch_wN (ch_wN (ch_wN (ch_wN (ch_wN (ch_wN (ch_wN (ch_wN (ch_wN ch_w0)))))))))) (s_X1_goes_342  h hk))
    · exact ch_iconst _ 1 dX1_goes_337 rfl (ch_goto 342 dX1_goes_338 rfl (ch_FT.wk (ch_wN (ch_wN (ch_wN (ch_wN (ch_wN (ch_wN (ch_wN (ch_wN (ch_wN (ch_wN ch_w0)))))))))) (s_X1_goes_342  h hk)))
  replace h := ch_ifF e9 h
  by_cases e10 : v3 = 26
  · have h := ch_ifT e10 h
    refine ch_tableIn _ (off := 270) (tgt := 280) dX1_goes_10 (by rw [e10]; decide) (by rw [e10]; decide) (by rw [e10]; rfl) rfl ?_
    obtain ⟨_, hb69, h⟩ := ch_bd h
    obtain ⟨p70, hp71, h⟩ := ch_bd h
    refine ch_aload_n 0 (some t0) dX1_goes_280 rfl (ch_iv yX1_pop prog_5_method_13_code 1 (some .long) (ci := 1) (q := (RX1, TX1, 22)) (b := t0) (d' := 2) (av := []) (rest := []) rfl dX1_goes_281 q1425 q1427 rfl qs81 q1428 can_X1_pop (Nat.le_of_ble_eq_true rfl) (Nat.le_of_ble_eq_true rfl) (ch_rts hb69) (cp_kL (v := p70.1) (w1 := p70.2) (fun Q' hq => s_X1_pop hp71 hq) ?_))
    obtain ⟨v72, hp73, h⟩ := ch_bd h
    refine ch_lstore 8 _ (ls1 := [some (va_rf (some t0)), some (va_rf x1), some (.int x2), some (.int x3), some (.int (x2 + 1)), none, none, none, some (.long p70.1), none]) dX1_goes_284 (Nat.le_of_ble_eq_true rfl) rfl (ch_lload 8 _ dX1_goes_286 rfl (ch_isT yX0_placeOf prog_1_method_3_code 2 (some .int) (d' := 2) (av := [.long p70.1]) (rest := []) rfl dX1_goes_288 q1338 q1339 q200 q1340 can_X0_placeOf (Nat.le_of_ble_eq_true rfl) (Nat.le_of_ble_eq_true rfl) (cp_kI (v := v72) (w1 := p70.2) (fun Q' hq => s_X0_placeOf hp73 hq) ?_)))
    refine ch_iconst _ (-1) dX1_goes_291 rfl (cp_icmp_ne _ _ (tgt := 303) dX1_goes_292 rfl h (fun h => ?_) (fun h => ?_))
    · refine ch_aload_n 0 (some t0) dX1_goes_303 rfl (cp_gR (ci := 1) (k := 21) dX1_goes_304 fl_X1_44 rfl h (fun v74 h => ?_))
      obtain ⟨b76, hb75, h⟩ := ch_bd h
      obtain ⟨p77, hp78, h⟩ := ch_bd h
      refine ch_lload 8 _ dX1_goes_307 rfl (ch_ivN yX2_of prog_11_method_2_code 3 (some (.object "ClassHouse$Thrown")) (ci := 2) (q := (RX2, TX2, 7)) (b := b76) (d' := 2) (av := [.long p70.1]) (rest := []) (by rw [ch_rs hb75]; rfl) dX1_goes_309 q1437 q1439 rfl qs84 q1440 can_X2_of (Nat.le_of_ble_eq_true rfl) (Nat.le_of_ble_eq_true rfl) (ch_rtg hb75) (cp_kR (v := p77.1) (w1 := p77.2) (fun Q' hq => s_X2_of hp78 hq) ?_))
      obtain ⟨a79, ha, h⟩ := ch_bd h
      obtain rfl := Option.some.inj h
      exact ch_athrow p77.1 ha dX1_goes_312 rfl hk
    · obtain ⟨_, hb80, h⟩ := ch_bd h
      obtain ⟨p81, hp82, h⟩ := ch_bd h
      refine ch_aload_n 0 (some t0) dX1_goes_295 rfl (ch_iconst _ 0 dX1_goes_296 rfl (ch_iv yX1_fault prog_5_method_2_code 2 (some (.object "ClassHouse$Thrown")) (ci := 1) (q := (RX1, TX1, 22)) (b := t0) (d' := 3) (av := [.int 0]) (rest := []) rfl dX1_goes_297 q1433 q1435 rfl qs83 q1436 can_X1_fault (Nat.le_of_ble_eq_true rfl) (Nat.le_of_ble_eq_true rfl) (ch_rts hb80) (cp_kR (v := p81.1) (w1 := p81.2) (fun Q' hq => s_X1_fault hp82 hq) ?_)))
      obtain ⟨a83, ha, h⟩ := ch_bd h
      obtain rfl := Option.some.inj h
      exact ch_goto 312 dX1_goes_300 rfl (ch_athrow p81.1 ha dX1_goes_312 rfl hk)
  replace h := ch_ifF e10 h
  by_cases e11 : v3 = 27
  · have h := ch_ifT e11 h
    refine ch_tableIn _ (off := 259) (tgt := 269) dX1_goes_10 (by rw [e11]; decide) (by rw [e11]; decide) (by rw [e11]; rfl) rfl ?_
    obtain ⟨_, hb84, h⟩ := ch_bd h
    obtain ⟨p85, hp86, h⟩ := ch_bd h
    refine ch_aload_n 0 (some t0) dX1_goes_269 rfl (ch_aload_n 0 (some t0) dX1_goes_270 rfl (ch_iv yX1_popNumber prog_5_method_14_code 1 (some .int) (ci := 1) (q := (RX1, TX1, 22)) (b := t0) (d' := 3) (av := []) (rest := [va_rf (some t0)]) rfl dX1_goes_271 q1445 q1447 rfl qs86 q1448 can_X1_popNumber (Nat.le_of_ble_eq_true rfl) (ch_hw (Nat.le_of_ble_eq_true rfl)) (ch_rts hb84) (cp_kI (v := p85.1) (w1 := p85.2) (fun Q' hq => s_X1_popNumber hp86 hq) ?_)))
    obtain ⟨_, hb87, h⟩ := ch_bd h
    obtain ⟨p88, hp89, h⟩ := ch_bd h
    refine ch_iv yX1_show prog_5_method_29_code 2 none (ci := 1) (q := (RX1, TX1, 22)) (b := t0) (d' := 2) (av := [.int p85.1]) (rest := []) rfl dX1_goes_274 q1493 q1495 rfl qs97 q1496 can_X1_show (Nat.le_of_ble_eq_true rfl) (Nat.le_of_ble_eq_true rfl) (ch_rts hb87) (cp_kV (w1 := p88) (fun Q' hq => s_X1_show hp89 hq) ?_)
    exact ch_goto 346 dX1_goes_277 rfl (ch_FT.wk (ch_wS (ch_wN (ch_wN (ch_wN (ch_wS (ch_wN (ch_wN (ch_wN (ch_wN (ch_wN ch_w0)))))))))) (s_X1_goes_346  h hk))
  replace h := ch_ifF e11 h
  refine ch_tableOut _ (tgt := 326) dX1_goes_10 (by have t0 := ch_ne (n := 16) e0 rfl; have t1 := ch_ne (n := 17) e1 rfl; have t2 := ch_ne (n := 18) e2 rfl; have t3 := ch_ne (n := 19) e3 rfl; have t4 := ch_ne (n := 20) e4 rfl; have t5 := ch_ne (n := 21) e5 rfl; have t6 := ch_ne (n := 22) e6 rfl; have t7 := ch_ne (n := 23) e7 rfl; have t8 := ch_ne (n := 24) e8 rfl; have t9 := ch_ne (n := 25) e9 rfl; have t10 := ch_ne (n := 26) e10 rfl; have t11 := ch_ne (n := 27) e11 rfl; omega) rfl ?_
  obtain ⟨b6, hb5, h⟩ := ch_bd h
  obtain ⟨v7, hp8, h⟩ := ch_bd h
  refine ch_aload_n 0 (some t0) dX1_goes_326 rfl (ch_aload_n 1 x1 dX1_goes_327 rfl (ch_iload_n 2 _ dX1_goes_328 rfl (ch_iv yX8_get prog_9_method_3_code 2 (some .int) (ci := 8) (q := (RX8, TX8, 2)) (b := b6) (d' := 2) (av := [.int x2]) (rest := [va_rf (some t0)]) (by rw [ch_rs hb5]; rfl) dX1_goes_329 q1389 q1152 rfl q1153 q1154 can_X8_get (Nat.le_of_ble_eq_true rfl) (ch_hw (Nat.le_of_ble_eq_true rfl)) (ch_rtg hb5) (cp_kI (v := v7) (w1 := w) (fun Q' hq => s_X8_get hp8 hq) ?_))))
  refine ch_bipush _ 24 dX1_goes_332 rfl (cp_icmp_ne _ _ (tgt := 341) dX1_goes_334 rfl h (fun h => ?_) (fun h => ?_))
  · exact ch_iconst _ 0 dX1_goes_341 rfl (ch_FT.wk (ch_wN (ch_wN (ch_wN (ch_wN (ch_wN (ch_wN (ch_wN (ch_wN (ch_wN (ch_wN ch_w0)))))))))) (s_X1_goes_342  h hk))
  · exact ch_iconst _ 1 dX1_goes_337 rfl (ch_goto 342 dX1_goes_338 rfl (ch_FT.wk (ch_wN (ch_wN (ch_wN (ch_wN (ch_wN (ch_wN (ch_wN (ch_wN (ch_wN (ch_wN ch_w0)))))))))) (s_X1_goes_342  h hk)))

theorem bX1_does_0 : ch_ck cX1_does 0 [42, 180, 0, 24, 42, 180, 0, 81, 4, 100, 50, 180, 0, 240, 76, 42] := ch_ckof (by decide +kernel)
theorem bX1_does_1 : ch_ck cX1_does 16 [180, 0, 28, 42, 180, 0, 81, 4, 100, 46, 61, 43, 28, 4, 96, 182] := ch_ckof (by decide +kernel)
theorem bX1_does_2 : ch_ck cX1_does 32 [0, 231, 62, 28, 4, 96, 54, 4, 43, 28, 182, 0, 231, 170, 0, 0] := ch_ckof (by decide +kernel)
theorem bX1_does_3 : ch_ck cX1_does 48 [0, 0, 1, 80, 0, 0, 0, 0, 0, 0, 0, 15, 0, 0, 0, 79] := ch_ckof (by decide +kernel)
theorem bX1_does_4 : ch_ck cX1_does 64 [0, 0, 0, 93, 0, 0, 0, 103, 0, 0, 0, 115, 0, 0, 0, 129] := ch_ckof (by decide +kernel)
theorem bX1_does_5 : ch_ck cX1_does 80 [0, 0, 0, 144, 0, 0, 0, 171, 0, 0, 0, 198, 0, 0, 0, 205] := ch_ckof (by decide +kernel)
theorem bX1_does_6 : ch_ck cX1_does 96 [0, 0, 0, 231, 0, 0, 0, 246, 0, 0, 0, 253, 0, 0, 1, 8] := ch_ckof (by decide +kernel)
theorem bX1_does_7 : ch_ck cX1_does 112 [0, 0, 1, 38, 0, 0, 1, 53, 0, 0, 1, 69, 42, 29, 184, 0] := ch_ckof (by decide +kernel)
theorem bX1_does_8 : ch_ck cX1_does 128 [253, 182, 0, 108, 132, 4, 1, 167, 0, 254, 42, 20, 0, 162, 182, 0] := ch_ckof (by decide +kernel)
theorem bX1_does_9 : ch_ck cX1_does 144 [108, 167, 0, 244, 42, 42, 3, 182, 0, 250, 182, 0, 108, 167, 0, 232] := ch_ckof (by decide +kernel)
theorem bX1_does_10 : ch_ck cX1_does 160 [42, 42, 182, 1, 0, 184, 0, 253, 182, 0, 108, 167, 0, 218, 42, 42] := ch_ckof (by decide +kernel)
theorem bX1_does_11 : ch_ck cX1_does 176 [29, 182, 0, 250, 182, 0, 108, 132, 4, 1, 167, 0, 203, 42, 42, 180] := ch_ckof (by decide +kernel)
theorem bX1_does_12 : ch_ck cX1_does 192 [0, 9, 42, 3, 182, 0, 250, 184, 0, 172, 5, 96, 29, 96, 47, 182] := ch_ckof (by decide +kernel)
theorem bX1_does_13 : ch_ck cX1_does 208 [0, 108, 132, 4, 1, 167, 0, 176, 42, 42, 180, 0, 9, 42, 42, 182] := ch_ckof (by decide +kernel)
theorem bX1_does_14 : ch_ck cX1_does 224 [0, 190, 182, 1, 3, 5, 96, 29, 96, 47, 182, 0, 108, 132, 4, 1] := ch_ckof (by decide +kernel)
theorem bX1_does_15 : ch_ck cX1_does 240 [167, 0, 149, 42, 182, 1, 6, 167, 0, 142, 42, 42, 180, 0, 9, 42] := ch_ckof (by decide +kernel)
theorem bX1_does_16 : ch_ck cX1_does 256 [42, 182, 0, 190, 182, 1, 3, 4, 96, 47, 136, 184, 0, 253, 182, 0] := ch_ckof (by decide +kernel)
theorem bX1_does_17 : ch_ck cX1_does 272 [108, 167, 0, 116, 42, 42, 29, 182, 0, 105, 182, 0, 108, 132, 4, 1] := ch_ckof (by decide +kernel)
theorem bX1_does_18 : ch_ck cX1_does 288 [167, 0, 101, 42, 182, 1, 9, 167, 0, 94, 42, 29, 182, 1, 12, 132] := ch_ckof (by decide +kernel)
theorem bX1_does_19 : ch_ck cX1_does 304 [4, 1, 167, 0, 83, 42, 42, 42, 182, 0, 190, 29, 182, 0, 233, 153] := ch_ckof (by decide +kernel)
theorem bX1_does_20 : ch_ck cX1_does 320 [0, 7, 4, 167, 0, 4, 3, 184, 0, 253, 182, 0, 108, 132, 4, 1] := ch_ckof (by decide +kernel)
theorem bX1_does_21 : ch_ck cX1_does 336 [167, 0, 53, 42, 42, 182, 1, 15, 116, 184, 0, 253, 182, 0, 108, 167] := ch_ckof (by decide +kernel)
theorem bX1_does_22 : ch_ck cX1_does 352 [0, 38, 42, 4, 42, 182, 1, 15, 100, 184, 0, 253, 182, 0, 108, 167] := ch_ckof (by decide +kernel)
theorem bX1_does_23 : ch_ck cX1_does 368 [0, 22, 42, 29, 182, 1, 18, 132, 4, 1, 167, 0, 11, 42, 43, 28] := ch_ckof (by decide +kernel)
theorem bX1_does_24 : ch_ck cX1_does 384 [29, 182, 1, 21, 177, 42, 180, 0, 28, 42, 180, 0, 81, 4, 100, 21] := ch_ckof (by decide +kernel)
theorem bX1_does_25 : ch_ck cX1_does 400 [4, 79, 177] := ch_ckof (by decide +kernel)
theorem dX1_does_0 : decode cX1_does 0 = .ok (.aload_n 0, 1) := dz_42 (bX1_does_0 0 _ rfl)
theorem dX1_does_1 : decode cX1_does 1 = .ok (.getfield 24, 3) := dz_180 (bX1_does_0 1 _ rfl) (bX1_does_0 2 _ rfl) (bX1_does_0 3 _ rfl)
theorem dX1_does_4 : decode cX1_does 4 = .ok (.aload_n 0, 1) := dz_42 (bX1_does_0 4 _ rfl)
theorem dX1_does_5 : decode cX1_does 5 = .ok (.getfield 81, 3) := dz_180 (bX1_does_0 5 _ rfl) (bX1_does_0 6 _ rfl) (bX1_does_0 7 _ rfl)
theorem dX1_does_8 : decode cX1_does 8 = .ok (.iconst 1, 1) := dz_4 (bX1_does_0 8 _ rfl)
theorem dX1_does_9 : decode cX1_does 9 = .ok (.isub, 1) := dz_100 (bX1_does_0 9 _ rfl)
theorem dX1_does_10 : decode cX1_does 10 = .ok (.aaload, 1) := dz_50 (bX1_does_0 10 _ rfl)
theorem dX1_does_11 : decode cX1_does 11 = .ok (.getfield 240, 3) := dz_180 (bX1_does_0 11 _ rfl) (bX1_does_0 12 _ rfl) (bX1_does_0 13 _ rfl)
theorem dX1_does_14 : decode cX1_does 14 = .ok (.astore_n 1, 1) := dz_76 (bX1_does_0 14 _ rfl)
theorem dX1_does_15 : decode cX1_does 15 = .ok (.aload_n 0, 1) := dz_42 (bX1_does_0 15 _ rfl)
theorem dX1_does_16 : decode cX1_does 16 = .ok (.getfield 28, 3) := dz_180 (bX1_does_1 0 _ rfl) (bX1_does_1 1 _ rfl) (bX1_does_1 2 _ rfl)
theorem dX1_does_19 : decode cX1_does 19 = .ok (.aload_n 0, 1) := dz_42 (bX1_does_1 3 _ rfl)
theorem dX1_does_20 : decode cX1_does 20 = .ok (.getfield 81, 3) := dz_180 (bX1_does_1 4 _ rfl) (bX1_does_1 5 _ rfl) (bX1_does_1 6 _ rfl)
theorem dX1_does_23 : decode cX1_does 23 = .ok (.iconst 1, 1) := dz_4 (bX1_does_1 7 _ rfl)
theorem dX1_does_24 : decode cX1_does 24 = .ok (.isub, 1) := dz_100 (bX1_does_1 8 _ rfl)
theorem dX1_does_25 : decode cX1_does 25 = .ok (.iaload, 1) := dz_46 (bX1_does_1 9 _ rfl)
theorem dX1_does_26 : decode cX1_does 26 = .ok (.istore_n 2, 1) := dz_61 (bX1_does_1 10 _ rfl)
theorem dX1_does_27 : decode cX1_does 27 = .ok (.aload_n 1, 1) := dz_43 (bX1_does_1 11 _ rfl)
theorem dX1_does_28 : decode cX1_does 28 = .ok (.iload_n 2, 1) := dz_28 (bX1_does_1 12 _ rfl)
theorem dX1_does_29 : decode cX1_does 29 = .ok (.iconst 1, 1) := dz_4 (bX1_does_1 13 _ rfl)
theorem dX1_does_30 : decode cX1_does 30 = .ok (.iadd, 1) := dz_96 (bX1_does_1 14 _ rfl)
theorem dX1_does_31 : decode cX1_does 31 = .ok (.invokevirtual 231, 3) := dz_182 (bX1_does_1 15 _ rfl) (bX1_does_2 0 _ rfl) (bX1_does_2 1 _ rfl)
theorem dX1_does_34 : decode cX1_does 34 = .ok (.istore_n 3, 1) := dz_62 (bX1_does_2 2 _ rfl)
theorem dX1_does_35 : decode cX1_does 35 = .ok (.iload_n 2, 1) := dz_28 (bX1_does_2 3 _ rfl)
theorem dX1_does_36 : decode cX1_does 36 = .ok (.iconst 1, 1) := dz_4 (bX1_does_2 4 _ rfl)
theorem dX1_does_37 : decode cX1_does 37 = .ok (.iadd, 1) := dz_96 (bX1_does_2 5 _ rfl)
theorem dX1_does_38 : decode cX1_does 38 = .ok (.istore 4, 2) := dz_54 (bX1_does_2 6 _ rfl) (bX1_does_2 7 _ rfl)
theorem dX1_does_40 : decode cX1_does 40 = .ok (.aload_n 1, 1) := dz_43 (bX1_does_2 8 _ rfl)
theorem dX1_does_41 : decode cX1_does 41 = .ok (.iload_n 2, 1) := dz_28 (bX1_does_2 9 _ rfl)
theorem dX1_does_42 : decode cX1_does 42 = .ok (.invokevirtual 231, 3) := dz_182 (bX1_does_2 10 _ rfl) (bX1_does_2 11 _ rfl) (bX1_does_2 12 _ rfl)
theorem dX1_does_45 : decode cX1_does 45 = .ok (.tableswitch 336 0 15 #[79, 93, 103, 115, 129, 144, 171, 198, 205, 231, 246, 253, 264, 294, 309, 325], 79) := by decide +kernel
theorem dX1_does_124 : decode cX1_does 124 = .ok (.aload_n 0, 1) := dz_42 (bX1_does_7 12 _ rfl)
theorem dX1_does_125 : decode cX1_does 125 = .ok (.iload_n 3, 1) := dz_29 (bX1_does_7 13 _ rfl)
theorem dX1_does_126 : decode cX1_does 126 = .ok (.invokestatic 253, 3) := dz_184 (bX1_does_7 14 _ rfl) (bX1_does_7 15 _ rfl) (bX1_does_8 0 _ rfl)
theorem dX1_does_129 : decode cX1_does 129 = .ok (.invokevirtual 108, 3) := dz_182 (bX1_does_8 1 _ rfl) (bX1_does_8 2 _ rfl) (bX1_does_8 3 _ rfl)
theorem dX1_does_132 : decode cX1_does 132 = .ok (.iinc 4 1, 3) := dz_132 (bX1_does_8 4 _ rfl) (bX1_does_8 5 _ rfl) (bX1_does_8 6 _ rfl)
theorem dX1_does_135 : decode cX1_does 135 = .ok (.goto 254, 3) := dz_167 (bX1_does_8 7 _ rfl) (bX1_does_8 8 _ rfl) (bX1_does_8 9 _ rfl)
theorem dX1_does_138 : decode cX1_does 138 = .ok (.aload_n 0, 1) := dz_42 (bX1_does_8 10 _ rfl)
theorem dX1_does_139 : decode cX1_does 139 = .ok (.ldc2_w 162, 3) := dz_20 (bX1_does_8 11 _ rfl) (bX1_does_8 12 _ rfl) (bX1_does_8 13 _ rfl)
theorem dX1_does_142 : decode cX1_does 142 = .ok (.invokevirtual 108, 3) := dz_182 (bX1_does_8 14 _ rfl) (bX1_does_8 15 _ rfl) (bX1_does_9 0 _ rfl)
theorem dX1_does_145 : decode cX1_does 145 = .ok (.goto 244, 3) := dz_167 (bX1_does_9 1 _ rfl) (bX1_does_9 2 _ rfl) (bX1_does_9 3 _ rfl)
theorem dX1_does_148 : decode cX1_does 148 = .ok (.aload_n 0, 1) := dz_42 (bX1_does_9 4 _ rfl)
theorem dX1_does_149 : decode cX1_does 149 = .ok (.aload_n 0, 1) := dz_42 (bX1_does_9 5 _ rfl)
theorem dX1_does_150 : decode cX1_does 150 = .ok (.iconst 0, 1) := dz_3 (bX1_does_9 6 _ rfl)
theorem dX1_does_151 : decode cX1_does 151 = .ok (.invokevirtual 250, 3) := dz_182 (bX1_does_9 7 _ rfl) (bX1_does_9 8 _ rfl) (bX1_does_9 9 _ rfl)
theorem dX1_does_154 : decode cX1_does 154 = .ok (.invokevirtual 108, 3) := dz_182 (bX1_does_9 10 _ rfl) (bX1_does_9 11 _ rfl) (bX1_does_9 12 _ rfl)
theorem dX1_does_157 : decode cX1_does 157 = .ok (.goto 232, 3) := dz_167 (bX1_does_9 13 _ rfl) (bX1_does_9 14 _ rfl) (bX1_does_9 15 _ rfl)
theorem dX1_does_160 : decode cX1_does 160 = .ok (.aload_n 0, 1) := dz_42 (bX1_does_10 0 _ rfl)
theorem dX1_does_161 : decode cX1_does 161 = .ok (.aload_n 0, 1) := dz_42 (bX1_does_10 1 _ rfl)
theorem dX1_does_162 : decode cX1_does 162 = .ok (.invokevirtual 256, 3) := dz_182 (bX1_does_10 2 _ rfl) (bX1_does_10 3 _ rfl) (bX1_does_10 4 _ rfl)
theorem dX1_does_165 : decode cX1_does 165 = .ok (.invokestatic 253, 3) := dz_184 (bX1_does_10 5 _ rfl) (bX1_does_10 6 _ rfl) (bX1_does_10 7 _ rfl)
theorem dX1_does_168 : decode cX1_does 168 = .ok (.invokevirtual 108, 3) := dz_182 (bX1_does_10 8 _ rfl) (bX1_does_10 9 _ rfl) (bX1_does_10 10 _ rfl)
theorem dX1_does_171 : decode cX1_does 171 = .ok (.goto 218, 3) := dz_167 (bX1_does_10 11 _ rfl) (bX1_does_10 12 _ rfl) (bX1_does_10 13 _ rfl)
theorem dX1_does_174 : decode cX1_does 174 = .ok (.aload_n 0, 1) := dz_42 (bX1_does_10 14 _ rfl)
theorem dX1_does_175 : decode cX1_does 175 = .ok (.aload_n 0, 1) := dz_42 (bX1_does_10 15 _ rfl)
theorem dX1_does_176 : decode cX1_does 176 = .ok (.iload_n 3, 1) := dz_29 (bX1_does_11 0 _ rfl)
theorem dX1_does_177 : decode cX1_does 177 = .ok (.invokevirtual 250, 3) := dz_182 (bX1_does_11 1 _ rfl) (bX1_does_11 2 _ rfl) (bX1_does_11 3 _ rfl)
theorem dX1_does_180 : decode cX1_does 180 = .ok (.invokevirtual 108, 3) := dz_182 (bX1_does_11 4 _ rfl) (bX1_does_11 5 _ rfl) (bX1_does_11 6 _ rfl)
theorem dX1_does_183 : decode cX1_does 183 = .ok (.iinc 4 1, 3) := dz_132 (bX1_does_11 7 _ rfl) (bX1_does_11 8 _ rfl) (bX1_does_11 9 _ rfl)
theorem dX1_does_186 : decode cX1_does 186 = .ok (.goto 203, 3) := dz_167 (bX1_does_11 10 _ rfl) (bX1_does_11 11 _ rfl) (bX1_does_11 12 _ rfl)
theorem dX1_does_189 : decode cX1_does 189 = .ok (.aload_n 0, 1) := dz_42 (bX1_does_11 13 _ rfl)
theorem dX1_does_190 : decode cX1_does 190 = .ok (.aload_n 0, 1) := dz_42 (bX1_does_11 14 _ rfl)
theorem dX1_does_191 : decode cX1_does 191 = .ok (.getfield 9, 3) := dz_180 (bX1_does_11 15 _ rfl) (bX1_does_12 0 _ rfl) (bX1_does_12 1 _ rfl)
theorem dX1_does_194 : decode cX1_does 194 = .ok (.aload_n 0, 1) := dz_42 (bX1_does_12 2 _ rfl)
theorem dX1_does_195 : decode cX1_does 195 = .ok (.iconst 0, 1) := dz_3 (bX1_does_12 3 _ rfl)
theorem dX1_does_196 : decode cX1_does 196 = .ok (.invokevirtual 250, 3) := dz_182 (bX1_does_12 4 _ rfl) (bX1_does_12 5 _ rfl) (bX1_does_12 6 _ rfl)
theorem dX1_does_199 : decode cX1_does 199 = .ok (.invokestatic 172, 3) := dz_184 (bX1_does_12 7 _ rfl) (bX1_does_12 8 _ rfl) (bX1_does_12 9 _ rfl)
theorem dX1_does_202 : decode cX1_does 202 = .ok (.iconst 2, 1) := dz_5 (bX1_does_12 10 _ rfl)
theorem dX1_does_203 : decode cX1_does 203 = .ok (.iadd, 1) := dz_96 (bX1_does_12 11 _ rfl)
theorem dX1_does_204 : decode cX1_does 204 = .ok (.iload_n 3, 1) := dz_29 (bX1_does_12 12 _ rfl)
theorem dX1_does_205 : decode cX1_does 205 = .ok (.iadd, 1) := dz_96 (bX1_does_12 13 _ rfl)
theorem dX1_does_206 : decode cX1_does 206 = .ok (.laload, 1) := dz_47 (bX1_does_12 14 _ rfl)
theorem dX1_does_207 : decode cX1_does 207 = .ok (.invokevirtual 108, 3) := dz_182 (bX1_does_12 15 _ rfl) (bX1_does_13 0 _ rfl) (bX1_does_13 1 _ rfl)
theorem dX1_does_210 : decode cX1_does 210 = .ok (.iinc 4 1, 3) := dz_132 (bX1_does_13 2 _ rfl) (bX1_does_13 3 _ rfl) (bX1_does_13 4 _ rfl)
theorem dX1_does_213 : decode cX1_does 213 = .ok (.goto 176, 3) := dz_167 (bX1_does_13 5 _ rfl) (bX1_does_13 6 _ rfl) (bX1_does_13 7 _ rfl)
theorem dX1_does_216 : decode cX1_does 216 = .ok (.aload_n 0, 1) := dz_42 (bX1_does_13 8 _ rfl)
theorem dX1_does_217 : decode cX1_does 217 = .ok (.aload_n 0, 1) := dz_42 (bX1_does_13 9 _ rfl)
theorem dX1_does_218 : decode cX1_does 218 = .ok (.getfield 9, 3) := dz_180 (bX1_does_13 10 _ rfl) (bX1_does_13 11 _ rfl) (bX1_does_13 12 _ rfl)
theorem dX1_does_221 : decode cX1_does 221 = .ok (.aload_n 0, 1) := dz_42 (bX1_does_13 13 _ rfl)
theorem dX1_does_222 : decode cX1_does 222 = .ok (.aload_n 0, 1) := dz_42 (bX1_does_13 14 _ rfl)
theorem dX1_does_223 : decode cX1_does 223 = .ok (.invokevirtual 190, 3) := dz_182 (bX1_does_13 15 _ rfl) (bX1_does_14 0 _ rfl) (bX1_does_14 1 _ rfl)
theorem dX1_does_226 : decode cX1_does 226 = .ok (.invokevirtual 259, 3) := dz_182 (bX1_does_14 2 _ rfl) (bX1_does_14 3 _ rfl) (bX1_does_14 4 _ rfl)
theorem dX1_does_229 : decode cX1_does 229 = .ok (.iconst 2, 1) := dz_5 (bX1_does_14 5 _ rfl)
theorem dX1_does_230 : decode cX1_does 230 = .ok (.iadd, 1) := dz_96 (bX1_does_14 6 _ rfl)
theorem dX1_does_231 : decode cX1_does 231 = .ok (.iload_n 3, 1) := dz_29 (bX1_does_14 7 _ rfl)
theorem dX1_does_232 : decode cX1_does 232 = .ok (.iadd, 1) := dz_96 (bX1_does_14 8 _ rfl)
theorem dX1_does_233 : decode cX1_does 233 = .ok (.laload, 1) := dz_47 (bX1_does_14 9 _ rfl)
theorem dX1_does_234 : decode cX1_does 234 = .ok (.invokevirtual 108, 3) := dz_182 (bX1_does_14 10 _ rfl) (bX1_does_14 11 _ rfl) (bX1_does_14 12 _ rfl)
theorem dX1_does_237 : decode cX1_does 237 = .ok (.iinc 4 1, 3) := dz_132 (bX1_does_14 13 _ rfl) (bX1_does_14 14 _ rfl) (bX1_does_14 15 _ rfl)
theorem dX1_does_240 : decode cX1_does 240 = .ok (.goto 149, 3) := dz_167 (bX1_does_15 0 _ rfl) (bX1_does_15 1 _ rfl) (bX1_does_15 2 _ rfl)
theorem dX1_does_243 : decode cX1_does 243 = .ok (.aload_n 0, 1) := dz_42 (bX1_does_15 3 _ rfl)
theorem dX1_does_244 : decode cX1_does 244 = .ok (.invokevirtual 262, 3) := dz_182 (bX1_does_15 4 _ rfl) (bX1_does_15 5 _ rfl) (bX1_does_15 6 _ rfl)
theorem dX1_does_247 : decode cX1_does 247 = .ok (.goto 142, 3) := dz_167 (bX1_does_15 7 _ rfl) (bX1_does_15 8 _ rfl) (bX1_does_15 9 _ rfl)
theorem dX1_does_250 : decode cX1_does 250 = .ok (.aload_n 0, 1) := dz_42 (bX1_does_15 10 _ rfl)
theorem dX1_does_251 : decode cX1_does 251 = .ok (.aload_n 0, 1) := dz_42 (bX1_does_15 11 _ rfl)
theorem dX1_does_252 : decode cX1_does 252 = .ok (.getfield 9, 3) := dz_180 (bX1_does_15 12 _ rfl) (bX1_does_15 13 _ rfl) (bX1_does_15 14 _ rfl)
theorem dX1_does_255 : decode cX1_does 255 = .ok (.aload_n 0, 1) := dz_42 (bX1_does_15 15 _ rfl)
theorem dX1_does_256 : decode cX1_does 256 = .ok (.aload_n 0, 1) := dz_42 (bX1_does_16 0 _ rfl)
theorem dX1_does_257 : decode cX1_does 257 = .ok (.invokevirtual 190, 3) := dz_182 (bX1_does_16 1 _ rfl) (bX1_does_16 2 _ rfl) (bX1_does_16 3 _ rfl)
theorem dX1_does_260 : decode cX1_does 260 = .ok (.invokevirtual 259, 3) := dz_182 (bX1_does_16 4 _ rfl) (bX1_does_16 5 _ rfl) (bX1_does_16 6 _ rfl)
theorem dX1_does_263 : decode cX1_does 263 = .ok (.iconst 1, 1) := dz_4 (bX1_does_16 7 _ rfl)
theorem dX1_does_264 : decode cX1_does 264 = .ok (.iadd, 1) := dz_96 (bX1_does_16 8 _ rfl)
theorem dX1_does_265 : decode cX1_does 265 = .ok (.laload, 1) := dz_47 (bX1_does_16 9 _ rfl)
theorem dX1_does_266 : decode cX1_does 266 = .ok (.l2i, 1) := dz_136 (bX1_does_16 10 _ rfl)
theorem dX1_does_267 : decode cX1_does 267 = .ok (.invokestatic 253, 3) := dz_184 (bX1_does_16 11 _ rfl) (bX1_does_16 12 _ rfl) (bX1_does_16 13 _ rfl)
theorem dX1_does_270 : decode cX1_does 270 = .ok (.invokevirtual 108, 3) := dz_182 (bX1_does_16 14 _ rfl) (bX1_does_16 15 _ rfl) (bX1_does_17 0 _ rfl)
theorem dX1_does_273 : decode cX1_does 273 = .ok (.goto 116, 3) := dz_167 (bX1_does_17 1 _ rfl) (bX1_does_17 2 _ rfl) (bX1_does_17 3 _ rfl)
theorem dX1_does_276 : decode cX1_does 276 = .ok (.aload_n 0, 1) := dz_42 (bX1_does_17 4 _ rfl)
theorem dX1_does_277 : decode cX1_does 277 = .ok (.aload_n 0, 1) := dz_42 (bX1_does_17 5 _ rfl)
theorem dX1_does_278 : decode cX1_does 278 = .ok (.iload_n 3, 1) := dz_29 (bX1_does_17 6 _ rfl)
theorem dX1_does_279 : decode cX1_does 279 = .ok (.invokevirtual 105, 3) := dz_182 (bX1_does_17 7 _ rfl) (bX1_does_17 8 _ rfl) (bX1_does_17 9 _ rfl)
theorem dX1_does_282 : decode cX1_does 282 = .ok (.invokevirtual 108, 3) := dz_182 (bX1_does_17 10 _ rfl) (bX1_does_17 11 _ rfl) (bX1_does_17 12 _ rfl)
theorem dX1_does_285 : decode cX1_does 285 = .ok (.iinc 4 1, 3) := dz_132 (bX1_does_17 13 _ rfl) (bX1_does_17 14 _ rfl) (bX1_does_17 15 _ rfl)
theorem dX1_does_288 : decode cX1_does 288 = .ok (.goto 101, 3) := dz_167 (bX1_does_18 0 _ rfl) (bX1_does_18 1 _ rfl) (bX1_does_18 2 _ rfl)
theorem dX1_does_291 : decode cX1_does 291 = .ok (.aload_n 0, 1) := dz_42 (bX1_does_18 3 _ rfl)
theorem dX1_does_292 : decode cX1_does 292 = .ok (.invokevirtual 265, 3) := dz_182 (bX1_does_18 4 _ rfl) (bX1_does_18 5 _ rfl) (bX1_does_18 6 _ rfl)
theorem dX1_does_295 : decode cX1_does 295 = .ok (.goto 94, 3) := dz_167 (bX1_does_18 7 _ rfl) (bX1_does_18 8 _ rfl) (bX1_does_18 9 _ rfl)
theorem dX1_does_298 : decode cX1_does 298 = .ok (.aload_n 0, 1) := dz_42 (bX1_does_18 10 _ rfl)
theorem dX1_does_299 : decode cX1_does 299 = .ok (.iload_n 3, 1) := dz_29 (bX1_does_18 11 _ rfl)
theorem dX1_does_300 : decode cX1_does 300 = .ok (.invokevirtual 268, 3) := dz_182 (bX1_does_18 12 _ rfl) (bX1_does_18 13 _ rfl) (bX1_does_18 14 _ rfl)
theorem dX1_does_303 : decode cX1_does 303 = .ok (.iinc 4 1, 3) := dz_132 (bX1_does_18 15 _ rfl) (bX1_does_19 0 _ rfl) (bX1_does_19 1 _ rfl)
theorem dX1_does_306 : decode cX1_does 306 = .ok (.goto 83, 3) := dz_167 (bX1_does_19 2 _ rfl) (bX1_does_19 3 _ rfl) (bX1_does_19 4 _ rfl)
theorem dX1_does_309 : decode cX1_does 309 = .ok (.aload_n 0, 1) := dz_42 (bX1_does_19 5 _ rfl)
theorem dX1_does_310 : decode cX1_does 310 = .ok (.aload_n 0, 1) := dz_42 (bX1_does_19 6 _ rfl)
theorem dX1_does_311 : decode cX1_does 311 = .ok (.aload_n 0, 1) := dz_42 (bX1_does_19 7 _ rfl)
theorem dX1_does_312 : decode cX1_does 312 = .ok (.invokevirtual 190, 3) := dz_182 (bX1_does_19 8 _ rfl) (bX1_does_19 9 _ rfl) (bX1_does_19 10 _ rfl)
theorem dX1_does_315 : decode cX1_does 315 = .ok (.iload_n 3, 1) := dz_29 (bX1_does_19 11 _ rfl)
theorem dX1_does_316 : decode cX1_does 316 = .ok (.invokevirtual 233, 3) := dz_182 (bX1_does_19 12 _ rfl) (bX1_does_19 13 _ rfl) (bX1_does_19 14 _ rfl)
theorem dX1_does_319 : decode cX1_does 319 = .ok (.ifCond .eq 7, 3) := dz_153 (bX1_does_19 15 _ rfl) (bX1_does_20 0 _ rfl) (bX1_does_20 1 _ rfl)
theorem dX1_does_322 : decode cX1_does 322 = .ok (.iconst 1, 1) := dz_4 (bX1_does_20 2 _ rfl)
theorem dX1_does_323 : decode cX1_does 323 = .ok (.goto 4, 3) := dz_167 (bX1_does_20 3 _ rfl) (bX1_does_20 4 _ rfl) (bX1_does_20 5 _ rfl)
theorem dX1_does_326 : decode cX1_does 326 = .ok (.iconst 0, 1) := dz_3 (bX1_does_20 6 _ rfl)
theorem dX1_does_327 : decode cX1_does 327 = .ok (.invokestatic 253, 3) := dz_184 (bX1_does_20 7 _ rfl) (bX1_does_20 8 _ rfl) (bX1_does_20 9 _ rfl)
theorem dX1_does_330 : decode cX1_does 330 = .ok (.invokevirtual 108, 3) := dz_182 (bX1_does_20 10 _ rfl) (bX1_does_20 11 _ rfl) (bX1_does_20 12 _ rfl)
theorem dX1_does_333 : decode cX1_does 333 = .ok (.iinc 4 1, 3) := dz_132 (bX1_does_20 13 _ rfl) (bX1_does_20 14 _ rfl) (bX1_does_20 15 _ rfl)
theorem dX1_does_336 : decode cX1_does 336 = .ok (.goto 53, 3) := dz_167 (bX1_does_21 0 _ rfl) (bX1_does_21 1 _ rfl) (bX1_does_21 2 _ rfl)
theorem dX1_does_339 : decode cX1_does 339 = .ok (.aload_n 0, 1) := dz_42 (bX1_does_21 3 _ rfl)
theorem dX1_does_340 : decode cX1_does 340 = .ok (.aload_n 0, 1) := dz_42 (bX1_does_21 4 _ rfl)
theorem dX1_does_341 : decode cX1_does 341 = .ok (.invokevirtual 271, 3) := dz_182 (bX1_does_21 5 _ rfl) (bX1_does_21 6 _ rfl) (bX1_does_21 7 _ rfl)
theorem dX1_does_344 : decode cX1_does 344 = .ok (.ineg, 1) := dz_116 (bX1_does_21 8 _ rfl)
theorem dX1_does_345 : decode cX1_does 345 = .ok (.invokestatic 253, 3) := dz_184 (bX1_does_21 9 _ rfl) (bX1_does_21 10 _ rfl) (bX1_does_21 11 _ rfl)
theorem dX1_does_348 : decode cX1_does 348 = .ok (.invokevirtual 108, 3) := dz_182 (bX1_does_21 12 _ rfl) (bX1_does_21 13 _ rfl) (bX1_does_21 14 _ rfl)
theorem dX1_does_351 : decode cX1_does 351 = .ok (.goto 38, 3) := dz_167 (bX1_does_21 15 _ rfl) (bX1_does_22 0 _ rfl) (bX1_does_22 1 _ rfl)
theorem dX1_does_354 : decode cX1_does 354 = .ok (.aload_n 0, 1) := dz_42 (bX1_does_22 2 _ rfl)
theorem dX1_does_355 : decode cX1_does 355 = .ok (.iconst 1, 1) := dz_4 (bX1_does_22 3 _ rfl)
theorem dX1_does_356 : decode cX1_does 356 = .ok (.aload_n 0, 1) := dz_42 (bX1_does_22 4 _ rfl)
theorem dX1_does_357 : decode cX1_does 357 = .ok (.invokevirtual 271, 3) := dz_182 (bX1_does_22 5 _ rfl) (bX1_does_22 6 _ rfl) (bX1_does_22 7 _ rfl)
theorem dX1_does_360 : decode cX1_does 360 = .ok (.isub, 1) := dz_100 (bX1_does_22 8 _ rfl)
theorem dX1_does_361 : decode cX1_does 361 = .ok (.invokestatic 253, 3) := dz_184 (bX1_does_22 9 _ rfl) (bX1_does_22 10 _ rfl) (bX1_does_22 11 _ rfl)
theorem dX1_does_364 : decode cX1_does 364 = .ok (.invokevirtual 108, 3) := dz_182 (bX1_does_22 12 _ rfl) (bX1_does_22 13 _ rfl) (bX1_does_22 14 _ rfl)
theorem dX1_does_367 : decode cX1_does 367 = .ok (.goto 22, 3) := dz_167 (bX1_does_22 15 _ rfl) (bX1_does_23 0 _ rfl) (bX1_does_23 1 _ rfl)
theorem dX1_does_370 : decode cX1_does 370 = .ok (.aload_n 0, 1) := dz_42 (bX1_does_23 2 _ rfl)
theorem dX1_does_371 : decode cX1_does 371 = .ok (.iload_n 3, 1) := dz_29 (bX1_does_23 3 _ rfl)
theorem dX1_does_372 : decode cX1_does 372 = .ok (.invokevirtual 274, 3) := dz_182 (bX1_does_23 4 _ rfl) (bX1_does_23 5 _ rfl) (bX1_does_23 6 _ rfl)
theorem dX1_does_375 : decode cX1_does 375 = .ok (.iinc 4 1, 3) := dz_132 (bX1_does_23 7 _ rfl) (bX1_does_23 8 _ rfl) (bX1_does_23 9 _ rfl)
theorem dX1_does_378 : decode cX1_does 378 = .ok (.goto 11, 3) := dz_167 (bX1_does_23 10 _ rfl) (bX1_does_23 11 _ rfl) (bX1_does_23 12 _ rfl)
theorem dX1_does_381 : decode cX1_does 381 = .ok (.aload_n 0, 1) := dz_42 (bX1_does_23 13 _ rfl)
theorem dX1_does_382 : decode cX1_does 382 = .ok (.aload_n 1, 1) := dz_43 (bX1_does_23 14 _ rfl)
theorem dX1_does_383 : decode cX1_does 383 = .ok (.iload_n 2, 1) := dz_28 (bX1_does_23 15 _ rfl)
theorem dX1_does_384 : decode cX1_does 384 = .ok (.iload_n 3, 1) := dz_29 (bX1_does_24 0 _ rfl)
theorem dX1_does_385 : decode cX1_does 385 = .ok (.invokevirtual 277, 3) := dz_182 (bX1_does_24 1 _ rfl) (bX1_does_24 2 _ rfl) (bX1_does_24 3 _ rfl)
theorem dX1_does_388 : decode cX1_does 388 = .ok (.return_, 1) := dz_177 (bX1_does_24 4 _ rfl)
theorem dX1_does_389 : decode cX1_does 389 = .ok (.aload_n 0, 1) := dz_42 (bX1_does_24 5 _ rfl)
theorem dX1_does_390 : decode cX1_does 390 = .ok (.getfield 28, 3) := dz_180 (bX1_does_24 6 _ rfl) (bX1_does_24 7 _ rfl) (bX1_does_24 8 _ rfl)
theorem dX1_does_393 : decode cX1_does 393 = .ok (.aload_n 0, 1) := dz_42 (bX1_does_24 9 _ rfl)
theorem dX1_does_394 : decode cX1_does 394 = .ok (.getfield 81, 3) := dz_180 (bX1_does_24 10 _ rfl) (bX1_does_24 11 _ rfl) (bX1_does_24 12 _ rfl)
theorem dX1_does_397 : decode cX1_does 397 = .ok (.iconst 1, 1) := dz_4 (bX1_does_24 13 _ rfl)
theorem dX1_does_398 : decode cX1_does 398 = .ok (.isub, 1) := dz_100 (bX1_does_24 14 _ rfl)
theorem dX1_does_399 : decode cX1_does 399 = .ok (.iload 4, 2) := dz_21 (bX1_does_24 15 _ rfl) (bX1_does_25 0 _ rfl)
theorem dX1_does_401 : decode cX1_does 401 = .ok (.iastore, 1) := dz_79 (bX1_does_25 1 _ rfl)
theorem dX1_does_402 : decode cX1_does 402 = .ok (.return_, 1) := dz_177 (bX1_does_25 2 _ rfl)
def c_X1_does_389 (g : State) (t0 : Nat) (x4 : Int32)  (w : ch_W) : Option (Except Nat Unit × ch_W) := (ch_gR w (some t0) 2 fX1_places).bind fun v1 => (ch_gI w (some t0) 2 fX1_open).bind fun v2 => (ch_wI w v1 21 (v2 - 1) x4).bind fun w3 => some ((.ok (), w3))
theorem s_X1_does_389 {g : State} {t0 : Nat} {x4 : Int32} {w : ch_W} {res : Except Nat Unit × ch_W} {Q : Outcome → ch_W → Prop} (h : c_X1_does_389 g t0 x4 w = some res) (hk : (ch_xV Q) res) : ch_FT g true mX1_does 10 389 [some (va_rf (some t0)), none, none, none, some (.int x4)] [] (w) Q := by
  unfold c_X1_does_389 at h
  refine ch_aload_n 0 (some t0) dX1_does_389 rfl (cp_gR (ci := 1) (k := 8) dX1_does_390 fl_X1_28 rfl h (fun v1 h => ?_))
  refine ch_aload_n 0 (some t0) dX1_does_393 rfl (cp_gI (ci := 1) (k := 10) dX1_does_394 fl_X1_81 rfl h (fun v2 h => ?_))
  refine ch_iconst _ 1 dX1_does_397 rfl (ch_isub _ _ dX1_does_398 (ch_iload 4 _ dX1_does_399 rfl (cp_iast (t := 21) dX1_does_401 rfl (Nat.le_of_ble_eq_true rfl) rfl h (fun w3 h => ?_))))
  obtain rfl := Option.some.inj h
  exact ch_return dX1_does_402 rfl hk

def c_X1_does_327 (g : State) (t0 : Nat) (x4 : Int32) (y0 : Int32) (y1 : Nat) (w : ch_W) : Option (Except Nat Unit × ch_W) := (c_X0_numberWord y0 w).bind fun v1 => (ch_rc w (some y1) 2).bind fun _ => (c_X1_push y1 v1 w).bind fun p4 => c_X1_does_389 g t0 (x4 + 1) p4
theorem s_X1_does_327 {g : State} {t0 : Nat} {x4 : Int32} {y0 : Int32} {y1 : Nat} {w : ch_W} {res : Except Nat Unit × ch_W} {Q : Outcome → ch_W → Prop} (h : c_X1_does_327 g t0 x4 y0 y1 w = some res) (hk : (ch_xV Q) res) : ch_FT g true mX1_does 10 327 [some (va_rf (some t0)), none, none, none, some (.int x4)] [.int y0, va_rf (some y1)] (w) Q := by
  unfold c_X1_does_327 at h
  obtain ⟨v1, hp2, h⟩ := ch_bd h
  refine ch_isT yX0_numberWord prog_1_method_4_code 1 (some .long) (d' := 2) (av := [.int y0]) (rest := [va_rf (some y1)]) rfl dX1_does_327 q1418 q1419 q200 q1420 can_X0_numberWord (Nat.le_of_ble_eq_true rfl) (ch_hw (Nat.le_of_ble_eq_true rfl)) (cp_kL (v := v1) (w1 := w) (fun Q' hq => s_X0_numberWord hp2 hq) ?_)
  obtain ⟨_, hb3, h⟩ := ch_bd h
  obtain ⟨p4, hp5, h⟩ := ch_bd h
  refine ch_iv yX1_push prog_5_method_12_code 3 none (ci := 1) (q := (RX1, TX1, 22)) (b := y1) (d' := 2) (av := [.long v1]) (rest := []) rfl dX1_does_330 q1377 q1379 rfl qs72 q1380 can_X1_push (Nat.le_of_ble_eq_true rfl) (Nat.le_of_ble_eq_true rfl) (ch_rts hb3) (cp_kV (w1 := p4) (fun Q' hq => s_X1_push hp5 hq) ?_)
  exact ch_iinc 4 _ _ (x4 + 1) (ls1 := [some (va_rf (some t0)), none, none, none, some (.int (x4 + 1))]) dX1_does_333 rfl rfl (Nat.le_of_ble_eq_true rfl) rfl (ch_goto 389 dX1_does_336 rfl (ch_FT.wk (ch_wS (ch_wN (ch_wN (ch_wN (ch_wS ch_w0))))) (s_X1_does_389  h hk)))

def c_X1_does (g : State) (t0 : Nat)  (w : ch_W) : Option (Except Nat Unit × ch_W) := (ch_gR w (some t0) 2 fX1_methods).bind fun v1 => (ch_gI w (some t0) 2 fX1_open).bind fun v2 => (ch_lR w v1 26 (v2 - 1)).bind fun v3 => (ch_gR w v3 8 fX7_code).bind fun v4 => (ch_gR w (some t0) 2 fX1_places).bind fun v5 => (ch_gI w (some t0) 2 fX1_open).bind fun v6 => (ch_lI w v5 21 (v6 - 1)).bind fun v7 => (ch_rc w v4 9).bind fun b9 => (c_X8_get b9 (v7 + 1) w).bind fun v10 => (ch_rc w v4 9).bind fun b13 => (c_X8_get b13 v7 w).bind fun v14 => if v14 = 0 then ((c_X0_numberWord v10 w).bind fun v19 => (ch_rc w (some t0) 2).bind fun _ => (c_X1_push t0 v19 w).bind fun p22 => c_X1_does_389 g t0 ((v7 + 1) + 1) p22) else (if v14 = 1 then ((ch_rc w (some t0) 2).bind fun _ => (c_X1_push t0 (-1) w).bind fun p25 => c_X1_does_389 g t0 (v7 + 1) p25) else (if v14 = 2 then ((ch_rc w (some t0) 2).bind fun _ => (c_X1_local t0 0 w).bind fun v28 => (ch_rc w (some t0) 2).bind fun _ => (c_X1_push t0 v28 w).bind fun p31 => c_X1_does_389 g t0 (v7 + 1) p31) else (if v14 = 3 then ((ch_rc w (some t0) 2).bind fun _ => (c_X1_take t0 w).bind fun p34 => (c_X0_numberWord p34.1 p34.2).bind fun v36 => (ch_rc p34.2 (some t0) 2).bind fun _ => (c_X1_push t0 v36 p34.2).bind fun p39 => c_X1_does_389 g t0 (v7 + 1) p39) else (if v14 = 4 then ((ch_rc w (some t0) 2).bind fun _ => (c_X1_local t0 v10 w).bind fun v42 => (ch_rc w (some t0) 2).bind fun _ => (c_X1_push t0 v42 w).bind fun p45 => c_X1_does_389 g t0 ((v7 + 1) + 1) p45) else (if v14 = 5 then ((ch_gR w (some t0) 2 fX1_heap).bind fun v47 => (ch_rc w (some t0) 2).bind fun _ => (c_X1_local t0 0 w).bind fun v49 => (c_X0_placeOf v49 w).bind fun v51 => (ch_lL w v47 24 ((v51 + 2) + v10)).bind fun v53 => (ch_rc w (some t0) 2).bind fun _ => (c_X1_push t0 v53 w).bind fun p55 => c_X1_does_389 g t0 ((v7 + 1) + 1) p55) else (if v14 = 6 then ((ch_gR w (some t0) 2 fX1_heap).bind fun v57 => (ch_rc w (some t0) 2).bind fun _ => (c_X1_pop t0 w).bind fun p59 => (ch_rc p59.2 (some t0) 2).bind fun _ => ch_tb (c_X1_object t0 p59.1 p59.2) (fun a w => (.error a, w)) fun v62 w63 => (ch_lL w63 v57 24 ((v62 + 2) + v10)).bind fun v64 => (ch_rc w63 (some t0) 2).bind fun _ => (c_X1_push t0 v64 w63).bind fun p66 => c_X1_does_389 g t0 ((v7 + 1) + 1) p66) else (if v14 = 7 then ((ch_rc w (some t0) 2).bind fun _ => ch_tb (c_X1_element t0 w) (fun a w => (.error a, w)) fun _ w70 => c_X1_does_389 g t0 (v7 + 1) w70) else (if v14 = 8 then ((ch_gR w (some t0) 2 fX1_heap).bind fun v71 => (ch_rc w (some t0) 2).bind fun _ => (c_X1_pop t0 w).bind fun p73 => (ch_rc p73.2 (some t0) 2).bind fun _ => ch_tb (c_X1_object t0 p73.1 p73.2) (fun a w => (.error a, w)) fun v76 w77 => (ch_lL w77 v71 24 (v76 + 1)).bind fun v78 => (c_X0_numberWord (Int64.toInt32 v78) w77).bind fun v79 => (ch_rc w77 (some t0) 2).bind fun _ => (c_X1_push t0 v79 w77).bind fun p82 => c_X1_does_389 g t0 (v7 + 1) p82) else (if v14 = 9 then ((ch_rc w (some t0) 2).bind fun _ => ch_tb (c_X1_newObject g t0 v10 w) (fun a w => (.error a, w)) fun v85 w86 => (ch_rc w86 (some t0) 2).bind fun _ => (c_X1_push t0 v85 w86).bind fun p88 => c_X1_does_389 g t0 ((v7 + 1) + 1) p88) else (if v14 = 10 then ((ch_rc w (some t0) 2).bind fun _ => ch_tb (c_X1_newRow g t0 w) (fun a w => (.error a, w)) fun _ w92 => c_X1_does_389 g t0 (v7 + 1) w92) else (if v14 = 11 then ((ch_rc w (some t0) 2).bind fun _ => ch_tb (c_X1_cast t0 v10 w) (fun a w => (.error a, w)) fun _ w95 => c_X1_does_389 g t0 ((v7 + 1) + 1) w95) else (if v14 = 12 then ((ch_rc w (some t0) 2).bind fun _ => (c_X1_pop t0 w).bind fun p97 => (ch_rc p97.2 (some t0) 2).bind fun _ => (c_X1_isOf t0 p97.1 v10 p97.2).bind fun v100 => if v100 = 0 then (c_X1_does_327 g t0 (v7 + 1) 0 t0 p97.2) else (c_X1_does_327 g t0 (v7 + 1) 1 t0 p97.2)) else (if v14 = 13 then ((ch_rc w (some t0) 2).bind fun _ => (c_X1_popNumber t0 w).bind fun p103 => (c_X0_numberWord (-p103.1) p103.2).bind fun v105 => (ch_rc p103.2 (some t0) 2).bind fun _ => (c_X1_push t0 v105 p103.2).bind fun p108 => c_X1_does_389 g t0 (v7 + 1) p108) else (if v14 = 14 then ((ch_rc w (some t0) 2).bind fun _ => (c_X1_popNumber t0 w).bind fun p111 => (c_X0_numberWord (1 - p111.1) p111.2).bind fun v113 => (ch_rc p111.2 (some t0) 2).bind fun _ => (c_X1_push t0 v113 p111.2).bind fun p116 => c_X1_does_389 g t0 (v7 + 1) p116) else (if v14 = 15 then ((ch_rc w (some t0) 2).bind fun _ => ch_tb (c_X1_join t0 v10 w) (fun a w => (.error a, w)) fun _ w120 => c_X1_does_389 g t0 ((v7 + 1) + 1) w120) else ((ch_rc w (some t0) 2).bind fun _ => ch_tb (c_X1_goes g t0 v4 v7 v10 w) (fun a w => (.error a, w)) fun _ w18 => some ((.ok (), w18))))))))))))))))))
theorem s_X1_does {g : State} {t0 : Nat} {w : ch_W} {res : Except Nat Unit × ch_W} {Q : Outcome → ch_W → Prop} (h : c_X1_does g t0 w = some res) (hk : (ch_xV Q) res) : ch_CT g true yX1_does 10 [.ref t0] (w) Q := by
  unfold c_X1_does at h
  refine ch_ctL mX1_does (ls := [some (va_rf (some t0)), none, none, none, none]) q1417 rfl (ch_lyr (r := some t0) ch_ly0) (Nat.le_of_ble_eq_true rfl) rfl ?_
  refine ch_aload_n 0 (some t0) dX1_does_0 rfl (cp_gR (ci := 1) (k := 7) dX1_does_1 fl_X1_24 rfl h (fun v1 h => ?_))
  refine ch_aload_n 0 (some t0) dX1_does_4 rfl (cp_gI (ci := 1) (k := 10) dX1_does_5 fl_X1_81 rfl h (fun v2 h => ?_))
  refine ch_iconst _ 1 dX1_does_8 rfl (ch_isub _ _ dX1_does_9 (cp_aald (t := 26) dX1_does_10 rfl rfl h (fun v3 h => ?_)))
  refine cp_gR (ci := 7) (k := 8) dX1_does_11 fl_X1_240 rfl h (fun v4 h => ?_)
  refine ch_astore_n 1 v4 (ls1 := [some (va_rf (some t0)), some (va_rf v4), none, none, none]) dX1_does_14 (Nat.le_of_ble_eq_true rfl) rfl (ch_aload_n 0 (some t0) dX1_does_15 rfl (cp_gR (ci := 1) (k := 8) dX1_does_16 fl_X1_28 rfl h (fun v5 h => ?_)))
  refine ch_aload_n 0 (some t0) dX1_does_19 rfl (cp_gI (ci := 1) (k := 10) dX1_does_20 fl_X1_81 rfl h (fun v6 h => ?_))
  refine ch_iconst _ 1 dX1_does_23 rfl (ch_isub _ _ dX1_does_24 (cp_iald (t := 21) dX1_does_25 rfl rfl h (fun v7 h => ?_)))
  obtain ⟨b9, hb8, h⟩ := ch_bd h
  obtain ⟨v10, hp11, h⟩ := ch_bd h
  refine ch_istore_n 2 _ (ls1 := [some (va_rf (some t0)), some (va_rf v4), some (.int v7), none, none]) dX1_does_26 (Nat.le_of_ble_eq_true rfl) (ch_s1o rfl rfl) (ch_aload_n 1 v4 dX1_does_27 rfl (ch_iload_n 2 _ dX1_does_28 rfl (ch_iconst _ 1 dX1_does_29 rfl (ch_iadd _ _ dX1_does_30 (ch_iv yX8_get prog_9_method_3_code 2 (some .int) (ci := 8) (q := (RX8, TX8, 2)) (b := b9) (d' := 2) (av := [.int (v7 + 1)]) (rest := []) (by rw [ch_rs hb8]; rfl) dX1_does_31 q1389 q1152 rfl q1153 q1154 can_X8_get (Nat.le_of_ble_eq_true rfl) (Nat.le_of_ble_eq_true rfl) (ch_rtg hb8) (cp_kI (v := v10) (w1 := w) (fun Q' hq => s_X8_get hp11 hq) ?_))))))
  obtain ⟨b13, hb12, h⟩ := ch_bd h
  obtain ⟨v14, hp15, h⟩ := ch_bd h
  refine ch_istore_n 3 _ (ls1 := [some (va_rf (some t0)), some (va_rf v4), some (.int v7), some (.int v10), none]) dX1_does_34 (Nat.le_of_ble_eq_true rfl) rfl (ch_iload_n 2 _ dX1_does_35 rfl (ch_iconst _ 1 dX1_does_36 rfl (ch_iadd _ _ dX1_does_37 (ch_istore 4 _ (ls1 := [some (va_rf (some t0)), some (va_rf v4), some (.int v7), some (.int v10), some (.int (v7 + 1))]) dX1_does_38 (Nat.le_of_ble_eq_true rfl) rfl (ch_aload_n 1 v4 dX1_does_40 rfl (ch_iload_n 2 _ dX1_does_41 rfl (ch_iv yX8_get prog_9_method_3_code 2 (some .int) (ci := 8) (q := (RX8, TX8, 2)) (b := b13) (d' := 2) (av := [.int v7]) (rest := []) (by rw [ch_rs hb12]; rfl) dX1_does_42 q1389 q1152 rfl q1153 q1154 can_X8_get (Nat.le_of_ble_eq_true rfl) (Nat.le_of_ble_eq_true rfl) (ch_rtg hb12) (cp_kI (v := v14) (w1 := w) (fun Q' hq => s_X8_get hp15 hq) ?_))))))))
  by_cases e0 : v14 = 0
  · have h := ch_ifT e0 h
    refine ch_tableIn _ (off := 79) (tgt := 124) dX1_does_45 (by rw [e0]; decide) (by rw [e0]; decide) (by rw [e0]; rfl) rfl ?_
    obtain ⟨v19, hp20, h⟩ := ch_bd h
    refine ch_aload_n 0 (some t0) dX1_does_124 rfl (ch_iload_n 3 _ dX1_does_125 rfl (ch_isT yX0_numberWord prog_1_method_4_code 1 (some .long) (d' := 2) (av := [.int v10]) (rest := [va_rf (some t0)]) rfl dX1_does_126 q1418 q1419 q200 q1420 can_X0_numberWord (Nat.le_of_ble_eq_true rfl) (ch_hw (Nat.le_of_ble_eq_true rfl)) (cp_kL (v := v19) (w1 := w) (fun Q' hq => s_X0_numberWord hp20 hq) ?_)))
    obtain ⟨_, hb21, h⟩ := ch_bd h
    obtain ⟨p22, hp23, h⟩ := ch_bd h
    refine ch_iv yX1_push prog_5_method_12_code 3 none (ci := 1) (q := (RX1, TX1, 22)) (b := t0) (d' := 2) (av := [.long v19]) (rest := []) rfl dX1_does_129 q1377 q1379 rfl qs72 q1380 can_X1_push (Nat.le_of_ble_eq_true rfl) (Nat.le_of_ble_eq_true rfl) (ch_rts hb21) (cp_kV (w1 := p22) (fun Q' hq => s_X1_push hp23 hq) ?_)
    exact ch_iinc 4 _ _ ((v7 + 1) + 1) (ls1 := [some (va_rf (some t0)), some (va_rf v4), some (.int v7), some (.int v10), some (.int ((v7 + 1) + 1))]) dX1_does_132 rfl rfl (Nat.le_of_ble_eq_true rfl) rfl (ch_goto 389 dX1_does_135 rfl (ch_FT.wk (ch_wS (ch_wN (ch_wN (ch_wN (ch_wS ch_w0))))) (s_X1_does_389  h hk)))
  replace h := ch_ifF e0 h
  by_cases e1 : v14 = 1
  · have h := ch_ifT e1 h
    refine ch_tableIn _ (off := 93) (tgt := 138) dX1_does_45 (by rw [e1]; decide) (by rw [e1]; decide) (by rw [e1]; rfl) rfl ?_
    obtain ⟨_, hb24, h⟩ := ch_bd h
    obtain ⟨p25, hp26, h⟩ := ch_bd h
    refine ch_aload_n 0 (some t0) dX1_does_138 rfl (ch_ldc2 162 (-1) dX1_does_139 q1376 (ch_iv yX1_push prog_5_method_12_code 3 none (ci := 1) (q := (RX1, TX1, 22)) (b := t0) (d' := 2) (av := [.long (-1)]) (rest := []) rfl dX1_does_142 q1377 q1379 rfl qs72 q1380 can_X1_push (Nat.le_of_ble_eq_true rfl) (Nat.le_of_ble_eq_true rfl) (ch_rts hb24) (cp_kV (w1 := p25) (fun Q' hq => s_X1_push hp26 hq) ?_)))
    exact ch_goto 389 dX1_does_145 rfl (ch_FT.wk (ch_wS (ch_wN (ch_wN (ch_wN (ch_wS ch_w0))))) (s_X1_does_389  h hk))
  replace h := ch_ifF e1 h
  by_cases e2 : v14 = 2
  · have h := ch_ifT e2 h
    refine ch_tableIn _ (off := 103) (tgt := 148) dX1_does_45 (by rw [e2]; decide) (by rw [e2]; decide) (by rw [e2]; rfl) rfl ?_
    obtain ⟨_, hb27, h⟩ := ch_bd h
    obtain ⟨v28, hp29, h⟩ := ch_bd h
    refine ch_aload_n 0 (some t0) dX1_does_148 rfl (ch_aload_n 0 (some t0) dX1_does_149 rfl (ch_iconst _ 0 dX1_does_150 rfl (ch_iv yX1_local prog_5_method_17_code 2 (some .long) (ci := 1) (q := (RX1, TX1, 22)) (b := t0) (d' := 2) (av := [.int 0]) (rest := [va_rf (some t0)]) rfl dX1_does_151 q1402 q1404 rfl qs78 q1405 can_X1_local (Nat.le_of_ble_eq_true rfl) (ch_hw (Nat.le_of_ble_eq_true rfl)) (ch_rts hb27) (cp_kL (v := v28) (w1 := w) (fun Q' hq => s_X1_local hp29 hq) ?_))))
    obtain ⟨_, hb30, h⟩ := ch_bd h
    obtain ⟨p31, hp32, h⟩ := ch_bd h
    refine ch_iv yX1_push prog_5_method_12_code 3 none (ci := 1) (q := (RX1, TX1, 22)) (b := t0) (d' := 2) (av := [.long v28]) (rest := []) rfl dX1_does_154 q1377 q1379 rfl qs72 q1380 can_X1_push (Nat.le_of_ble_eq_true rfl) (Nat.le_of_ble_eq_true rfl) (ch_rts hb30) (cp_kV (w1 := p31) (fun Q' hq => s_X1_push hp32 hq) ?_)
    exact ch_goto 389 dX1_does_157 rfl (ch_FT.wk (ch_wS (ch_wN (ch_wN (ch_wN (ch_wS ch_w0))))) (s_X1_does_389  h hk))
  replace h := ch_ifF e2 h
  by_cases e3 : v14 = 3
  · have h := ch_ifT e3 h
    refine ch_tableIn _ (off := 115) (tgt := 160) dX1_does_45 (by rw [e3]; decide) (by rw [e3]; decide) (by rw [e3]; rfl) rfl ?_
    obtain ⟨_, hb33, h⟩ := ch_bd h
    obtain ⟨p34, hp35, h⟩ := ch_bd h
    refine ch_aload_n 0 (some t0) dX1_does_160 rfl (ch_aload_n 0 (some t0) dX1_does_161 rfl (ch_iv yX1_take prog_5_method_28_code 2 (some .int) (ci := 1) (q := (RX1, TX1, 22)) (b := t0) (d' := 2) (av := []) (rest := [va_rf (some t0)]) rfl dX1_does_162 q1421 q1423 rfl qs80 q1424 can_X1_take (Nat.le_of_ble_eq_true rfl) (ch_hw (Nat.le_of_ble_eq_true rfl)) (ch_rts hb33) (cp_kI (v := p34.1) (w1 := p34.2) (fun Q' hq => s_X1_take hp35 hq) ?_)))
    obtain ⟨v36, hp37, h⟩ := ch_bd h
    refine ch_isT yX0_numberWord prog_1_method_4_code 1 (some .long) (d' := 2) (av := [.int p34.1]) (rest := [va_rf (some t0)]) rfl dX1_does_165 q1418 q1419 q200 q1420 can_X0_numberWord (Nat.le_of_ble_eq_true rfl) (ch_hw (Nat.le_of_ble_eq_true rfl)) (cp_kL (v := v36) (w1 := p34.2) (fun Q' hq => s_X0_numberWord hp37 hq) ?_)
    obtain ⟨_, hb38, h⟩ := ch_bd h
    obtain ⟨p39, hp40, h⟩ := ch_bd h
    refine ch_iv yX1_push prog_5_method_12_code 3 none (ci := 1) (q := (RX1, TX1, 22)) (b := t0) (d' := 2) (av := [.long v36]) (rest := []) rfl dX1_does_168 q1377 q1379 rfl qs72 q1380 can_X1_push (Nat.le_of_ble_eq_true rfl) (Nat.le_of_ble_eq_true rfl) (ch_rts hb38) (cp_kV (w1 := p39) (fun Q' hq => s_X1_push hp40 hq) ?_)
    exact ch_goto 389 dX1_does_171 rfl (ch_FT.wk (ch_wS (ch_wN (ch_wN (ch_wN (ch_wS ch_w0))))) (s_X1_does_389  h hk))
  replace h := ch_ifF e3 h
  by_cases e4 : v14 = 4
  · have h := ch_ifT e4 h
    refine ch_tableIn _ (off := 129) (tgt := 174) dX1_does_45 (by rw [e4]; decide) (by rw [e4]; decide) (by rw [e4]; rfl) rfl ?_
    obtain ⟨_, hb41, h⟩ := ch_bd h
    obtain ⟨v42, hp43, h⟩ := ch_bd h
    refine ch_aload_n 0 (some t0) dX1_does_174 rfl (ch_aload_n 0 (some t0) dX1_does_175 rfl (ch_iload_n 3 _ dX1_does_176 rfl (ch_iv yX1_local prog_5_method_17_code 2 (some .long) (ci := 1) (q := (RX1, TX1, 22)) (b := t0) (d' := 2) (av := [.int v10]) (rest := [va_rf (some t0)]) rfl dX1_does_177 q1402 q1404 rfl qs78 q1405 can_X1_local (Nat.le_of_ble_eq_true rfl) (ch_hw (Nat.le_of_ble_eq_true rfl)) (ch_rts hb41) (cp_kL (v := v42) (w1 := w) (fun Q' hq => s_X1_local hp43 hq) ?_))))
    obtain ⟨_, hb44, h⟩ := ch_bd h
    obtain ⟨p45, hp46, h⟩ := ch_bd h
    refine ch_iv yX1_push prog_5_method_12_code 3 none (ci := 1) (q := (RX1, TX1, 22)) (b := t0) (d' := 2) (av := [.long v42]) (rest := []) rfl dX1_does_180 q1377 q1379 rfl qs72 q1380 can_X1_push (Nat.le_of_ble_eq_true rfl) (Nat.le_of_ble_eq_true rfl) (ch_rts hb44) (cp_kV (w1 := p45) (fun Q' hq => s_X1_push hp46 hq) ?_)
    exact ch_iinc 4 _ _ ((v7 + 1) + 1) (ls1 := [some (va_rf (some t0)), some (va_rf v4), some (.int v7), some (.int v10), some (.int ((v7 + 1) + 1))]) dX1_does_183 rfl rfl (Nat.le_of_ble_eq_true rfl) rfl (ch_goto 389 dX1_does_186 rfl (ch_FT.wk (ch_wS (ch_wN (ch_wN (ch_wN (ch_wS ch_w0))))) (s_X1_does_389  h hk)))
  replace h := ch_ifF e4 h
  by_cases e5 : v14 = 5
  · have h := ch_ifT e5 h
    refine ch_tableIn _ (off := 144) (tgt := 189) dX1_does_45 (by rw [e5]; decide) (by rw [e5]; decide) (by rw [e5]; rfl) rfl ?_
    refine ch_aload_n 0 (some t0) dX1_does_189 rfl (ch_aload_n 0 (some t0) dX1_does_190 rfl (cp_gR (ci := 1) (k := 2) dX1_does_191 fl_X1_9 rfl h (fun v47 h => ?_)))
    obtain ⟨_, hb48, h⟩ := ch_bd h
    obtain ⟨v49, hp50, h⟩ := ch_bd h
    refine ch_aload_n 0 (some t0) dX1_does_194 rfl (ch_iconst _ 0 dX1_does_195 rfl (ch_iv yX1_local prog_5_method_17_code 2 (some .long) (ci := 1) (q := (RX1, TX1, 22)) (b := t0) (d' := 2) (av := [.int 0]) (rest := [va_rf v47, va_rf (some t0)]) rfl dX1_does_196 q1402 q1404 rfl qs78 q1405 can_X1_local (Nat.le_of_ble_eq_true rfl) (ch_hw (Nat.le_of_ble_eq_true rfl)) (ch_rts hb48) (cp_kL (v := v49) (w1 := w) (fun Q' hq => s_X1_local hp50 hq) ?_)))
    obtain ⟨v51, hp52, h⟩ := ch_bd h
    refine ch_isT yX0_placeOf prog_1_method_3_code 2 (some .int) (d' := 2) (av := [.long v49]) (rest := [va_rf v47, va_rf (some t0)]) rfl dX1_does_199 q1338 q1339 q200 q1340 can_X0_placeOf (Nat.le_of_ble_eq_true rfl) (ch_hw (Nat.le_of_ble_eq_true rfl)) (cp_kI (v := v51) (w1 := w) (fun Q' hq => s_X0_placeOf hp52 hq) ?_)
    refine ch_iconst _ 2 dX1_does_202 rfl (ch_iadd _ _ dX1_does_203 (ch_iload_n 3 _ dX1_does_204 rfl (ch_iadd _ _ dX1_does_205 (cp_lald (t := 24) dX1_does_206 rfl rfl h (fun v53 h => ?_)))))
    obtain ⟨_, hb54, h⟩ := ch_bd h
    obtain ⟨p55, hp56, h⟩ := ch_bd h
    refine ch_iv yX1_push prog_5_method_12_code 3 none (ci := 1) (q := (RX1, TX1, 22)) (b := t0) (d' := 2) (av := [.long v53]) (rest := []) rfl dX1_does_207 q1377 q1379 rfl qs72 q1380 can_X1_push (Nat.le_of_ble_eq_true rfl) (Nat.le_of_ble_eq_true rfl) (ch_rts hb54) (cp_kV (w1 := p55) (fun Q' hq => s_X1_push hp56 hq) ?_)
    exact ch_iinc 4 _ _ ((v7 + 1) + 1) (ls1 := [some (va_rf (some t0)), some (va_rf v4), some (.int v7), some (.int v10), some (.int ((v7 + 1) + 1))]) dX1_does_210 rfl rfl (Nat.le_of_ble_eq_true rfl) rfl (ch_goto 389 dX1_does_213 rfl (ch_FT.wk (ch_wS (ch_wN (ch_wN (ch_wN (ch_wS ch_w0))))) (s_X1_does_389  h hk)))
  replace h := ch_ifF e5 h
  by_cases e6 : v14 = 6
  · have h := ch_ifT e6 h
    refine ch_tableIn _ (off := 171) (tgt := 216) dX1_does_45 (by rw [e6]; decide) (by rw [e6]; decide) (by rw [e6]; rfl) rfl ?_
    refine ch_aload_n 0 (some t0) dX1_does_216 rfl (ch_aload_n 0 (some t0) dX1_does_217 rfl (cp_gR (ci := 1) (k := 2) dX1_does_218 fl_X1_9 rfl h (fun v57 h => ?_)))
    obtain ⟨_, hb58, h⟩ := ch_bd h
    obtain ⟨p59, hp60, h⟩ := ch_bd h
    refine ch_aload_n 0 (some t0) dX1_does_221 rfl (ch_aload_n 0 (some t0) dX1_does_222 rfl (ch_iv yX1_pop prog_5_method_13_code 1 (some .long) (ci := 1) (q := (RX1, TX1, 22)) (b := t0) (d' := 2) (av := []) (rest := [va_rf (some t0), va_rf v57, va_rf (some t0)]) rfl dX1_does_223 q1425 q1427 rfl qs81 q1428 can_X1_pop (Nat.le_of_ble_eq_true rfl) (ch_hw (Nat.le_of_ble_eq_true rfl)) (ch_rts hb58) (cp_kL (v := p59.1) (w1 := p59.2) (fun Q' hq => s_X1_pop hp60 hq) ?_)))
    obtain ⟨_, hb61, h⟩ := ch_bd h
    refine ch_iv yX1_object prog_5_method_30_code 3 (some .int) (ci := 1) (q := (RX1, TX1, 22)) (b := t0) (d' := 4) (av := [.long p59.1]) (rest := [va_rf v57, va_rf (some t0)]) rfl dX1_does_226 q1429 q1431 rfl qs82 q1432 can_X1_object (Nat.le_of_ble_eq_true rfl) (ch_hw (Nat.le_of_ble_eq_true rfl)) (ch_rts hb61) (cp_tI h (fun p hp Q' hq => s_X1_object hp hq) (fun v62 w63 h => ?_) (fun a w1 h => ?_))
    · refine ch_iconst _ 2 dX1_does_229 rfl (ch_iadd _ _ dX1_does_230 (ch_iload_n 3 _ dX1_does_231 rfl (ch_iadd _ _ dX1_does_232 (cp_lald (t := 24) dX1_does_233 rfl rfl h (fun v64 h => ?_)))))
      obtain ⟨_, hb65, h⟩ := ch_bd h
      obtain ⟨p66, hp67, h⟩ := ch_bd h
      refine ch_iv yX1_push prog_5_method_12_code 3 none (ci := 1) (q := (RX1, TX1, 22)) (b := t0) (d' := 2) (av := [.long v64]) (rest := []) rfl dX1_does_234 q1377 q1379 rfl qs72 q1380 can_X1_push (Nat.le_of_ble_eq_true rfl) (Nat.le_of_ble_eq_true rfl) (ch_rts hb65) (cp_kV (w1 := p66) (fun Q' hq => s_X1_push hp67 hq) ?_)
      exact ch_iinc 4 _ _ ((v7 + 1) + 1) (ls1 := [some (va_rf (some t0)), some (va_rf v4), some (.int v7), some (.int v10), some (.int ((v7 + 1) + 1))]) dX1_does_237 rfl rfl (Nat.le_of_ble_eq_true rfl) rfl (ch_goto 389 dX1_does_240 rfl (ch_FT.wk (ch_wS (ch_wN (ch_wN (ch_wN (ch_wS ch_w0))))) (s_X1_does_389  h hk)))
    · subst h
      exact ch_th rfl hk
  replace h := ch_ifF e6 h
  by_cases e7 : v14 = 7
  · have h := ch_ifT e7 h
    refine ch_tableIn _ (off := 198) (tgt := 243) dX1_does_45 (by rw [e7]; decide) (by rw [e7]; decide) (by rw [e7]; rfl) rfl ?_
    obtain ⟨_, hb68, h⟩ := ch_bd h
    refine ch_aload_n 0 (some t0) dX1_does_243 rfl (ch_iv yX1_element prog_5_method_32_code 2 none (ci := 1) (q := (RX1, TX1, 22)) (b := t0) (d' := 6) (av := []) (rest := []) rfl dX1_does_244 q1441 q1443 rfl qs85 q1444 can_X1_element (Nat.le_of_ble_eq_true rfl) (Nat.le_of_ble_eq_true rfl) (ch_rts hb68) (cp_tV h (fun p hp Q' hq => s_X1_element hp hq) (fun w70 h => ?_) (fun a w1 h => ?_)))
    · exact ch_goto 389 dX1_does_247 rfl (ch_FT.wk (ch_wS (ch_wN (ch_wN (ch_wN (ch_wS ch_w0))))) (s_X1_does_389  h hk))
    · subst h
      exact ch_th rfl hk
  replace h := ch_ifF e7 h
  by_cases e8 : v14 = 8
  · have h := ch_ifT e8 h
    refine ch_tableIn _ (off := 205) (tgt := 250) dX1_does_45 (by rw [e8]; decide) (by rw [e8]; decide) (by rw [e8]; rfl) rfl ?_
    refine ch_aload_n 0 (some t0) dX1_does_250 rfl (ch_aload_n 0 (some t0) dX1_does_251 rfl (cp_gR (ci := 1) (k := 2) dX1_does_252 fl_X1_9 rfl h (fun v71 h => ?_)))
    obtain ⟨_, hb72, h⟩ := ch_bd h
    obtain ⟨p73, hp74, h⟩ := ch_bd h
    refine ch_aload_n 0 (some t0) dX1_does_255 rfl (ch_aload_n 0 (some t0) dX1_does_256 rfl (ch_iv yX1_pop prog_5_method_13_code 1 (some .long) (ci := 1) (q := (RX1, TX1, 22)) (b := t0) (d' := 2) (av := []) (rest := [va_rf (some t0), va_rf v71, va_rf (some t0)]) rfl dX1_does_257 q1425 q1427 rfl qs81 q1428 can_X1_pop (Nat.le_of_ble_eq_true rfl) (ch_hw (Nat.le_of_ble_eq_true rfl)) (ch_rts hb72) (cp_kL (v := p73.1) (w1 := p73.2) (fun Q' hq => s_X1_pop hp74 hq) ?_)))
    obtain ⟨_, hb75, h⟩ := ch_bd h
    refine ch_iv yX1_object prog_5_method_30_code 3 (some .int) (ci := 1) (q := (RX1, TX1, 22)) (b := t0) (d' := 4) (av := [.long p73.1]) (rest := [va_rf v71, va_rf (some t0)]) rfl dX1_does_260 q1429 q1431 rfl qs82 q1432 can_X1_object (Nat.le_of_ble_eq_true rfl) (ch_hw (Nat.le_of_ble_eq_true rfl)) (ch_rts hb75) (cp_tI h (fun p hp Q' hq => s_X1_object hp hq) (fun v76 w77 h => ?_) (fun a w1 h => ?_))
    · refine ch_iconst _ 1 dX1_does_263 rfl (ch_iadd _ _ dX1_does_264 (cp_lald (t := 24) dX1_does_265 rfl rfl h (fun v78 h => ?_)))
      obtain ⟨v79, hp80, h⟩ := ch_bd h
      refine ch_l2i _ dX1_does_266 (ch_isT yX0_numberWord prog_1_method_4_code 1 (some .long) (d' := 2) (av := [.int (Int64.toInt32 v78)]) (rest := [va_rf (some t0)]) rfl dX1_does_267 q1418 q1419 q200 q1420 can_X0_numberWord (Nat.le_of_ble_eq_true rfl) (ch_hw (Nat.le_of_ble_eq_true rfl)) (cp_kL (v := v79) (w1 := w77) (fun Q' hq => s_X0_numberWord hp80 hq) ?_))
      obtain ⟨_, hb81, h⟩ := ch_bd h
      obtain ⟨p82, hp83, h⟩ := ch_bd h
      refine ch_iv yX1_push prog_5_method_12_code 3 none (ci := 1) (q := (RX1, TX1, 22)) (b := t0) (d' := 2) (av := [.long v79]) (rest := []) rfl dX1_does_270 q1377 q1379 rfl qs72 q1380 can_X1_push (Nat.le_of_ble_eq_true rfl) (Nat.le_of_ble_eq_true rfl) (ch_rts hb81) (cp_kV (w1 := p82) (fun Q' hq => s_X1_push hp83 hq) ?_)
      exact ch_goto 389 dX1_does_273 rfl (ch_FT.wk (ch_wS (ch_wN (ch_wN (ch_wN (ch_wS ch_w0))))) (s_X1_does_389  h hk))
    · subst h
      exact ch_th rfl hk
  replace h := ch_ifF e8 h
  by_cases e9 : v14 = 9
  · have h := ch_ifT e9 h
    refine ch_tableIn _ (off := 231) (tgt := 276) dX1_does_45 (by rw [e9]; decide) (by rw [e9]; decide) (by rw [e9]; rfl) rfl ?_
    obtain ⟨_, hb84, h⟩ := ch_bd h
    refine ch_aload_n 0 (some t0) dX1_does_276 rfl (ch_aload_n 0 (some t0) dX1_does_277 rfl (ch_iload_n 3 _ dX1_does_278 rfl (ch_iv yX1_newObject prog_5_method_6_code 5 (some .long) (ci := 1) (q := (RX1, TX1, 22)) (b := t0) (d' := 8) (av := [.int v10]) (rest := [va_rf (some t0)]) rfl dX1_does_279 q1319 q1321 rfl qs66 q1322 can_X1_newObject (Nat.le_of_ble_eq_true rfl) (ch_hw (Nat.le_of_ble_eq_true rfl)) (ch_rts hb84) (cp_tL h (fun p hp Q' hq => s_X1_newObject hp hq) (fun v85 w86 h => ?_) (fun a w1 h => ?_)))))
    · obtain ⟨_, hb87, h⟩ := ch_bd h
      obtain ⟨p88, hp89, h⟩ := ch_bd h
      refine ch_iv yX1_push prog_5_method_12_code 3 none (ci := 1) (q := (RX1, TX1, 22)) (b := t0) (d' := 2) (av := [.long v85]) (rest := []) rfl dX1_does_282 q1377 q1379 rfl qs72 q1380 can_X1_push (Nat.le_of_ble_eq_true rfl) (Nat.le_of_ble_eq_true rfl) (ch_rts hb87) (cp_kV (w1 := p88) (fun Q' hq => s_X1_push hp89 hq) ?_)
      exact ch_iinc 4 _ _ ((v7 + 1) + 1) (ls1 := [some (va_rf (some t0)), some (va_rf v4), some (.int v7), some (.int v10), some (.int ((v7 + 1) + 1))]) dX1_does_285 rfl rfl (Nat.le_of_ble_eq_true rfl) rfl (ch_goto 389 dX1_does_288 rfl (ch_FT.wk (ch_wS (ch_wN (ch_wN (ch_wN (ch_wS ch_w0))))) (s_X1_does_389  h hk)))
    · subst h
      exact ch_th rfl hk
  replace h := ch_ifF e9 h
  by_cases e10 : v14 = 10
  · have h := ch_ifT e10 h
    refine ch_tableIn _ (off := 246) (tgt := 291) dX1_does_45 (by rw [e10]; decide) (by rw [e10]; decide) (by rw [e10]; rfl) rfl ?_
    obtain ⟨_, hb90, h⟩ := ch_bd h
    refine ch_aload_n 0 (some t0) dX1_does_291 rfl (ch_iv yX1_newRow prog_5_method_34_code 3 none (ci := 1) (q := (RX1, TX1, 22)) (b := t0) (d' := 9) (av := []) (rest := []) rfl dX1_does_292 q1456 q1458 rfl qs88 q1459 can_X1_newRow (Nat.le_of_ble_eq_true rfl) (Nat.le_of_ble_eq_true rfl) (ch_rts hb90) (cp_tV h (fun p hp Q' hq => s_X1_newRow hp hq) (fun w92 h => ?_) (fun a w1 h => ?_)))
    · exact ch_goto 389 dX1_does_295 rfl (ch_FT.wk (ch_wS (ch_wN (ch_wN (ch_wN (ch_wS ch_w0))))) (s_X1_does_389  h hk))
    · subst h
      exact ch_th rfl hk
  replace h := ch_ifF e10 h
  by_cases e11 : v14 = 11
  · have h := ch_ifT e11 h
    refine ch_tableIn _ (off := 253) (tgt := 298) dX1_does_45 (by rw [e11]; decide) (by rw [e11]; decide) (by rw [e11]; rfl) rfl ?_
    obtain ⟨_, hb93, h⟩ := ch_bd h
    refine ch_aload_n 0 (some t0) dX1_does_298 rfl (ch_iload_n 3 _ dX1_does_299 rfl (ch_iv yX1_cast prog_5_method_35_code 4 none (ci := 1) (q := (RX1, TX1, 22)) (b := t0) (d' := 4) (av := [.int v10]) (rest := []) rfl dX1_does_300 q1464 q1466 rfl qs90 q1467 can_X1_cast (Nat.le_of_ble_eq_true rfl) (Nat.le_of_ble_eq_true rfl) (ch_rts hb93) (cp_tV h (fun p hp Q' hq => s_X1_cast hp hq) (fun w95 h => ?_) (fun a w1 h => ?_))))
    · exact ch_iinc 4 _ _ ((v7 + 1) + 1) (ls1 := [some (va_rf (some t0)), some (va_rf v4), some (.int v7), some (.int v10), some (.int ((v7 + 1) + 1))]) dX1_does_303 rfl rfl (Nat.le_of_ble_eq_true rfl) rfl (ch_goto 389 dX1_does_306 rfl (ch_FT.wk (ch_wS (ch_wN (ch_wN (ch_wN (ch_wS ch_w0))))) (s_X1_does_389  h hk)))
    · subst h
      exact ch_th rfl hk
  replace h := ch_ifF e11 h
  by_cases e12 : v14 = 12
  · have h := ch_ifT e12 h
    refine ch_tableIn _ (off := 264) (tgt := 309) dX1_does_45 (by rw [e12]; decide) (by rw [e12]; decide) (by rw [e12]; rfl) rfl ?_
    obtain ⟨_, hb96, h⟩ := ch_bd h
    obtain ⟨p97, hp98, h⟩ := ch_bd h
    refine ch_aload_n 0 (some t0) dX1_does_309 rfl (ch_aload_n 0 (some t0) dX1_does_310 rfl (ch_aload_n 0 (some t0) dX1_does_311 rfl (ch_iv yX1_pop prog_5_method_13_code 1 (some .long) (ci := 1) (q := (RX1, TX1, 22)) (b := t0) (d' := 2) (av := []) (rest := [va_rf (some t0), va_rf (some t0)]) rfl dX1_does_312 q1425 q1427 rfl qs81 q1428 can_X1_pop (Nat.le_of_ble_eq_true rfl) (ch_hw (Nat.le_of_ble_eq_true rfl)) (ch_rts hb96) (cp_kL (v := p97.1) (w1 := p97.2) (fun Q' hq => s_X1_pop hp98 hq) ?_))))
    obtain ⟨_, hb99, h⟩ := ch_bd h
    obtain ⟨v100, hp101, h⟩ := ch_bd h
    refine ch_iload_n 3 _ dX1_does_315 rfl (ch_iv yX1_isOf prog_5_method_19_code 5 (some .boolean) (ci := 1) (q := (RX1, TX1, 22)) (b := t0) (d' := 3) (av := [.long p97.1, .int v10]) (rest := [va_rf (some t0)]) rfl dX1_does_316 q1468 q1470 rfl qs91 q1471 can_X1_isOf (Nat.le_of_ble_eq_true rfl) (ch_hw (Nat.le_of_ble_eq_true rfl)) (ch_rts hb99) (cp_kI (v := v100) (w1 := p97.2) (fun Q' hq => s_X1_isOf hp101 hq) ?_))
    refine cp_if_eq _ (tgt := 326) dX1_does_319 rfl h (fun h => ?_) (fun h => ?_)
    · exact ch_iconst _ 0 dX1_does_326 rfl (ch_FT.wk (ch_wS (ch_wN (ch_wN (ch_wN (ch_wS ch_w0))))) (s_X1_does_327  h hk))
    · exact ch_iconst _ 1 dX1_does_322 rfl (ch_goto 327 dX1_does_323 rfl (ch_FT.wk (ch_wS (ch_wN (ch_wN (ch_wN (ch_wS ch_w0))))) (s_X1_does_327  h hk)))
  replace h := ch_ifF e12 h
  by_cases e13 : v14 = 13
  · have h := ch_ifT e13 h
    refine ch_tableIn _ (off := 294) (tgt := 339) dX1_does_45 (by rw [e13]; decide) (by rw [e13]; decide) (by rw [e13]; rfl) rfl ?_
    obtain ⟨_, hb102, h⟩ := ch_bd h
    obtain ⟨p103, hp104, h⟩ := ch_bd h
    refine ch_aload_n 0 (some t0) dX1_does_339 rfl (ch_aload_n 0 (some t0) dX1_does_340 rfl (ch_iv yX1_popNumber prog_5_method_14_code 1 (some .int) (ci := 1) (q := (RX1, TX1, 22)) (b := t0) (d' := 3) (av := []) (rest := [va_rf (some t0)]) rfl dX1_does_341 q1445 q1447 rfl qs86 q1448 can_X1_popNumber (Nat.le_of_ble_eq_true rfl) (ch_hw (Nat.le_of_ble_eq_true rfl)) (ch_rts hb102) (cp_kI (v := p103.1) (w1 := p103.2) (fun Q' hq => s_X1_popNumber hp104 hq) ?_)))
    obtain ⟨v105, hp106, h⟩ := ch_bd h
    refine ch_ineg _ dX1_does_344 (ch_isT yX0_numberWord prog_1_method_4_code 1 (some .long) (d' := 2) (av := [.int (-p103.1)]) (rest := [va_rf (some t0)]) rfl dX1_does_345 q1418 q1419 q200 q1420 can_X0_numberWord (Nat.le_of_ble_eq_true rfl) (ch_hw (Nat.le_of_ble_eq_true rfl)) (cp_kL (v := v105) (w1 := p103.2) (fun Q' hq => s_X0_numberWord hp106 hq) ?_))
    obtain ⟨_, hb107, h⟩ := ch_bd h
    obtain ⟨p108, hp109, h⟩ := ch_bd h
    refine ch_iv yX1_push prog_5_method_12_code 3 none (ci := 1) (q := (RX1, TX1, 22)) (b := t0) (d' := 2) (av := [.long v105]) (rest := []) rfl dX1_does_348 q1377 q1379 rfl qs72 q1380 can_X1_push (Nat.le_of_ble_eq_true rfl) (Nat.le_of_ble_eq_true rfl) (ch_rts hb107) (cp_kV (w1 := p108) (fun Q' hq => s_X1_push hp109 hq) ?_)
    exact ch_goto 389 dX1_does_351 rfl (ch_FT.wk (ch_wS (ch_wN (ch_wN (ch_wN (ch_wS ch_w0))))) (s_X1_does_389  h hk))
  replace h := ch_ifF e13 h
  by_cases e14 : v14 = 14
  · have h := ch_ifT e14 h
    refine ch_tableIn _ (off := 309) (tgt := 354) dX1_does_45 (by rw [e14]; decide) (by rw [e14]; decide) (by rw [e14]; rfl) rfl ?_
    obtain ⟨_, hb110, h⟩ := ch_bd h
    obtain ⟨p111, hp112, h⟩ := ch_bd h
    refine ch_aload_n 0 (some t0) dX1_does_354 rfl (ch_iconst _ 1 dX1_does_355 rfl (ch_aload_n 0 (some t0) dX1_does_356 rfl (ch_iv yX1_popNumber prog_5_method_14_code 1 (some .int) (ci := 1) (q := (RX1, TX1, 22)) (b := t0) (d' := 3) (av := []) (rest := [.int 1, va_rf (some t0)]) rfl dX1_does_357 q1445 q1447 rfl qs86 q1448 can_X1_popNumber (Nat.le_of_ble_eq_true rfl) (ch_hw (Nat.le_of_ble_eq_true rfl)) (ch_rts hb110) (cp_kI (v := p111.1) (w1 := p111.2) (fun Q' hq => s_X1_popNumber hp112 hq) ?_))))
    obtain ⟨v113, hp114, h⟩ := ch_bd h
    refine ch_isub _ _ dX1_does_360 (ch_isT yX0_numberWord prog_1_method_4_code 1 (some .long) (d' := 2) (av := [.int (1 - p111.1)]) (rest := [va_rf (some t0)]) rfl dX1_does_361 q1418 q1419 q200 q1420 can_X0_numberWord (Nat.le_of_ble_eq_true rfl) (ch_hw (Nat.le_of_ble_eq_true rfl)) (cp_kL (v := v113) (w1 := p111.2) (fun Q' hq => s_X0_numberWord hp114 hq) ?_))
    obtain ⟨_, hb115, h⟩ := ch_bd h
    obtain ⟨p116, hp117, h⟩ := ch_bd h
    refine ch_iv yX1_push prog_5_method_12_code 3 none (ci := 1) (q := (RX1, TX1, 22)) (b := t0) (d' := 2) (av := [.long v113]) (rest := []) rfl dX1_does_364 q1377 q1379 rfl qs72 q1380 can_X1_push (Nat.le_of_ble_eq_true rfl) (Nat.le_of_ble_eq_true rfl) (ch_rts hb115) (cp_kV (w1 := p116) (fun Q' hq => s_X1_push hp117 hq) ?_)
    exact ch_goto 389 dX1_does_367 rfl (ch_FT.wk (ch_wS (ch_wN (ch_wN (ch_wN (ch_wS ch_w0))))) (s_X1_does_389  h hk))
  replace h := ch_ifF e14 h
  by_cases e15 : v14 = 15
  · have h := ch_ifT e15 h
    refine ch_tableIn _ (off := 325) (tgt := 370) dX1_does_45 (by rw [e15]; decide) (by rw [e15]; decide) (by rw [e15]; rfl) rfl ?_
    obtain ⟨_, hb118, h⟩ := ch_bd h
    refine ch_aload_n 0 (some t0) dX1_does_370 rfl (ch_iload_n 3 _ dX1_does_371 rfl (ch_iv yX1_join prog_5_method_36_code 6 none (ci := 1) (q := (RX1, TX1, 22)) (b := t0) (d' := 5) (av := [.int v10]) (rest := []) rfl dX1_does_372 q1477 q1479 rfl qs93 q1480 can_X1_join (Nat.le_of_ble_eq_true rfl) (Nat.le_of_ble_eq_true rfl) (ch_rts hb118) (cp_tV h (fun p hp Q' hq => s_X1_join hp hq) (fun w120 h => ?_) (fun a w1 h => ?_))))
    · exact ch_iinc 4 _ _ ((v7 + 1) + 1) (ls1 := [some (va_rf (some t0)), some (va_rf v4), some (.int v7), some (.int v10), some (.int ((v7 + 1) + 1))]) dX1_does_375 rfl rfl (Nat.le_of_ble_eq_true rfl) rfl (ch_goto 389 dX1_does_378 rfl (ch_FT.wk (ch_wS (ch_wN (ch_wN (ch_wN (ch_wS ch_w0))))) (s_X1_does_389  h hk)))
    · subst h
      exact ch_th rfl hk
  replace h := ch_ifF e15 h
  refine ch_tableOut _ (tgt := 381) dX1_does_45 (by have t0 := ch_ne (n := 0) e0 rfl; have t1 := ch_ne (n := 1) e1 rfl; have t2 := ch_ne (n := 2) e2 rfl; have t3 := ch_ne (n := 3) e3 rfl; have t4 := ch_ne (n := 4) e4 rfl; have t5 := ch_ne (n := 5) e5 rfl; have t6 := ch_ne (n := 6) e6 rfl; have t7 := ch_ne (n := 7) e7 rfl; have t8 := ch_ne (n := 8) e8 rfl; have t9 := ch_ne (n := 9) e9 rfl; have t10 := ch_ne (n := 10) e10 rfl; have t11 := ch_ne (n := 11) e11 rfl; have t12 := ch_ne (n := 12) e12 rfl; have t13 := ch_ne (n := 13) e13 rfl; have t14 := ch_ne (n := 14) e14 rfl; have t15 := ch_ne (n := 15) e15 rfl; omega) rfl ?_
  obtain ⟨_, hb16, h⟩ := ch_bd h
  refine ch_aload_n 0 (some t0) dX1_does_381 rfl (ch_aload_n 1 v4 dX1_does_382 rfl (ch_iload_n 2 _ dX1_does_383 rfl (ch_iload_n 3 _ dX1_does_384 rfl (ch_iv yX1_goes prog_5_method_27_code 10 none (ci := 1) (q := (RX1, TX1, 22)) (b := t0) (d' := 9) (av := [va_rf v4, .int v7, .int v10]) (rest := []) rfl dX1_does_385 q1485 q1487 rfl qs95 q1488 can_X1_goes (Nat.le_of_ble_eq_true rfl) (Nat.le_of_ble_eq_true rfl) (ch_rts hb16) (cp_tV h (fun p hp Q' hq => s_X1_goes hp hq) (fun w18 h => ?_) (fun a w1 h => ?_))))))
  · obtain rfl := Option.some.inj h
    exact ch_return dX1_does_388 rfl hk
  · subst h
    exact ch_th rfl hk

