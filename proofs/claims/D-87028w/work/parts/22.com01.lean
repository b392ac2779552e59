/-! printed by tools/dec.py -/
set_option maxRecDepth 100000
theorem bJ8_checkIndex_0 : ch_ck cJ8_checkIndex 0 [26, 155, 0, 8, 26, 27, 161, 0, 10, 44, 26, 27, 184, 0, 95, 191] := ch_ckof (by decide +kernel)
theorem bJ8_checkIndex_1 : ch_ck cJ8_checkIndex 16 [26, 172] := ch_ckof (by decide +kernel)
theorem dJ8_checkIndex_0 : decode cJ8_checkIndex 0 = .ok (.iload_n 0, 1) := dz_26 (bJ8_checkIndex_0 0 _ rfl)
theorem dJ8_checkIndex_1 : decode cJ8_checkIndex 1 = .ok (.ifCond .lt 8, 3) := dz_155 (bJ8_checkIndex_0 1 _ rfl) (bJ8_checkIndex_0 2 _ rfl) (bJ8_checkIndex_0 3 _ rfl)
theorem dJ8_checkIndex_4 : decode cJ8_checkIndex 4 = .ok (.iload_n 0, 1) := dz_26 (bJ8_checkIndex_0 4 _ rfl)
theorem dJ8_checkIndex_5 : decode cJ8_checkIndex 5 = .ok (.iload_n 1, 1) := dz_27 (bJ8_checkIndex_0 5 _ rfl)
theorem dJ8_checkIndex_6 : decode cJ8_checkIndex 6 = .ok (.if_icmp .lt 10, 3) := dz_161 (bJ8_checkIndex_0 6 _ rfl) (bJ8_checkIndex_0 7 _ rfl) (bJ8_checkIndex_0 8 _ rfl)
theorem dJ8_checkIndex_9 : decode cJ8_checkIndex 9 = .ok (.aload_n 2, 1) := dz_44 (bJ8_checkIndex_0 9 _ rfl)
theorem dJ8_checkIndex_10 : decode cJ8_checkIndex 10 = .ok (.iload_n 0, 1) := dz_26 (bJ8_checkIndex_0 10 _ rfl)
theorem dJ8_checkIndex_11 : decode cJ8_checkIndex 11 = .ok (.iload_n 1, 1) := dz_27 (bJ8_checkIndex_0 11 _ rfl)
theorem dJ8_checkIndex_12 : decode cJ8_checkIndex 12 = .ok (.invokestatic 95, 3) := dz_184 (bJ8_checkIndex_0 12 _ rfl) (bJ8_checkIndex_0 13 _ rfl) (bJ8_checkIndex_0 14 _ rfl)
theorem dJ8_checkIndex_15 : decode cJ8_checkIndex 15 = .ok (.athrow, 1) := dz_191 (bJ8_checkIndex_0 15 _ rfl)
theorem dJ8_checkIndex_16 : decode cJ8_checkIndex 16 = .ok (.iload_n 0, 1) := dz_26 (bJ8_checkIndex_1 0 _ rfl)
theorem dJ8_checkIndex_17 : decode cJ8_checkIndex 17 = .ok (.ireturn, 1) := dz_172 (bJ8_checkIndex_1 1 _ rfl)
def c_J8_checkIndex_9 (x0 : Int32) (x1 : Int32) (x2 : Option Nat)  (w : ch_W) : Option (Int32) := none
theorem s_J8_checkIndex_9 {g : State} {kb : Bool} {x0 : Int32} {x1 : Int32} {x2 : Option Nat} {w : ch_W} {res : Int32} {Q : Outcome → ch_W → Prop} (h : c_J8_checkIndex_9 x0 x1 x2 w = some res) (hk : (fun r => ch_eI Q (r, w)) res) : ch_FT g kb mJ8_checkIndex 2 9 [some (.int x0), some (.int x1), some (va_rf x2)] [] (w) Q := by
  unfold c_J8_checkIndex_9 at h
  cases h

def c_J8_checkIndex (x0 : Int32) (x1 : Int32) (x2 : Option Nat) (w : ch_W) : Option (Int32) := if x0 < 0 then (c_J8_checkIndex_9 x0 x1 x2 w) else (if x0 < x1 then (some (x0)) else (c_J8_checkIndex_9 x0 x1 x2 w))
theorem s_J8_checkIndex {g : State} {kb : Bool} {x0 : Int32} {x1 : Int32} {x2 : Option Nat} {w : ch_W} {res : Int32} {Q : Outcome → ch_W → Prop} (h : c_J8_checkIndex x0 x1 x2 w = some res) (hk : (fun r => ch_eI Q (r, w)) res) : ch_CT g kb yJ8_checkIndex 2 [.int x0, .int x1, va_rf x2] (w) Q := by
  unfold c_J8_checkIndex at h
  refine ch_ctL mJ8_checkIndex (ls := [some (.int x0), some (.int x1), some (va_rf x2)]) q541 rfl (ch_lyi (ch_lyi (ch_lyr (r := x2) ch_ly0))) (Nat.le_of_ble_eq_true rfl) rfl ?_
  refine ch_iload_n 0 _ dJ8_checkIndex_0 rfl (cp_if_lt _ (tgt := 9) dJ8_checkIndex_1 rfl h (fun h => ?_) (fun h => ?_))
  · exact ch_FT.wk (ch_wS (ch_wS (ch_wS ch_w0))) (s_J8_checkIndex_9  h hk)
  · refine ch_iload_n 0 _ dJ8_checkIndex_4 rfl (ch_iload_n 1 _ dJ8_checkIndex_5 rfl (cp_icmp_lt _ _ (tgt := 16) dJ8_checkIndex_6 rfl h (fun h => ?_) (fun h => ?_)))
    · obtain rfl := Option.some.inj h
      exact ch_iload_n 0 _ dJ8_checkIndex_16 rfl (ch_ireturn _ dJ8_checkIndex_17 rfl rfl hk)
    · exact ch_FT.wk (ch_wS (ch_wS (ch_wS ch_w0))) (s_J8_checkIndex_9  h hk)

theorem bJ10_checkIndex_0 : ch_ck cJ10_checkIndex 0 [26, 27, 1, 184, 0, 105, 172] := ch_ckof (by decide +kernel)
theorem dJ10_checkIndex_0 : decode cJ10_checkIndex 0 = .ok (.iload_n 0, 1) := dz_26 (bJ10_checkIndex_0 0 _ rfl)
theorem dJ10_checkIndex_1 : decode cJ10_checkIndex 1 = .ok (.iload_n 1, 1) := dz_27 (bJ10_checkIndex_0 1 _ rfl)
theorem dJ10_checkIndex_2 : decode cJ10_checkIndex 2 = .ok (.aconst_null, 1) := dz_1 (bJ10_checkIndex_0 2 _ rfl)
theorem dJ10_checkIndex_3 : decode cJ10_checkIndex 3 = .ok (.invokestatic 105, 3) := dz_184 (bJ10_checkIndex_0 3 _ rfl) (bJ10_checkIndex_0 4 _ rfl) (bJ10_checkIndex_0 5 _ rfl)
theorem dJ10_checkIndex_6 : decode cJ10_checkIndex 6 = .ok (.ireturn, 1) := dz_172 (bJ10_checkIndex_0 6 _ rfl)
def c_J10_checkIndex (x0 : Int32) (x1 : Int32) (w : ch_W) : Option (Int32) := (c_J8_checkIndex x0 x1 none w).bind fun v1 => some (v1)
theorem s_J10_checkIndex {g : State} {kb : Bool} {x0 : Int32} {x1 : Int32} {w : ch_W} {res : Int32} {Q : Outcome → ch_W → Prop} (h : c_J10_checkIndex x0 x1 w = some res) (hk : (fun r => ch_eI Q (r, w)) res) : ch_CT g kb yJ10_checkIndex 3 [.int x0, .int x1] (w) Q := by
  unfold c_J10_checkIndex at h
  refine ch_ctL mJ10_checkIndex (ls := [some (.int x0), some (.int x1)]) q617 rfl (ch_lyi (ch_lyi ch_ly0)) (Nat.le_of_ble_eq_true rfl) rfl ?_
  obtain ⟨v1, hp2, h⟩ := ch_bd h
  refine ch_iload_n 0 _ dJ10_checkIndex_0 rfl (ch_iload_n 1 _ dJ10_checkIndex_1 rfl (ch_null dJ10_checkIndex_2 (ch_is yJ8_checkIndex prog_40_method_11_code 3 (some .int) (d' := 2) (av := [.int x0, .int x1, va_rf none]) (rest := []) rfl dJ10_checkIndex_3 q618 q540 q213 q541 can_J8_checkIndex (Nat.le_of_ble_eq_true rfl) (Nat.le_of_ble_eq_true rfl) (cp_kI (v := v1) (w1 := w) (fun Q' hq => s_J8_checkIndex hp2 hq) ?_))))
  obtain rfl := Option.some.inj h
  exact ch_ireturn _ dJ10_checkIndex_6 rfl rfl hk

theorem bJ11_hugeLength_0 : ch_ck cJ11_hugeLength 0 [26, 27, 96, 61, 28, 156, 0, 44, 187, 0, 204, 89, 187, 0, 89, 89] := ch_ckof (by decide +kernel)
theorem bJ11_hugeLength_1 : ch_ck cJ11_hugeLength 16 [183, 0, 91, 18, 206, 182, 0, 94, 26, 182, 0, 98, 18, 208, 182, 0] := ch_ckof (by decide +kernel)
theorem bJ11_hugeLength_2 : ch_ck cJ11_hugeLength 32 [94, 27, 182, 0, 98, 18, 210, 182, 0, 94, 182, 0, 101, 183, 0, 212] := ch_ckof (by decide +kernel)
theorem bJ11_hugeLength_3 : ch_ck cJ11_hugeLength 48 [191, 28, 18, 200, 163, 0, 6, 18, 200, 172, 28, 172] := ch_ckof (by decide +kernel)
theorem dJ11_hugeLength_0 : decode cJ11_hugeLength 0 = .ok (.iload_n 0, 1) := dz_26 (bJ11_hugeLength_0 0 _ rfl)
theorem dJ11_hugeLength_1 : decode cJ11_hugeLength 1 = .ok (.iload_n 1, 1) := dz_27 (bJ11_hugeLength_0 1 _ rfl)
theorem dJ11_hugeLength_2 : decode cJ11_hugeLength 2 = .ok (.iadd, 1) := dz_96 (bJ11_hugeLength_0 2 _ rfl)
theorem dJ11_hugeLength_3 : decode cJ11_hugeLength 3 = .ok (.istore_n 2, 1) := dz_61 (bJ11_hugeLength_0 3 _ rfl)
theorem dJ11_hugeLength_4 : decode cJ11_hugeLength 4 = .ok (.iload_n 2, 1) := dz_28 (bJ11_hugeLength_0 4 _ rfl)
theorem dJ11_hugeLength_5 : decode cJ11_hugeLength 5 = .ok (.ifCond .ge 44, 3) := dz_156 (bJ11_hugeLength_0 5 _ rfl) (bJ11_hugeLength_0 6 _ rfl) (bJ11_hugeLength_0 7 _ rfl)
theorem dJ11_hugeLength_8 : decode cJ11_hugeLength 8 = .ok (.new 204, 3) := dz_187 (bJ11_hugeLength_0 8 _ rfl) (bJ11_hugeLength_0 9 _ rfl) (bJ11_hugeLength_0 10 _ rfl)
theorem dJ11_hugeLength_11 : decode cJ11_hugeLength 11 = .ok (.dup, 1) := dz_89 (bJ11_hugeLength_0 11 _ rfl)
theorem dJ11_hugeLength_12 : decode cJ11_hugeLength 12 = .ok (.new 89, 3) := dz_187 (bJ11_hugeLength_0 12 _ rfl) (bJ11_hugeLength_0 13 _ rfl) (bJ11_hugeLength_0 14 _ rfl)
theorem dJ11_hugeLength_15 : decode cJ11_hugeLength 15 = .ok (.dup, 1) := dz_89 (bJ11_hugeLength_0 15 _ rfl)
theorem dJ11_hugeLength_16 : decode cJ11_hugeLength 16 = .ok (.invokespecial 91, 3) := dz_183 (bJ11_hugeLength_1 0 _ rfl) (bJ11_hugeLength_1 1 _ rfl) (bJ11_hugeLength_1 2 _ rfl)
theorem dJ11_hugeLength_19 : decode cJ11_hugeLength 19 = .ok (.ldc 206, 2) := dz_18 (bJ11_hugeLength_1 3 _ rfl) (bJ11_hugeLength_1 4 _ rfl)
theorem dJ11_hugeLength_21 : decode cJ11_hugeLength 21 = .ok (.invokevirtual 94, 3) := dz_182 (bJ11_hugeLength_1 5 _ rfl) (bJ11_hugeLength_1 6 _ rfl) (bJ11_hugeLength_1 7 _ rfl)
theorem dJ11_hugeLength_24 : decode cJ11_hugeLength 24 = .ok (.iload_n 0, 1) := dz_26 (bJ11_hugeLength_1 8 _ rfl)
theorem dJ11_hugeLength_25 : decode cJ11_hugeLength 25 = .ok (.invokevirtual 98, 3) := dz_182 (bJ11_hugeLength_1 9 _ rfl) (bJ11_hugeLength_1 10 _ rfl) (bJ11_hugeLength_1 11 _ rfl)
theorem dJ11_hugeLength_28 : decode cJ11_hugeLength 28 = .ok (.ldc 208, 2) := dz_18 (bJ11_hugeLength_1 12 _ rfl) (bJ11_hugeLength_1 13 _ rfl)
theorem dJ11_hugeLength_30 : decode cJ11_hugeLength 30 = .ok (.invokevirtual 94, 3) := dz_182 (bJ11_hugeLength_1 14 _ rfl) (bJ11_hugeLength_1 15 _ rfl) (bJ11_hugeLength_2 0 _ rfl)
theorem dJ11_hugeLength_33 : decode cJ11_hugeLength 33 = .ok (.iload_n 1, 1) := dz_27 (bJ11_hugeLength_2 1 _ rfl)
theorem dJ11_hugeLength_34 : decode cJ11_hugeLength 34 = .ok (.invokevirtual 98, 3) := dz_182 (bJ11_hugeLength_2 2 _ rfl) (bJ11_hugeLength_2 3 _ rfl) (bJ11_hugeLength_2 4 _ rfl)
theorem dJ11_hugeLength_37 : decode cJ11_hugeLength 37 = .ok (.ldc 210, 2) := dz_18 (bJ11_hugeLength_2 5 _ rfl) (bJ11_hugeLength_2 6 _ rfl)
theorem dJ11_hugeLength_39 : decode cJ11_hugeLength 39 = .ok (.invokevirtual 94, 3) := dz_182 (bJ11_hugeLength_2 7 _ rfl) (bJ11_hugeLength_2 8 _ rfl) (bJ11_hugeLength_2 9 _ rfl)
theorem dJ11_hugeLength_42 : decode cJ11_hugeLength 42 = .ok (.invokevirtual 101, 3) := dz_182 (bJ11_hugeLength_2 10 _ rfl) (bJ11_hugeLength_2 11 _ rfl) (bJ11_hugeLength_2 12 _ rfl)
theorem dJ11_hugeLength_45 : decode cJ11_hugeLength 45 = .ok (.invokespecial 212, 3) := dz_183 (bJ11_hugeLength_2 13 _ rfl) (bJ11_hugeLength_2 14 _ rfl) (bJ11_hugeLength_2 15 _ rfl)
theorem dJ11_hugeLength_48 : decode cJ11_hugeLength 48 = .ok (.athrow, 1) := dz_191 (bJ11_hugeLength_3 0 _ rfl)
theorem dJ11_hugeLength_49 : decode cJ11_hugeLength 49 = .ok (.iload_n 2, 1) := dz_28 (bJ11_hugeLength_3 1 _ rfl)
theorem dJ11_hugeLength_50 : decode cJ11_hugeLength 50 = .ok (.ldc 200, 2) := dz_18 (bJ11_hugeLength_3 2 _ rfl) (bJ11_hugeLength_3 3 _ rfl)
theorem dJ11_hugeLength_52 : decode cJ11_hugeLength 52 = .ok (.if_icmp .gt 6, 3) := dz_163 (bJ11_hugeLength_3 4 _ rfl) (bJ11_hugeLength_3 5 _ rfl) (bJ11_hugeLength_3 6 _ rfl)
theorem dJ11_hugeLength_55 : decode cJ11_hugeLength 55 = .ok (.ldc 200, 2) := dz_18 (bJ11_hugeLength_3 7 _ rfl) (bJ11_hugeLength_3 8 _ rfl)
theorem dJ11_hugeLength_57 : decode cJ11_hugeLength 57 = .ok (.ireturn, 1) := dz_172 (bJ11_hugeLength_3 9 _ rfl)
theorem dJ11_hugeLength_58 : decode cJ11_hugeLength 58 = .ok (.iload_n 2, 1) := dz_28 (bJ11_hugeLength_3 10 _ rfl)
theorem dJ11_hugeLength_59 : decode cJ11_hugeLength 59 = .ok (.ireturn, 1) := dz_172 (bJ11_hugeLength_3 11 _ rfl)
def c_J11_hugeLength (x0 : Int32) (x1 : Int32) (w : ch_W) : Option (Int32) := if (x0 + x1) < 0 then (none) else (if 2147483639 < (x0 + x1) then (some (x0 + x1)) else (some (2147483639)))
theorem s_J11_hugeLength {g : State} {kb : Bool} {x0 : Int32} {x1 : Int32} {w : ch_W} {res : Int32} {Q : Outcome → ch_W → Prop} (h : c_J11_hugeLength x0 x1 w = some res) (hk : (fun r => ch_eI Q (r, w)) res) : ch_CT g kb yJ11_hugeLength 2 [.int x0, .int x1] (w) Q := by
  unfold c_J11_hugeLength at h
  refine ch_ctL mJ11_hugeLength (ls := [some (.int x0), some (.int x1), none]) q655 rfl (ch_lyi (ch_lyi ch_ly0)) (Nat.le_of_ble_eq_true rfl) rfl ?_
  refine ch_iload_n 0 _ dJ11_hugeLength_0 rfl (ch_iload_n 1 _ dJ11_hugeLength_1 rfl (ch_iadd _ _ dJ11_hugeLength_2 (ch_istore_n 2 _ (ls1 := [some (.int x0), some (.int x1), some (.int (x0 + x1))]) dJ11_hugeLength_3 (Nat.le_of_ble_eq_true rfl) rfl (ch_iload_n 2 _ dJ11_hugeLength_4 rfl (cp_if_ge _ (tgt := 49) dJ11_hugeLength_5 rfl h (fun h => ?_) (fun h => ?_))))))
  · refine ch_iload_n 2 _ dJ11_hugeLength_49 rfl (ch_ldc 200 2147483639 dJ11_hugeLength_50 q652 (cp_icmp_gt _ _ (tgt := 58) dJ11_hugeLength_52 rfl h (fun h => ?_) (fun h => ?_)))
    · obtain rfl := Option.some.inj h
      exact ch_iload_n 2 _ dJ11_hugeLength_58 rfl (ch_ireturn _ dJ11_hugeLength_59 rfl rfl hk)
    · obtain rfl := Option.some.inj h
      exact ch_ldc 200 2147483639 dJ11_hugeLength_55 q652 (ch_ireturn _ dJ11_hugeLength_57 rfl rfl hk)
  · cases h

theorem bJ11_newLength_0 : ch_ck cJ11_newLength 0 [26, 27, 28, 184, 0, 194, 96, 62, 3, 29, 162, 0, 11, 29, 18, 200] := ch_ckof (by decide +kernel)
theorem bJ11_newLength_1 : ch_ck cJ11_newLength 16 [163, 0, 5, 29, 172, 26, 27, 184, 0, 201, 172] := ch_ckof (by decide +kernel)
theorem dJ11_newLength_0 : decode cJ11_newLength 0 = .ok (.iload_n 0, 1) := dz_26 (bJ11_newLength_0 0 _ rfl)
theorem dJ11_newLength_1 : decode cJ11_newLength 1 = .ok (.iload_n 1, 1) := dz_27 (bJ11_newLength_0 1 _ rfl)
theorem dJ11_newLength_2 : decode cJ11_newLength 2 = .ok (.iload_n 2, 1) := dz_28 (bJ11_newLength_0 2 _ rfl)
theorem dJ11_newLength_3 : decode cJ11_newLength 3 = .ok (.invokestatic 194, 3) := dz_184 (bJ11_newLength_0 3 _ rfl) (bJ11_newLength_0 4 _ rfl) (bJ11_newLength_0 5 _ rfl)
theorem dJ11_newLength_6 : decode cJ11_newLength 6 = .ok (.iadd, 1) := dz_96 (bJ11_newLength_0 6 _ rfl)
theorem dJ11_newLength_7 : decode cJ11_newLength 7 = .ok (.istore_n 3, 1) := dz_62 (bJ11_newLength_0 7 _ rfl)
theorem dJ11_newLength_8 : decode cJ11_newLength 8 = .ok (.iconst 0, 1) := dz_3 (bJ11_newLength_0 8 _ rfl)
theorem dJ11_newLength_9 : decode cJ11_newLength 9 = .ok (.iload_n 3, 1) := dz_29 (bJ11_newLength_0 9 _ rfl)
theorem dJ11_newLength_10 : decode cJ11_newLength 10 = .ok (.if_icmp .ge 11, 3) := dz_162 (bJ11_newLength_0 10 _ rfl) (bJ11_newLength_0 11 _ rfl) (bJ11_newLength_0 12 _ rfl)
theorem dJ11_newLength_13 : decode cJ11_newLength 13 = .ok (.iload_n 3, 1) := dz_29 (bJ11_newLength_0 13 _ rfl)
theorem dJ11_newLength_14 : decode cJ11_newLength 14 = .ok (.ldc 200, 2) := dz_18 (bJ11_newLength_0 14 _ rfl) (bJ11_newLength_0 15 _ rfl)
theorem dJ11_newLength_16 : decode cJ11_newLength 16 = .ok (.if_icmp .gt 5, 3) := dz_163 (bJ11_newLength_1 0 _ rfl) (bJ11_newLength_1 1 _ rfl) (bJ11_newLength_1 2 _ rfl)
theorem dJ11_newLength_19 : decode cJ11_newLength 19 = .ok (.iload_n 3, 1) := dz_29 (bJ11_newLength_1 3 _ rfl)
theorem dJ11_newLength_20 : decode cJ11_newLength 20 = .ok (.ireturn, 1) := dz_172 (bJ11_newLength_1 4 _ rfl)
theorem dJ11_newLength_21 : decode cJ11_newLength 21 = .ok (.iload_n 0, 1) := dz_26 (bJ11_newLength_1 5 _ rfl)
theorem dJ11_newLength_22 : decode cJ11_newLength 22 = .ok (.iload_n 1, 1) := dz_27 (bJ11_newLength_1 6 _ rfl)
theorem dJ11_newLength_23 : decode cJ11_newLength 23 = .ok (.invokestatic 201, 3) := dz_184 (bJ11_newLength_1 7 _ rfl) (bJ11_newLength_1 8 _ rfl) (bJ11_newLength_1 9 _ rfl)
theorem dJ11_newLength_26 : decode cJ11_newLength 26 = .ok (.ireturn, 1) := dz_172 (bJ11_newLength_1 10 _ rfl)
def c_J11_newLength_21 (x0 : Int32) (x1 : Int32)  (w : ch_W) : Option (Int32) := (c_J11_hugeLength x0 x1 w).bind fun v1 => some (v1)
theorem s_J11_newLength_21 {g : State} {kb : Bool} {x0 : Int32} {x1 : Int32} {w : ch_W} {res : Int32} {Q : Outcome → ch_W → Prop} (h : c_J11_newLength_21 x0 x1 w = some res) (hk : (fun r => ch_eI Q (r, w)) res) : ch_FT g kb mJ11_newLength 3 21 [some (.int x0), some (.int x1), none, none] [] (w) Q := by
  unfold c_J11_newLength_21 at h
  obtain ⟨v1, hp2, h⟩ := ch_bd h
  refine ch_iload_n 0 _ dJ11_newLength_21 rfl (ch_iload_n 1 _ dJ11_newLength_22 rfl (ch_is yJ11_hugeLength prog_39_method_28_code 3 (some .int) (d' := 2) (av := [.int x0, .int x1]) (rest := []) rfl dJ11_newLength_23 q653 q654 q219 q655 can_J11_hugeLength (Nat.le_of_ble_eq_true rfl) (Nat.le_of_ble_eq_true rfl) (cp_kI (v := v1) (w1 := w) (fun Q' hq => s_J11_hugeLength hp2 hq) ?_)))
  obtain rfl := Option.some.inj h
  exact ch_ireturn _ dJ11_newLength_26 rfl rfl hk

def c_J11_newLength (x0 : Int32) (x1 : Int32) (x2 : Int32) (w : ch_W) : Option (Int32) := (c_J12_max x1 x2 ).bind fun v1 => if 0 < (x0 + v1) then (if 2147483639 < (x0 + v1) then (c_J11_newLength_21 x0 x1 w) else (some (x0 + v1))) else (c_J11_newLength_21 x0 x1 w)
theorem s_J11_newLength {g : State} {kb : Bool} {x0 : Int32} {x1 : Int32} {x2 : Int32} {w : ch_W} {res : Int32} {Q : Outcome → ch_W → Prop} (h : c_J11_newLength x0 x1 x2 w = some res) (hk : (fun r => ch_eI Q (r, w)) res) : ch_CT g kb yJ11_newLength 3 [.int x0, .int x1, .int x2] (w) Q := by
  unfold c_J11_newLength at h
  refine ch_ctL mJ11_newLength (ls := [some (.int x0), some (.int x1), some (.int x2), none]) q648 rfl (ch_lyi (ch_lyi (ch_lyi ch_ly0))) (Nat.le_of_ble_eq_true rfl) rfl ?_
  obtain ⟨v1, hp2, h⟩ := ch_bd h
  refine ch_iload_n 0 _ dJ11_newLength_0 rfl (ch_iload_n 1 _ dJ11_newLength_1 rfl (ch_iload_n 2 _ dJ11_newLength_2 rfl (ch_is yJ12_max prog_21_method_65_code 2 (some .int) (d' := 2) (av := [.int x1, .int x2]) (rest := [.int x0]) rfl dJ11_newLength_3 q649 q650 q220 q651 can_J12_max (Nat.le_of_ble_eq_true rfl) (ch_hw (Nat.le_of_ble_eq_true rfl)) (cp_kI (v := v1) (w1 := w) (fun Q' hq => s_J12_max hp2 hq) ?_))))
  refine ch_iadd _ _ dJ11_newLength_6 (ch_istore_n 3 _ (ls1 := [some (.int x0), some (.int x1), some (.int x2), some (.int (x0 + v1))]) dJ11_newLength_7 (Nat.le_of_ble_eq_true rfl) rfl (ch_iconst _ 0 dJ11_newLength_8 rfl (ch_iload_n 3 _ dJ11_newLength_9 rfl (cp_icmp_ge _ _ (tgt := 21) dJ11_newLength_10 rfl h (fun h => ?_) (fun h => ?_)))))
  · exact ch_FT.wk (ch_wS (ch_wS (ch_wN (ch_wN ch_w0)))) (s_J11_newLength_21  h hk)
  · refine ch_iload_n 3 _ dJ11_newLength_13 rfl (ch_ldc 200 2147483639 dJ11_newLength_14 q652 (cp_icmp_gt _ _ (tgt := 21) dJ11_newLength_16 rfl h (fun h => ?_) (fun h => ?_)))
    · exact ch_FT.wk (ch_wS (ch_wS (ch_wN (ch_wN ch_w0)))) (s_J11_newLength_21  h hk)
    · obtain rfl := Option.some.inj h
      exact ch_iload_n 3 _ dJ11_newLength_19 rfl (ch_ireturn _ dJ11_newLength_20 rfl rfl hk)

theorem bJ13_copyOf_2_0 : ch_ck cJ13_copyOf_2 0 [44, 18, 110, 166, 0, 10, 27, 189, 0, 2, 167, 0, 14, 44, 182, 0] := ch_ckof (by decide +kernel)
theorem bJ13_copyOf_2_1 : ch_ck cJ13_copyOf_2 16 [90, 27, 184, 0, 95, 192, 0, 110, 78, 42, 3, 45, 3, 42, 190, 27] := ch_ckof (by decide +kernel)
theorem bJ13_copyOf_2_2 : ch_ck cJ13_copyOf_2 32 [184, 1, 48, 184, 0, 150, 45, 176] := ch_ckof (by decide +kernel)
theorem dJ13_copyOf_2_0 : decode cJ13_copyOf_2 0 = .ok (.aload_n 2, 1) := dz_44 (bJ13_copyOf_2_0 0 _ rfl)
theorem dJ13_copyOf_2_1 : decode cJ13_copyOf_2 1 = .ok (.ldc 110, 2) := dz_18 (bJ13_copyOf_2_0 1 _ rfl) (bJ13_copyOf_2_0 2 _ rfl)
theorem dJ13_copyOf_2_3 : decode cJ13_copyOf_2 3 = .ok (.if_acmp .ne 10, 3) := dz_166 (bJ13_copyOf_2_0 3 _ rfl) (bJ13_copyOf_2_0 4 _ rfl) (bJ13_copyOf_2_0 5 _ rfl)
theorem dJ13_copyOf_2_6 : decode cJ13_copyOf_2 6 = .ok (.iload_n 1, 1) := dz_27 (bJ13_copyOf_2_0 6 _ rfl)
theorem dJ13_copyOf_2_7 : decode cJ13_copyOf_2 7 = .ok (.anewarray 2, 3) := dz_189 (bJ13_copyOf_2_0 7 _ rfl) (bJ13_copyOf_2_0 8 _ rfl) (bJ13_copyOf_2_0 9 _ rfl)
theorem dJ13_copyOf_2_10 : decode cJ13_copyOf_2 10 = .ok (.goto 14, 3) := dz_167 (bJ13_copyOf_2_0 10 _ rfl) (bJ13_copyOf_2_0 11 _ rfl) (bJ13_copyOf_2_0 12 _ rfl)
theorem dJ13_copyOf_2_13 : decode cJ13_copyOf_2 13 = .ok (.aload_n 2, 1) := dz_44 (bJ13_copyOf_2_0 13 _ rfl)
theorem dJ13_copyOf_2_14 : decode cJ13_copyOf_2 14 = .ok (.invokevirtual 90, 3) := dz_182 (bJ13_copyOf_2_0 14 _ rfl) (bJ13_copyOf_2_0 15 _ rfl) (bJ13_copyOf_2_1 0 _ rfl)
theorem dJ13_copyOf_2_17 : decode cJ13_copyOf_2 17 = .ok (.iload_n 1, 1) := dz_27 (bJ13_copyOf_2_1 1 _ rfl)
theorem dJ13_copyOf_2_18 : decode cJ13_copyOf_2 18 = .ok (.invokestatic 95, 3) := dz_184 (bJ13_copyOf_2_1 2 _ rfl) (bJ13_copyOf_2_1 3 _ rfl) (bJ13_copyOf_2_1 4 _ rfl)
theorem dJ13_copyOf_2_21 : decode cJ13_copyOf_2 21 = .ok (.checkcast 110, 3) := dz_192 (bJ13_copyOf_2_1 5 _ rfl) (bJ13_copyOf_2_1 6 _ rfl) (bJ13_copyOf_2_1 7 _ rfl)
theorem dJ13_copyOf_2_24 : decode cJ13_copyOf_2 24 = .ok (.astore_n 3, 1) := dz_78 (bJ13_copyOf_2_1 8 _ rfl)
theorem dJ13_copyOf_2_25 : decode cJ13_copyOf_2 25 = .ok (.aload_n 0, 1) := dz_42 (bJ13_copyOf_2_1 9 _ rfl)
theorem dJ13_copyOf_2_26 : decode cJ13_copyOf_2 26 = .ok (.iconst 0, 1) := dz_3 (bJ13_copyOf_2_1 10 _ rfl)
theorem dJ13_copyOf_2_27 : decode cJ13_copyOf_2 27 = .ok (.aload_n 3, 1) := dz_45 (bJ13_copyOf_2_1 11 _ rfl)
theorem dJ13_copyOf_2_28 : decode cJ13_copyOf_2 28 = .ok (.iconst 0, 1) := dz_3 (bJ13_copyOf_2_1 12 _ rfl)
theorem dJ13_copyOf_2_29 : decode cJ13_copyOf_2 29 = .ok (.aload_n 0, 1) := dz_42 (bJ13_copyOf_2_1 13 _ rfl)
theorem dJ13_copyOf_2_30 : decode cJ13_copyOf_2 30 = .ok (.arraylength, 1) := dz_190 (bJ13_copyOf_2_1 14 _ rfl)
theorem dJ13_copyOf_2_31 : decode cJ13_copyOf_2 31 = .ok (.iload_n 1, 1) := dz_27 (bJ13_copyOf_2_1 15 _ rfl)
theorem dJ13_copyOf_2_32 : decode cJ13_copyOf_2 32 = .ok (.invokestatic 304, 3) := dz_184 (bJ13_copyOf_2_2 0 _ rfl) (bJ13_copyOf_2_2 1 _ rfl) (bJ13_copyOf_2_2 2 _ rfl)
theorem dJ13_copyOf_2_35 : decode cJ13_copyOf_2 35 = .ok (.invokestatic 150, 3) := dz_184 (bJ13_copyOf_2_2 3 _ rfl) (bJ13_copyOf_2_2 4 _ rfl) (bJ13_copyOf_2_2 5 _ rfl)
theorem dJ13_copyOf_2_38 : decode cJ13_copyOf_2 38 = .ok (.aload_n 3, 1) := dz_45 (bJ13_copyOf_2_2 6 _ rfl)
theorem dJ13_copyOf_2_39 : decode cJ13_copyOf_2 39 = .ok (.areturn, 1) := dz_176 (bJ13_copyOf_2_2 7 _ rfl)
def c_J13_copyOf_2 (g : State) (x0 : Option Nat) (x1 : Int32) (x2 : Option Nat) (w : ch_W) : Option (Option Nat × ch_W) := if x2 = (some (ch_mi g)) then ((ch_nA w 25 x1).bind fun w1 => (ch_le w1 x0 25).bind fun v2 => (c_J12_min v2 x1 ).bind fun v3 => (ch_cpR w1 x0 0 (some (ch_nx w)) 0 v3).bind fun w5 => some ((some (ch_nx w), w5))) else (none)
theorem s_J13_copyOf_2 {g : State} {x0 : Option Nat} {x1 : Int32} {x2 : Option Nat} {w : ch_W} {res : Option Nat × ch_W} {Q : Outcome → ch_W → Prop} (h : c_J13_copyOf_2 g x0 x1 x2 w = some res) (hk : (ch_eR Q) res) : ch_CT g true yJ13_copyOf_2 3 [va_rf x0, .int x1, va_rf x2] (w) Q := by
  unfold c_J13_copyOf_2 at h
  refine ch_ctL mJ13_copyOf_2 (ls := [some (va_rf x0), some (.int x1), some (va_rf x2), none]) q679 rfl (ch_lyr (r := x0) (ch_lyi (ch_lyr (r := x2) ch_ly0))) (Nat.le_of_ble_eq_true rfl) rfl ?_
  refine ch_aload_n 2 x2 dJ13_copyOf_2_0 rfl (ch_ldcM q680 dJ13_copyOf_2_1 (cp_acmp_ne x2 (some (ch_mi g)) (tgt := 13) dJ13_copyOf_2_3 rfl h (fun h => ?_) (fun h => ?_)))
  · cases h
  · refine ch_iload_n 1 _ dJ13_copyOf_2_6 rfl (cp_newR (t := 25) (C := "java/lang/Object") dJ13_copyOf_2_7 rfl (Nat.le_of_ble_eq_true rfl) q682 q681 h (fun w1 h => ?_))
    refine ch_goto 24 dJ13_copyOf_2_10 rfl (ch_astore_n 3 (some (ch_nx w)) (ls1 := [some (va_rf x0), some (.int x1), some (va_rf x2), some (va_rf (some (ch_nx w)))]) dJ13_copyOf_2_24 (Nat.le_of_ble_eq_true rfl) (ch_s1o rfl rfl) (ch_aload_n 0 x0 dJ13_copyOf_2_25 rfl (ch_iconst _ 0 dJ13_copyOf_2_26 rfl (ch_aload_n 3 (some (ch_nx w)) dJ13_copyOf_2_27 rfl (ch_iconst _ 0 dJ13_copyOf_2_28 rfl (ch_aload_n 0 x0 dJ13_copyOf_2_29 rfl (cp_alen (t := 25) dJ13_copyOf_2_30 rfl rfl h (fun v2 h => ?_))))))))
    obtain ⟨v3, hp4, h⟩ := ch_bd h
    refine ch_iload_n 1 _ dJ13_copyOf_2_31 rfl (ch_is yJ12_min prog_21_method_69_code 2 (some .int) (d' := 2) (av := [.int v2, .int x1]) (rest := [.int 0, va_rf (some (ch_nx w)), .int 0, va_rf x0]) rfl dJ13_copyOf_2_32 q683 q684 q220 q685 can_J12_min (Nat.le_of_ble_eq_true rfl) (ch_hw (Nat.le_of_ble_eq_true rfl)) (cp_kI (v := v3) (w1 := w1) (fun Q' hq => s_J12_min hp4 hq) ?_))
    refine cp_copyR dJ13_copyOf_2_35 q686 (Nat.le_of_ble_eq_true rfl) (Nat.le_of_ble_eq_true rfl) h (fun w5 h => ?_)
    obtain rfl := Option.some.inj h
    exact ch_aload_n 3 (some (ch_nx w)) dJ13_copyOf_2_38 rfl (ch_areturn (some (ch_nx w)) dJ13_copyOf_2_39 rfl (Or.inr ⟨_, rfl⟩) hk)

theorem bJ13_copyOf_0 : ch_ck cJ13_copyOf 0 [42, 27, 42, 182, 0, 86, 184, 1, 44, 176] := ch_ckof (by decide +kernel)
theorem dJ13_copyOf_0 : decode cJ13_copyOf 0 = .ok (.aload_n 0, 1) := dz_42 (bJ13_copyOf_0 0 _ rfl)
theorem dJ13_copyOf_1 : decode cJ13_copyOf 1 = .ok (.iload_n 1, 1) := dz_27 (bJ13_copyOf_0 1 _ rfl)
theorem dJ13_copyOf_2 : decode cJ13_copyOf 2 = .ok (.aload_n 0, 1) := dz_42 (bJ13_copyOf_0 2 _ rfl)
theorem dJ13_copyOf_3 : decode cJ13_copyOf 3 = .ok (.invokevirtual 86, 3) := dz_182 (bJ13_copyOf_0 3 _ rfl) (bJ13_copyOf_0 4 _ rfl) (bJ13_copyOf_0 5 _ rfl)
theorem dJ13_copyOf_6 : decode cJ13_copyOf 6 = .ok (.invokestatic 300, 3) := dz_184 (bJ13_copyOf_0 6 _ rfl) (bJ13_copyOf_0 7 _ rfl) (bJ13_copyOf_0 8 _ rfl)
theorem dJ13_copyOf_9 : decode cJ13_copyOf 9 = .ok (.areturn, 1) := dz_176 (bJ13_copyOf_0 9 _ rfl)
def c_J13_copyOf (g : State) (x0 : Option Nat) (x1 : Int32) (w : ch_W) : Option (Option Nat × ch_W) := (ch_rc w x0 25).bind fun v1 => (c_J13_copyOf_2 g x0 x1 (some (ch_mi g)) w).bind fun p2 => some ((p2.1, p2.2))
theorem s_J13_copyOf {g : State} {x0 : Option Nat} {x1 : Int32} {w : ch_W} {res : Option Nat × ch_W} {Q : Outcome → ch_W → Prop} (h : c_J13_copyOf g x0 x1 w = some res) (hk : (ch_eR Q) res) : ch_CT g true yJ13_copyOf 4 [va_rf x0, .int x1] (w) Q := by
  unfold c_J13_copyOf at h
  refine ch_ctL mJ13_copyOf (ls := [some (va_rf x0), some (.int x1)]) q658 rfl (ch_lyr (r := x0) (ch_lyi ch_ly0)) (Nat.le_of_ble_eq_true rfl) rfl ?_
  refine ch_aload_n 0 x0 dJ13_copyOf_0 rfl (ch_iload_n 1 _ dJ13_copyOf_1 rfl (ch_aload_n 0 x0 dJ13_copyOf_2 rfl (ch_getC q659 dJ13_copyOf_3 (Nat.le_of_ble_eq_true rfl) (Nat.le_of_ble_eq_true rfl) h (fun v1 h => ?_))))
  obtain ⟨p2, hp3, h⟩ := ch_bd h
  refine ch_is yJ13_copyOf_2 prog_33_method_120_code 4 (some (.array (.object "java/lang/Object"))) (d' := 3) (av := [va_rf x0, .int x1, va_rf (some (ch_mi g))]) (rest := []) rfl dJ13_copyOf_6 q677 q678 q221 q679 can_J13_copyOf_2 (Nat.le_of_ble_eq_true rfl) (Nat.le_of_ble_eq_true rfl) (cp_kR (v := p2.1) (w1 := p2.2) (fun Q' hq => s_J13_copyOf_2 hp3 hq) ?_)
  obtain rfl := Option.some.inj h
  exact ch_areturn p2.1 dJ13_copyOf_9 rfl (Or.inr ⟨_, rfl⟩) hk

theorem bJ3_init_0 : ch_ck cJ3_init 0 [42, 183, 0, 1, 177] := ch_ckof (by decide +kernel)
theorem dJ3_init_0 : decode cJ3_init 0 = .ok (.aload_n 0, 1) := dz_42 (bJ3_init_0 0 _ rfl)
theorem dJ3_init_1 : decode cJ3_init 1 = .ok (.invokespecial 1, 3) := dz_183 (bJ3_init_0 1 _ rfl) (bJ3_init_0 2 _ rfl) (bJ3_init_0 3 _ rfl)
theorem dJ3_init_4 : decode cJ3_init 4 = .ok (.return_, 1) := dz_177 (bJ3_init_0 4 _ rfl)
def c_J3_init (t0 : Nat)  (w : ch_W) : Option (ch_W) := some (w)
theorem s_J3_init {g : State} {t0 : Nat} {w : ch_W} {res : ch_W} {Q : Outcome → ch_W → Prop} (h : c_J3_init t0 w = some res) (hk : (ch_eV Q) res) : ch_CT g true yJ3_init 2 [.ref t0] (w) Q := by
  unfold c_J3_init at h
  refine ch_ctL mJ3_init (ls := [some (va_rf (some t0))]) q448 rfl (ch_lyr (r := some t0) ch_ly0) (Nat.le_of_ble_eq_true rfl) rfl ?_
  obtain rfl := Option.some.inj h
  exact ch_aload_n 0 (some t0) dJ3_init_0 rfl (ch_objInit (some t0) rfl dJ3_init_1 q449 q234 q235 (Nat.le_of_ble_eq_true rfl) (Nat.le_of_ble_eq_true rfl) (ch_return dJ3_init_4 rfl hk))

theorem bJ4_init_0 : ch_ck cJ4_init 0 [42, 183, 0, 1, 42, 3, 181, 0, 7, 177] := ch_ckof (by decide +kernel)
theorem dJ4_init_0 : decode cJ4_init 0 = .ok (.aload_n 0, 1) := dz_42 (bJ4_init_0 0 _ rfl)
theorem dJ4_init_1 : decode cJ4_init 1 = .ok (.invokespecial 1, 3) := dz_183 (bJ4_init_0 1 _ rfl) (bJ4_init_0 2 _ rfl) (bJ4_init_0 3 _ rfl)
theorem dJ4_init_4 : decode cJ4_init 4 = .ok (.aload_n 0, 1) := dz_42 (bJ4_init_0 4 _ rfl)
theorem dJ4_init_5 : decode cJ4_init 5 = .ok (.iconst 0, 1) := dz_3 (bJ4_init_0 5 _ rfl)
theorem dJ4_init_6 : decode cJ4_init 6 = .ok (.putfield 7, 3) := dz_181 (bJ4_init_0 6 _ rfl) (bJ4_init_0 7 _ rfl) (bJ4_init_0 8 _ rfl)
theorem dJ4_init_9 : decode cJ4_init 9 = .ok (.return_, 1) := dz_177 (bJ4_init_0 9 _ rfl)
def c_J4_init (t0 : Nat)  (w : ch_W) : Option (ch_W) := (c_J3_init t0 w).bind fun p1 => (ch_pI p1 (some t0) 14 fJ5_modCount 0).bind fun w3 => some (w3)
theorem s_J4_init {g : State} {t0 : Nat} {w : ch_W} {res : ch_W} {Q : Outcome → ch_W → Prop} (h : c_J4_init t0 w = some res) (hk : (ch_eV Q) res) : ch_CT g true yJ4_init 3 [.ref t0] (w) Q := by
  unfold c_J4_init at h
  refine ch_ctL mJ4_init (ls := [some (va_rf (some t0))]) q445 rfl (ch_lyr (r := some t0) ch_ly0) (Nat.le_of_ble_eq_true rfl) rfl ?_
  obtain ⟨p1, hp2, h⟩ := ch_bd h
  refine ch_aload_n 0 (some t0) dJ4_init_0 rfl (ch_ii yJ3_init prog_30_method_1_code 1 (b := t0) (d' := 2) (av := []) (rest := []) rfl dJ4_init_1 rfl q446 q447 q448 can_J3_init (Nat.le_of_ble_eq_true rfl) (Nat.le_of_ble_eq_true rfl) (cp_kV (w1 := p1) (fun Q' hq => s_J3_init hp2 hq) ?_))
  refine ch_aload_n 0 (some t0) dJ4_init_4 rfl (ch_iconst _ 0 dJ4_init_5 rfl (cp_pI (ci := 13) (k := 0) dJ4_init_6 fl_J4_7 rfl rfl rfl h (fun w3 h => ?_)))
  obtain rfl := Option.some.inj h
  exact ch_return dJ4_init_9 rfl hk

theorem bJ5_init_0 : ch_ck cJ5_init 0 [42, 183, 0, 1, 42, 178, 0, 39, 181, 0, 9, 177] := ch_ckof (by decide +kernel)
theorem dJ5_init_0 : decode cJ5_init 0 = .ok (.aload_n 0, 1) := dz_42 (bJ5_init_0 0 _ rfl)
theorem dJ5_init_1 : decode cJ5_init 1 = .ok (.invokespecial 1, 3) := dz_183 (bJ5_init_0 1 _ rfl) (bJ5_init_0 2 _ rfl) (bJ5_init_0 3 _ rfl)
theorem dJ5_init_4 : decode cJ5_init 4 = .ok (.aload_n 0, 1) := dz_42 (bJ5_init_0 4 _ rfl)
theorem dJ5_init_5 : decode cJ5_init 5 = .ok (.getstatic 39, 3) := dz_178 (bJ5_init_0 5 _ rfl) (bJ5_init_0 6 _ rfl) (bJ5_init_0 7 _ rfl)
theorem dJ5_init_8 : decode cJ5_init 8 = .ok (.putfield 9, 3) := dz_181 (bJ5_init_0 8 _ rfl) (bJ5_init_0 9 _ rfl) (bJ5_init_0 10 _ rfl)
theorem dJ5_init_11 : decode cJ5_init 11 = .ok (.return_, 1) := dz_177 (bJ5_init_0 11 _ rfl)
def c_J5_init (g : State) (t0 : Nat)  (w : ch_W) : Option (ch_W) := (c_J4_init t0 w).bind fun p1 => (ch_pR p1 (some t0) 14 fJ5_elementData (ch_stE g)).bind fun w3 => some (w3)
theorem s_J5_init {g : State} {t0 : Nat} {w : ch_W} {res : ch_W} {Q : Outcome → ch_W → Prop} (h : c_J5_init g t0 w = some res) (hk : (ch_eV Q) res) : ch_CT g true yJ5_init 4 [.ref t0] (w) Q := by
  unfold c_J5_init at h
  refine ch_ctL mJ5_init (ls := [some (va_rf (some t0))]) q442 rfl (ch_lyr (r := some t0) ch_ly0) (Nat.le_of_ble_eq_true rfl) rfl ?_
  obtain ⟨p1, hp2, h⟩ := ch_bd h
  refine ch_aload_n 0 (some t0) dJ5_init_0 rfl (ch_ii yJ4_init prog_31_method_1_code 1 (b := t0) (d' := 3) (av := []) (rest := []) rfl dJ5_init_1 rfl q443 q444 q445 can_J4_init (Nat.le_of_ble_eq_true rfl) (Nat.le_of_ble_eq_true rfl) (cp_kV (w1 := p1) (fun Q' hq => s_J4_init hp2 hq) ?_))
  refine ch_aload_n 0 (some t0) dJ5_init_4 rfl (ch_getsD dJ5_init_5 q450 (cp_pR (ci := 13) (k := 1) dJ5_init_8 fl_J5_9 rfl rfl rfl h (fun w3 h => ?_)))
  obtain rfl := Option.some.inj h
  exact ch_return dJ5_init_11 rfl hk

theorem bJ5_size_0 : ch_ck cJ5_size 0 [42, 180, 0, 48, 172] := ch_ckof (by decide +kernel)
theorem dJ5_size_0 : decode cJ5_size 0 = .ok (.aload_n 0, 1) := dz_42 (bJ5_size_0 0 _ rfl)
theorem dJ5_size_1 : decode cJ5_size 1 = .ok (.getfield 48, 3) := dz_180 (bJ5_size_0 1 _ rfl) (bJ5_size_0 2 _ rfl) (bJ5_size_0 3 _ rfl)
theorem dJ5_size_4 : decode cJ5_size 4 = .ok (.ireturn, 1) := dz_172 (bJ5_size_0 4 _ rfl)
def c_J5_size (t0 : Nat)  (w : ch_W) : Option (Int32) := (ch_gI w (some t0) 14 fJ5_size).bind fun v1 => some (v1)
theorem s_J5_size {g : State} {kb : Bool} {t0 : Nat} {w : ch_W} {res : Int32} {Q : Outcome → ch_W → Prop} (h : c_J5_size t0 w = some res) (hk : (fun r => ch_eI Q (r, w)) res) : ch_CT g kb yJ5_size 2 [.ref t0] (w) Q := by
  unfold c_J5_size at h
  refine ch_ctL mJ5_size (ls := [some (va_rf (some t0))]) q610 rfl (ch_lyr (r := some t0) ch_ly0) (Nat.le_of_ble_eq_true rfl) rfl ?_
  refine ch_aload_n 0 (some t0) dJ5_size_0 rfl (cp_gI (ci := 13) (k := 2) dJ5_size_1 fl_J5_48 rfl h (fun v1 h => ?_))
  obtain rfl := Option.some.inj h
  exact ch_ireturn _ dJ5_size_4 rfl rfl hk

theorem bJ5_elementData_0 : ch_ck cJ5_elementData 0 [42, 180, 0, 9, 27, 50, 176] := ch_ckof (by decide +kernel)
theorem dJ5_elementData_0 : decode cJ5_elementData 0 = .ok (.aload_n 0, 1) := dz_42 (bJ5_elementData_0 0 _ rfl)
theorem dJ5_elementData_1 : decode cJ5_elementData 1 = .ok (.getfield 9, 3) := dz_180 (bJ5_elementData_0 1 _ rfl) (bJ5_elementData_0 2 _ rfl) (bJ5_elementData_0 3 _ rfl)
theorem dJ5_elementData_4 : decode cJ5_elementData 4 = .ok (.iload_n 1, 1) := dz_27 (bJ5_elementData_0 4 _ rfl)
theorem dJ5_elementData_5 : decode cJ5_elementData 5 = .ok (.aaload, 1) := dz_50 (bJ5_elementData_0 5 _ rfl)
theorem dJ5_elementData_6 : decode cJ5_elementData 6 = .ok (.areturn, 1) := dz_176 (bJ5_elementData_0 6 _ rfl)
def c_J5_elementData (t0 : Nat) (x1 : Int32) (w : ch_W) : Option (Option Nat) := (ch_gR w (some t0) 14 fJ5_elementData).bind fun v1 => (ch_lR w v1 25 x1).bind fun v2 => some (v2)
theorem s_J5_elementData {g : State} {kb : Bool} {t0 : Nat} {x1 : Int32} {w : ch_W} {res : Option Nat} {Q : Outcome → ch_W → Prop} (h : c_J5_elementData t0 x1 w = some res) (hk : (fun r => ch_eR Q (r, w)) res) : ch_CT g kb yJ5_elementData 2 [.ref t0, .int x1] (w) Q := by
  unfold c_J5_elementData at h
  refine ch_ctL mJ5_elementData (ls := [some (va_rf (some t0)), some (.int x1)]) q622 rfl (ch_lyr (r := some t0) (ch_lyi ch_ly0)) (Nat.le_of_ble_eq_true rfl) rfl ?_
  refine ch_aload_n 0 (some t0) dJ5_elementData_0 rfl (cp_gR (ci := 13) (k := 1) dJ5_elementData_1 fl_J5_9 rfl h (fun v1 h => ?_))
  refine ch_iload_n 1 _ dJ5_elementData_4 rfl (cp_aald (t := 25) dJ5_elementData_5 rfl rfl h (fun v2 h => ?_))
  obtain rfl := Option.some.inj h
  exact ch_areturn v2 dJ5_elementData_6 rfl (Or.inl ⟨_, rfl⟩) hk

theorem bJ5_get_0 : ch_ck cJ5_get 0 [27, 42, 180, 0, 48, 184, 0, 118, 87, 42, 27, 182, 0, 123, 176] := ch_ckof (by decide +kernel)
theorem dJ5_get_0 : decode cJ5_get 0 = .ok (.iload_n 1, 1) := dz_27 (bJ5_get_0 0 _ rfl)
theorem dJ5_get_1 : decode cJ5_get 1 = .ok (.aload_n 0, 1) := dz_42 (bJ5_get_0 1 _ rfl)
theorem dJ5_get_2 : decode cJ5_get 2 = .ok (.getfield 48, 3) := dz_180 (bJ5_get_0 2 _ rfl) (bJ5_get_0 3 _ rfl) (bJ5_get_0 4 _ rfl)
theorem dJ5_get_5 : decode cJ5_get 5 = .ok (.invokestatic 118, 3) := dz_184 (bJ5_get_0 5 _ rfl) (bJ5_get_0 6 _ rfl) (bJ5_get_0 7 _ rfl)
theorem dJ5_get_8 : decode cJ5_get 8 = .ok (.pop, 1) := dz_87 (bJ5_get_0 8 _ rfl)
theorem dJ5_get_9 : decode cJ5_get 9 = .ok (.aload_n 0, 1) := dz_42 (bJ5_get_0 9 _ rfl)
theorem dJ5_get_10 : decode cJ5_get 10 = .ok (.iload_n 1, 1) := dz_27 (bJ5_get_0 10 _ rfl)
theorem dJ5_get_11 : decode cJ5_get 11 = .ok (.invokevirtual 123, 3) := dz_182 (bJ5_get_0 11 _ rfl) (bJ5_get_0 12 _ rfl) (bJ5_get_0 13 _ rfl)
theorem dJ5_get_14 : decode cJ5_get 14 = .ok (.areturn, 1) := dz_176 (bJ5_get_0 14 _ rfl)
def c_J5_get (t0 : Nat) (x1 : Int32) (w : ch_W) : Option (Option Nat) := (ch_gI w (some t0) 14 fJ5_size).bind fun v1 => (c_J10_checkIndex x1 v1 w).bind fun v2 => (ch_rc w (some t0) 14).bind fun _ => (c_J5_elementData t0 x1 w).bind fun v5 => some (v5)
theorem s_J5_get {g : State} {kb : Bool} {t0 : Nat} {x1 : Int32} {w : ch_W} {res : Option Nat} {Q : Outcome → ch_W → Prop} (h : c_J5_get t0 x1 w = some res) (hk : (fun r => ch_eR Q (r, w)) res) : ch_CT g kb yJ5_get 4 [.ref t0, .int x1] (w) Q := by
  unfold c_J5_get at h
  refine ch_ctL mJ5_get (ls := [some (va_rf (some t0)), some (.int x1)]) q614 rfl (ch_lyr (r := some t0) (ch_lyi ch_ly0)) (Nat.le_of_ble_eq_true rfl) rfl ?_
  refine ch_iload_n 1 _ dJ5_get_0 rfl (ch_aload_n 0 (some t0) dJ5_get_1 rfl (cp_gI (ci := 13) (k := 2) dJ5_get_2 fl_J5_48 rfl h (fun v1 h => ?_)))
  obtain ⟨v2, hp3, h⟩ := ch_bd h
  refine ch_is yJ10_checkIndex prog_36_method_17_code 2 (some .int) (d' := 3) (av := [.int x1, .int v1]) (rest := []) rfl dJ5_get_5 q615 q616 q217 q617 can_J10_checkIndex (Nat.le_of_ble_eq_true rfl) (Nat.le_of_ble_eq_true rfl) (cp_kI (v := v2) (w1 := w) (fun Q' hq => s_J10_checkIndex hp3 hq) ?_)
  obtain ⟨_, hb4, h⟩ := ch_bd h
  obtain ⟨v5, hp6, h⟩ := ch_bd h
  refine ch_pop dJ5_get_8 rfl (ch_aload_n 0 (some t0) dJ5_get_9 rfl (ch_iload_n 1 _ dJ5_get_10 rfl (ch_iv yJ5_elementData prog_32_method_18_code 2 (some (.object "java/lang/Object")) (ci := 13) (q := (RJ5, TJ5, 3)) (b := t0) (d' := 2) (av := [.int x1]) (rest := []) rfl dJ5_get_11 q619 q620 rfl q621 q622 can_J5_elementData (Nat.le_of_ble_eq_true rfl) (Nat.le_of_ble_eq_true rfl) (ch_rts hb4) (cp_kR (v := v5) (w1 := w) (fun Q' hq => s_J5_elementData hp6 hq) ?_))))
  obtain rfl := Option.some.inj h
  exact ch_areturn v5 dJ5_get_14 rfl (Or.inl ⟨_, rfl⟩) hk

theorem bJ5_grow_2_0 : ch_ck cJ5_grow_2 0 [42, 180, 0, 9, 190, 61, 28, 157, 0, 13, 42, 180, 0, 9, 178, 0] := ch_ckof (by decide +kernel)
theorem bJ5_grow_2_1 : ch_ck cJ5_grow_2 16 [39, 165, 0, 28, 28, 27, 28, 100, 28, 4, 122, 184, 0, 73, 62, 42] := ch_ckof (by decide +kernel)
theorem bJ5_grow_2_2 : ch_ck cJ5_grow_2 32 [42, 180, 0, 9, 29, 184, 0, 66, 90, 181, 0, 9, 176, 42, 16, 10] := ch_ckof (by decide +kernel)
theorem bJ5_grow_2_3 : ch_ck cJ5_grow_2 48 [27, 184, 0, 79, 189, 0, 7, 90, 181, 0, 9, 176] := ch_ckof (by decide +kernel)
theorem dJ5_grow_2_0 : decode cJ5_grow_2 0 = .ok (.aload_n 0, 1) := dz_42 (bJ5_grow_2_0 0 _ rfl)
theorem dJ5_grow_2_1 : decode cJ5_grow_2 1 = .ok (.getfield 9, 3) := dz_180 (bJ5_grow_2_0 1 _ rfl) (bJ5_grow_2_0 2 _ rfl) (bJ5_grow_2_0 3 _ rfl)
theorem dJ5_grow_2_4 : decode cJ5_grow_2 4 = .ok (.arraylength, 1) := dz_190 (bJ5_grow_2_0 4 _ rfl)
theorem dJ5_grow_2_5 : decode cJ5_grow_2 5 = .ok (.istore_n 2, 1) := dz_61 (bJ5_grow_2_0 5 _ rfl)
theorem dJ5_grow_2_6 : decode cJ5_grow_2 6 = .ok (.iload_n 2, 1) := dz_28 (bJ5_grow_2_0 6 _ rfl)
theorem dJ5_grow_2_7 : decode cJ5_grow_2 7 = .ok (.ifCond .gt 13, 3) := dz_157 (bJ5_grow_2_0 7 _ rfl) (bJ5_grow_2_0 8 _ rfl) (bJ5_grow_2_0 9 _ rfl)
theorem dJ5_grow_2_10 : decode cJ5_grow_2 10 = .ok (.aload_n 0, 1) := dz_42 (bJ5_grow_2_0 10 _ rfl)
theorem dJ5_grow_2_11 : decode cJ5_grow_2 11 = .ok (.getfield 9, 3) := dz_180 (bJ5_grow_2_0 11 _ rfl) (bJ5_grow_2_0 12 _ rfl) (bJ5_grow_2_0 13 _ rfl)
theorem dJ5_grow_2_14 : decode cJ5_grow_2 14 = .ok (.getstatic 39, 3) := dz_178 (bJ5_grow_2_0 14 _ rfl) (bJ5_grow_2_0 15 _ rfl) (bJ5_grow_2_1 0 _ rfl)
theorem dJ5_grow_2_17 : decode cJ5_grow_2 17 = .ok (.if_acmp .eq 28, 3) := dz_165 (bJ5_grow_2_1 1 _ rfl) (bJ5_grow_2_1 2 _ rfl) (bJ5_grow_2_1 3 _ rfl)
theorem dJ5_grow_2_20 : decode cJ5_grow_2 20 = .ok (.iload_n 2, 1) := dz_28 (bJ5_grow_2_1 4 _ rfl)
theorem dJ5_grow_2_21 : decode cJ5_grow_2 21 = .ok (.iload_n 1, 1) := dz_27 (bJ5_grow_2_1 5 _ rfl)
theorem dJ5_grow_2_22 : decode cJ5_grow_2 22 = .ok (.iload_n 2, 1) := dz_28 (bJ5_grow_2_1 6 _ rfl)
theorem dJ5_grow_2_23 : decode cJ5_grow_2 23 = .ok (.isub, 1) := dz_100 (bJ5_grow_2_1 7 _ rfl)
theorem dJ5_grow_2_24 : decode cJ5_grow_2 24 = .ok (.iload_n 2, 1) := dz_28 (bJ5_grow_2_1 8 _ rfl)
theorem dJ5_grow_2_25 : decode cJ5_grow_2 25 = .ok (.iconst 1, 1) := dz_4 (bJ5_grow_2_1 9 _ rfl)
theorem dJ5_grow_2_26 : decode cJ5_grow_2 26 = .ok (.ishr, 1) := dz_122 (bJ5_grow_2_1 10 _ rfl)
theorem dJ5_grow_2_27 : decode cJ5_grow_2 27 = .ok (.invokestatic 73, 3) := dz_184 (bJ5_grow_2_1 11 _ rfl) (bJ5_grow_2_1 12 _ rfl) (bJ5_grow_2_1 13 _ rfl)
theorem dJ5_grow_2_30 : decode cJ5_grow_2 30 = .ok (.istore_n 3, 1) := dz_62 (bJ5_grow_2_1 14 _ rfl)
theorem dJ5_grow_2_31 : decode cJ5_grow_2 31 = .ok (.aload_n 0, 1) := dz_42 (bJ5_grow_2_1 15 _ rfl)
theorem dJ5_grow_2_32 : decode cJ5_grow_2 32 = .ok (.aload_n 0, 1) := dz_42 (bJ5_grow_2_2 0 _ rfl)
theorem dJ5_grow_2_33 : decode cJ5_grow_2 33 = .ok (.getfield 9, 3) := dz_180 (bJ5_grow_2_2 1 _ rfl) (bJ5_grow_2_2 2 _ rfl) (bJ5_grow_2_2 3 _ rfl)
theorem dJ5_grow_2_36 : decode cJ5_grow_2 36 = .ok (.iload_n 3, 1) := dz_29 (bJ5_grow_2_2 4 _ rfl)
theorem dJ5_grow_2_37 : decode cJ5_grow_2 37 = .ok (.invokestatic 66, 3) := dz_184 (bJ5_grow_2_2 5 _ rfl) (bJ5_grow_2_2 6 _ rfl) (bJ5_grow_2_2 7 _ rfl)
theorem dJ5_grow_2_40 : decode cJ5_grow_2 40 = .ok (.dup_x1, 1) := dz_90 (bJ5_grow_2_2 8 _ rfl)
theorem dJ5_grow_2_41 : decode cJ5_grow_2 41 = .ok (.putfield 9, 3) := dz_181 (bJ5_grow_2_2 9 _ rfl) (bJ5_grow_2_2 10 _ rfl) (bJ5_grow_2_2 11 _ rfl)
theorem dJ5_grow_2_44 : decode cJ5_grow_2 44 = .ok (.areturn, 1) := dz_176 (bJ5_grow_2_2 12 _ rfl)
theorem dJ5_grow_2_45 : decode cJ5_grow_2 45 = .ok (.aload_n 0, 1) := dz_42 (bJ5_grow_2_2 13 _ rfl)
theorem dJ5_grow_2_46 : decode cJ5_grow_2 46 = .ok (.bipush 10, 2) := dz_16 (bJ5_grow_2_2 14 _ rfl) (bJ5_grow_2_2 15 _ rfl)
theorem dJ5_grow_2_48 : decode cJ5_grow_2 48 = .ok (.iload_n 1, 1) := dz_27 (bJ5_grow_2_3 0 _ rfl)
theorem dJ5_grow_2_49 : decode cJ5_grow_2 49 = .ok (.invokestatic 79, 3) := dz_184 (bJ5_grow_2_3 1 _ rfl) (bJ5_grow_2_3 2 _ rfl) (bJ5_grow_2_3 3 _ rfl)
theorem dJ5_grow_2_52 : decode cJ5_grow_2 52 = .ok (.anewarray 7, 3) := dz_189 (bJ5_grow_2_3 4 _ rfl) (bJ5_grow_2_3 5 _ rfl) (bJ5_grow_2_3 6 _ rfl)
theorem dJ5_grow_2_55 : decode cJ5_grow_2 55 = .ok (.dup_x1, 1) := dz_90 (bJ5_grow_2_3 7 _ rfl)
theorem dJ5_grow_2_56 : decode cJ5_grow_2 56 = .ok (.putfield 9, 3) := dz_181 (bJ5_grow_2_3 8 _ rfl) (bJ5_grow_2_3 9 _ rfl) (bJ5_grow_2_3 10 _ rfl)
theorem dJ5_grow_2_59 : decode cJ5_grow_2 59 = .ok (.areturn, 1) := dz_176 (bJ5_grow_2_3 11 _ rfl)
def c_J5_grow_2_20 (g : State) (t0 : Nat) (x1 : Int32) (x2 : Int32)  (w : ch_W) : Option (Option Nat × ch_W) := (c_J11_newLength x2 (x1 - x2) (x2 >>> (1 &&& 31)) w).bind fun v1 => (ch_gR w (some t0) 14 fJ5_elementData).bind fun v3 => (c_J13_copyOf g v3 v1 w).bind fun p4 => (ch_pR p4.2 (some t0) 14 fJ5_elementData p4.1).bind fun w6 => some ((p4.1, w6))
theorem s_J5_grow_2_20 {g : State} {t0 : Nat} {x1 : Int32} {x2 : Int32} {w : ch_W} {res : Option Nat × ch_W} {Q : Outcome → ch_W → Prop} (h : c_J5_grow_2_20 g t0 x1 x2 w = some res) (hk : (ch_eR Q) res) : ch_FT g true mJ5_grow_2 5 20 [some (va_rf (some t0)), some (.int x1), some (.int x2), none] [] (w) Q := by
  unfold c_J5_grow_2_20 at h
  obtain ⟨v1, hp2, h⟩ := ch_bd h
  refine ch_iload_n 2 _ dJ5_grow_2_20 rfl (ch_iload_n 1 _ dJ5_grow_2_21 rfl (ch_iload_n 2 _ dJ5_grow_2_22 rfl (ch_isub _ _ dJ5_grow_2_23 (ch_iload_n 2 _ dJ5_grow_2_24 rfl (ch_iconst _ 1 dJ5_grow_2_25 rfl (ch_ishr _ _ dJ5_grow_2_26 (ch_is yJ11_newLength prog_39_method_27_code 4 (some .int) (d' := 3) (av := [.int x2, .int (x1 - x2), .int (x2 >>> (1 &&& 31))]) (rest := []) rfl dJ5_grow_2_27 q646 q647 q219 q648 can_J11_newLength (Nat.le_of_ble_eq_true rfl) (Nat.le_of_ble_eq_true rfl) (cp_kI (v := v1) (w1 := w) (fun Q' hq => s_J11_newLength hp2 hq) ?_))))))))
  refine ch_istore_n 3 _ (ls1 := [some (va_rf (some t0)), some (.int x1), some (.int x2), some (.int v1)]) dJ5_grow_2_30 (Nat.le_of_ble_eq_true rfl) rfl (ch_aload_n 0 (some t0) dJ5_grow_2_31 rfl (ch_aload_n 0 (some t0) dJ5_grow_2_32 rfl (cp_gR (ci := 13) (k := 1) dJ5_grow_2_33 fl_J5_9 rfl h (fun v3 h => ?_))))
  obtain ⟨p4, hp5, h⟩ := ch_bd h
  refine ch_iload_n 3 _ dJ5_grow_2_36 rfl (ch_is yJ13_copyOf prog_33_method_119_code 2 (some (.array (.object "java/lang/Object"))) (d' := 4) (av := [va_rf v3, .int v1]) (rest := [va_rf (some t0)]) rfl dJ5_grow_2_37 q656 q657 q221 q658 can_J13_copyOf (Nat.le_of_ble_eq_true rfl) (ch_hw (Nat.le_of_ble_eq_true rfl)) (cp_kR (v := p4.1) (w1 := p4.2) (fun Q' hq => s_J13_copyOf hp5 hq) ?_))
  refine ch_dup_x1 dJ5_grow_2_40 (ch_cat _) (ch_cat _) (cp_pR (ci := 13) (k := 1) dJ5_grow_2_41 fl_J5_9 rfl rfl rfl h (fun w6 h => ?_))
  obtain rfl := Option.some.inj h
  exact ch_areturn p4.1 dJ5_grow_2_44 rfl (Or.inr ⟨_, rfl⟩) hk

def c_J5_grow_2 (g : State) (t0 : Nat) (x1 : Int32) (w : ch_W) : Option (Option Nat × ch_W) := (ch_gR w (some t0) 14 fJ5_elementData).bind fun v1 => (ch_le w v1 25).bind fun v2 => if 0 < v2 then (c_J5_grow_2_20 g t0 x1 v2 w) else ((ch_gR w (some t0) 14 fJ5_elementData).bind fun v3 => if v3 = (ch_stE g) then ((c_J12_max 10 x1 ).bind fun v4 => (ch_nA w 25 v4).bind fun w6 => (ch_pR w6 (some t0) 14 fJ5_elementData (some (ch_nx w))).bind fun w7 => some ((some (ch_nx w), w7))) else (c_J5_grow_2_20 g t0 x1 v2 w))
theorem s_J5_grow_2 {g : State} {t0 : Nat} {x1 : Int32} {w : ch_W} {res : Option Nat × ch_W} {Q : Outcome → ch_W → Prop} (h : c_J5_grow_2 g t0 x1 w = some res) (hk : (ch_eR Q) res) : ch_CT g true yJ5_grow_2 5 [.ref t0, .int x1] (w) Q := by
  unfold c_J5_grow_2 at h
  refine ch_ctL mJ5_grow_2 (ls := [some (va_rf (some t0)), some (.int x1), none, none]) q645 rfl (ch_lyr (r := some t0) (ch_lyi ch_ly0)) (Nat.le_of_ble_eq_true rfl) rfl ?_
  refine ch_aload_n 0 (some t0) dJ5_grow_2_0 rfl (cp_gR (ci := 13) (k := 1) dJ5_grow_2_1 fl_J5_9 rfl h (fun v1 h => ?_))
  refine cp_alen (t := 25) dJ5_grow_2_4 rfl rfl h (fun v2 h => ?_)
  refine ch_istore_n 2 _ (ls1 := [some (va_rf (some t0)), some (.int x1), some (.int v2), none]) dJ5_grow_2_5 (Nat.le_of_ble_eq_true rfl) rfl (ch_iload_n 2 _ dJ5_grow_2_6 rfl (cp_if_gt _ (tgt := 20) dJ5_grow_2_7 rfl h (fun h => ?_) (fun h => ?_)))
  · exact ch_FT.wk (ch_wS (ch_wS (ch_wS (ch_wN ch_w0)))) (s_J5_grow_2_20  h hk)
  · refine ch_aload_n 0 (some t0) dJ5_grow_2_10 rfl (cp_gR (ci := 13) (k := 1) dJ5_grow_2_11 fl_J5_9 rfl h (fun v3 h => ?_))
    refine ch_getsD dJ5_grow_2_14 q450 (cp_acmp_eq v3 (ch_stE g) (tgt := 45) dJ5_grow_2_17 rfl h (fun h => ?_) (fun h => ?_))
    · obtain ⟨v4, hp5, h⟩ := ch_bd h
      refine ch_aload_n 0 (some t0) dJ5_grow_2_45 rfl (ch_bipush _ 10 dJ5_grow_2_46 rfl (ch_iload_n 1 _ dJ5_grow_2_48 rfl (ch_is yJ12_max prog_21_method_65_code 2 (some .int) (d' := 2) (av := [.int 10, .int x1]) (rest := [va_rf (some t0)]) rfl dJ5_grow_2_49 q687 q650 q220 q651 can_J12_max (Nat.le_of_ble_eq_true rfl) (ch_hw (Nat.le_of_ble_eq_true rfl)) (cp_kI (v := v4) (w1 := w) (fun Q' hq => s_J12_max hp5 hq) ?_))))
      refine cp_newR (t := 25) (C := "java/lang/Object") dJ5_grow_2_52 rfl (Nat.le_of_ble_eq_true rfl) q688 q681 h (fun w6 h => ?_)
      refine ch_dup_x1 dJ5_grow_2_55 (ch_cat _) (ch_cat _) (cp_pR (ci := 13) (k := 1) dJ5_grow_2_56 fl_J5_9 rfl rfl rfl h (fun w7 h => ?_))
      obtain rfl := Option.some.inj h
      exact ch_areturn (some (ch_nx w)) dJ5_grow_2_59 rfl (Or.inr ⟨_, rfl⟩) hk
    · exact ch_FT.wk (ch_wS (ch_wS (ch_wS (ch_wN ch_w0)))) (s_J5_grow_2_20  h hk)

theorem bJ5_grow_0 : ch_ck cJ5_grow 0 [42, 42, 180, 0, 48, 4, 96, 182, 0, 69, 176] := ch_ckof (by decide +kernel)
theorem dJ5_grow_0 : decode cJ5_grow 0 = .ok (.aload_n 0, 1) := dz_42 (bJ5_grow_0 0 _ rfl)
theorem dJ5_grow_1 : decode cJ5_grow 1 = .ok (.aload_n 0, 1) := dz_42 (bJ5_grow_0 1 _ rfl)
theorem dJ5_grow_2 : decode cJ5_grow 2 = .ok (.getfield 48, 3) := dz_180 (bJ5_grow_0 2 _ rfl) (bJ5_grow_0 3 _ rfl) (bJ5_grow_0 4 _ rfl)
theorem dJ5_grow_5 : decode cJ5_grow 5 = .ok (.iconst 1, 1) := dz_4 (bJ5_grow_0 5 _ rfl)
theorem dJ5_grow_6 : decode cJ5_grow 6 = .ok (.iadd, 1) := dz_96 (bJ5_grow_0 6 _ rfl)
theorem dJ5_grow_7 : decode cJ5_grow 7 = .ok (.invokevirtual 69, 3) := dz_182 (bJ5_grow_0 7 _ rfl) (bJ5_grow_0 8 _ rfl) (bJ5_grow_0 9 _ rfl)
theorem dJ5_grow_10 : decode cJ5_grow 10 = .ok (.areturn, 1) := dz_176 (bJ5_grow_0 10 _ rfl)
def c_J5_grow (g : State) (t0 : Nat)  (w : ch_W) : Option (Option Nat × ch_W) := (ch_gI w (some t0) 14 fJ5_size).bind fun v1 => (ch_rc w (some t0) 14).bind fun _ => (c_J5_grow_2 g t0 (v1 + 1) w).bind fun p3 => some ((p3.1, p3.2))
theorem s_J5_grow {g : State} {t0 : Nat} {w : ch_W} {res : Option Nat × ch_W} {Q : Outcome → ch_W → Prop} (h : c_J5_grow g t0 w = some res) (hk : (ch_eR Q) res) : ch_CT g true yJ5_grow 6 [.ref t0] (w) Q := by
  unfold c_J5_grow at h
  refine ch_ctL mJ5_grow (ls := [some (va_rf (some t0))]) q641 rfl (ch_lyr (r := some t0) ch_ly0) (Nat.le_of_ble_eq_true rfl) rfl ?_
  refine ch_aload_n 0 (some t0) dJ5_grow_0 rfl (ch_aload_n 0 (some t0) dJ5_grow_1 rfl (cp_gI (ci := 13) (k := 2) dJ5_grow_2 fl_J5_48 rfl h (fun v1 h => ?_)))
  obtain ⟨_, hb2, h⟩ := ch_bd h
  obtain ⟨p3, hp4, h⟩ := ch_bd h
  refine ch_iconst _ 1 dJ5_grow_5 rfl (ch_iadd _ _ dJ5_grow_6 (ch_iv yJ5_grow_2 prog_32_method_6_code 4 (some (.array (.object "java/lang/Object"))) (ci := 13) (q := (RJ5, TJ5, 3)) (b := t0) (d' := 5) (av := [.int (v1 + 1)]) (rest := []) rfl dJ5_grow_7 q642 q644 rfl qs12 q645 can_J5_grow_2 (Nat.le_of_ble_eq_true rfl) (Nat.le_of_ble_eq_true rfl) (ch_rts hb2) (cp_kR (v := p3.1) (w1 := p3.2) (fun Q' hq => s_J5_grow_2 hp4 hq) ?_)))
  obtain rfl := Option.some.inj h
  exact ch_areturn p3.1 dJ5_grow_10 rfl (Or.inr ⟨_, rfl⟩) hk

theorem bJ5_add_2_0 : ch_ck cJ5_add_2 0 [29, 44, 190, 160, 0, 8, 42, 182, 0, 129, 77, 44, 29, 43, 83, 42] := ch_ckof (by decide +kernel)
theorem bJ5_add_2_1 : ch_ck cJ5_add_2 16 [29, 4, 96, 181, 0, 48, 177] := ch_ckof (by decide +kernel)
theorem dJ5_add_2_0 : decode cJ5_add_2 0 = .ok (.iload_n 3, 1) := dz_29 (bJ5_add_2_0 0 _ rfl)
theorem dJ5_add_2_1 : decode cJ5_add_2 1 = .ok (.aload_n 2, 1) := dz_44 (bJ5_add_2_0 1 _ rfl)
theorem dJ5_add_2_2 : decode cJ5_add_2 2 = .ok (.arraylength, 1) := dz_190 (bJ5_add_2_0 2 _ rfl)
theorem dJ5_add_2_3 : decode cJ5_add_2 3 = .ok (.if_icmp .ne 8, 3) := dz_160 (bJ5_add_2_0 3 _ rfl) (bJ5_add_2_0 4 _ rfl) (bJ5_add_2_0 5 _ rfl)
theorem dJ5_add_2_6 : decode cJ5_add_2 6 = .ok (.aload_n 0, 1) := dz_42 (bJ5_add_2_0 6 _ rfl)
theorem dJ5_add_2_7 : decode cJ5_add_2 7 = .ok (.invokevirtual 129, 3) := dz_182 (bJ5_add_2_0 7 _ rfl) (bJ5_add_2_0 8 _ rfl) (bJ5_add_2_0 9 _ rfl)
theorem dJ5_add_2_10 : decode cJ5_add_2 10 = .ok (.astore_n 2, 1) := dz_77 (bJ5_add_2_0 10 _ rfl)
theorem dJ5_add_2_11 : decode cJ5_add_2 11 = .ok (.aload_n 2, 1) := dz_44 (bJ5_add_2_0 11 _ rfl)
theorem dJ5_add_2_12 : decode cJ5_add_2 12 = .ok (.iload_n 3, 1) := dz_29 (bJ5_add_2_0 12 _ rfl)
theorem dJ5_add_2_13 : decode cJ5_add_2 13 = .ok (.aload_n 1, 1) := dz_43 (bJ5_add_2_0 13 _ rfl)
theorem dJ5_add_2_14 : decode cJ5_add_2 14 = .ok (.aastore, 1) := dz_83 (bJ5_add_2_0 14 _ rfl)
theorem dJ5_add_2_15 : decode cJ5_add_2 15 = .ok (.aload_n 0, 1) := dz_42 (bJ5_add_2_0 15 _ rfl)
theorem dJ5_add_2_16 : decode cJ5_add_2 16 = .ok (.iload_n 3, 1) := dz_29 (bJ5_add_2_1 0 _ rfl)
theorem dJ5_add_2_17 : decode cJ5_add_2 17 = .ok (.iconst 1, 1) := dz_4 (bJ5_add_2_1 1 _ rfl)
theorem dJ5_add_2_18 : decode cJ5_add_2 18 = .ok (.iadd, 1) := dz_96 (bJ5_add_2_1 2 _ rfl)
theorem dJ5_add_2_19 : decode cJ5_add_2 19 = .ok (.putfield 48, 3) := dz_181 (bJ5_add_2_1 3 _ rfl) (bJ5_add_2_1 4 _ rfl) (bJ5_add_2_1 5 _ rfl)
theorem dJ5_add_2_22 : decode cJ5_add_2 22 = .ok (.return_, 1) := dz_177 (bJ5_add_2_1 6 _ rfl)
def c_J5_add_2_11 (g : State) (t0 : Nat) (x1 : Option Nat) (x2 : Option Nat) (x3 : Int32)  (w : ch_W) : Option (ch_W) := (ch_wR w x2 25 0 x3 x1).bind fun w1 => (ch_pI w1 (some t0) 14 fJ5_size (x3 + 1)).bind fun w2 => some (w2)
theorem s_J5_add_2_11 {g : State} {t0 : Nat} {x1 : Option Nat} {x2 : Option Nat} {x3 : Int32} {w : ch_W} {res : ch_W} {Q : Outcome → ch_W → Prop} (h : c_J5_add_2_11 g t0 x1 x2 x3 w = some res) (hk : (ch_eV Q) res) : ch_FT g true mJ5_add_2 7 11 [some (va_rf (some t0)), some (va_rf x1), some (va_rf x2), some (.int x3)] [] (w) Q := by
  unfold c_J5_add_2_11 at h
  refine ch_aload_n 2 x2 dJ5_add_2_11 rfl (ch_iload_n 3 _ dJ5_add_2_12 rfl (ch_aload_n 1 x1 dJ5_add_2_13 rfl (cp_aast (t := 25) (c := 0) dJ5_add_2_14 rfl (Nat.le_of_ble_eq_true rfl) rfl el_0 h (fun w1 h => ?_))))
  refine ch_aload_n 0 (some t0) dJ5_add_2_15 rfl (ch_iload_n 3 _ dJ5_add_2_16 rfl (ch_iconst _ 1 dJ5_add_2_17 rfl (ch_iadd _ _ dJ5_add_2_18 (cp_pI (ci := 13) (k := 2) dJ5_add_2_19 fl_J5_48 rfl rfl rfl h (fun w2 h => ?_)))))
  obtain rfl := Option.some.inj h
  exact ch_return dJ5_add_2_22 rfl hk

def c_J5_add_2 (g : State) (t0 : Nat) (x1 : Option Nat) (x2 : Option Nat) (x3 : Int32) (w : ch_W) : Option (ch_W) := (ch_le w x2 25).bind fun v1 => if x3 = v1 then ((ch_rc w (some t0) 14).bind fun _ => (c_J5_grow g t0 w).bind fun p3 => c_J5_add_2_11 g t0 x1 p3.1 x3 p3.2) else (c_J5_add_2_11 g t0 x1 x2 x3 w)
theorem s_J5_add_2 {g : State} {t0 : Nat} {x1 : Option Nat} {x2 : Option Nat} {x3 : Int32} {w : ch_W} {res : ch_W} {Q : Outcome → ch_W → Prop} (h : c_J5_add_2 g t0 x1 x2 x3 w = some res) (hk : (ch_eV Q) res) : ch_CT g true yJ5_add_2 7 [.ref t0, va_rf x1, va_rf x2, .int x3] (w) Q := by
  unfold c_J5_add_2 at h
  refine ch_ctL mJ5_add_2 (ls := [some (va_rf (some t0)), some (va_rf x1), some (va_rf x2), some (.int x3)]) q637 rfl (ch_lyr (r := some t0) (ch_lyr (r := x1) (ch_lyr (r := x2) (ch_lyi ch_ly0)))) (Nat.le_of_ble_eq_true rfl) rfl ?_
  refine ch_iload_n 3 _ dJ5_add_2_0 rfl (ch_aload_n 2 x2 dJ5_add_2_1 rfl (cp_alen (t := 25) dJ5_add_2_2 rfl rfl h (fun v1 h => ?_)))
  refine cp_icmp_ne _ _ (tgt := 11) dJ5_add_2_3 rfl h (fun h => ?_) (fun h => ?_)
  · exact ch_FT.wk (ch_wS (ch_wS (ch_wS (ch_wS ch_w0)))) (s_J5_add_2_11  h hk)
  · obtain ⟨_, hb2, h⟩ := ch_bd h
    obtain ⟨p3, hp4, h⟩ := ch_bd h
    refine ch_aload_n 0 (some t0) dJ5_add_2_6 rfl (ch_iv yJ5_grow prog_32_method_7_code 1 (some (.array (.object "java/lang/Object"))) (ci := 13) (q := (RJ5, TJ5, 3)) (b := t0) (d' := 6) (av := []) (rest := []) rfl dJ5_add_2_7 q638 q640 rfl qs11 q641 can_J5_grow (Nat.le_of_ble_eq_true rfl) (Nat.le_of_ble_eq_true rfl) (ch_rts hb2) (cp_kR (v := p3.1) (w1 := p3.2) (fun Q' hq => s_J5_grow hp4 hq) ?_))
    exact ch_astore_n 2 p3.1 (ls1 := [some (va_rf (some t0)), some (va_rf x1), some (va_rf p3.1), some (.int x3)]) dJ5_add_2_10 (Nat.le_of_ble_eq_true rfl) (ch_s1o rfl rfl) (ch_FT.wk (ch_wS (ch_wS (ch_wS (ch_wS ch_w0)))) (s_J5_add_2_11  h hk))

theorem bJ5_add_0 : ch_ck cJ5_add 0 [42, 89, 180, 0, 63, 4, 96, 181, 0, 63, 42, 43, 42, 180, 0, 9] := ch_ckof (by decide +kernel)
theorem bJ5_add_1 : ch_ck cJ5_add 16 [42, 180, 0, 48, 182, 0, 131, 4, 172] := ch_ckof (by decide +kernel)
theorem dJ5_add_0 : decode cJ5_add 0 = .ok (.aload_n 0, 1) := dz_42 (bJ5_add_0 0 _ rfl)
theorem dJ5_add_1 : decode cJ5_add 1 = .ok (.dup, 1) := dz_89 (bJ5_add_0 1 _ rfl)
theorem dJ5_add_2 : decode cJ5_add 2 = .ok (.getfield 63, 3) := dz_180 (bJ5_add_0 2 _ rfl) (bJ5_add_0 3 _ rfl) (bJ5_add_0 4 _ rfl)
theorem dJ5_add_5 : decode cJ5_add 5 = .ok (.iconst 1, 1) := dz_4 (bJ5_add_0 5 _ rfl)
theorem dJ5_add_6 : decode cJ5_add 6 = .ok (.iadd, 1) := dz_96 (bJ5_add_0 6 _ rfl)
theorem dJ5_add_7 : decode cJ5_add 7 = .ok (.putfield 63, 3) := dz_181 (bJ5_add_0 7 _ rfl) (bJ5_add_0 8 _ rfl) (bJ5_add_0 9 _ rfl)
theorem dJ5_add_10 : decode cJ5_add 10 = .ok (.aload_n 0, 1) := dz_42 (bJ5_add_0 10 _ rfl)
theorem dJ5_add_11 : decode cJ5_add 11 = .ok (.aload_n 1, 1) := dz_43 (bJ5_add_0 11 _ rfl)
theorem dJ5_add_12 : decode cJ5_add 12 = .ok (.aload_n 0, 1) := dz_42 (bJ5_add_0 12 _ rfl)
theorem dJ5_add_13 : decode cJ5_add 13 = .ok (.getfield 9, 3) := dz_180 (bJ5_add_0 13 _ rfl) (bJ5_add_0 14 _ rfl) (bJ5_add_0 15 _ rfl)
theorem dJ5_add_16 : decode cJ5_add 16 = .ok (.aload_n 0, 1) := dz_42 (bJ5_add_1 0 _ rfl)
theorem dJ5_add_17 : decode cJ5_add 17 = .ok (.getfield 48, 3) := dz_180 (bJ5_add_1 1 _ rfl) (bJ5_add_1 2 _ rfl) (bJ5_add_1 3 _ rfl)
theorem dJ5_add_20 : decode cJ5_add 20 = .ok (.invokevirtual 131, 3) := dz_182 (bJ5_add_1 4 _ rfl) (bJ5_add_1 5 _ rfl) (bJ5_add_1 6 _ rfl)
theorem dJ5_add_23 : decode cJ5_add 23 = .ok (.iconst 1, 1) := dz_4 (bJ5_add_1 7 _ rfl)
theorem dJ5_add_24 : decode cJ5_add 24 = .ok (.ireturn, 1) := dz_172 (bJ5_add_1 8 _ rfl)
def c_J5_add (g : State) (t0 : Nat) (x1 : Option Nat) (w : ch_W) : Option (Int32 × ch_W) := (ch_gI w (some t0) 14 fJ5_modCount).bind fun v1 => (ch_pI w (some t0) 14 fJ5_modCount (v1 + 1)).bind fun w2 => (ch_gR w2 (some t0) 14 fJ5_elementData).bind fun v3 => (ch_gI w2 (some t0) 14 fJ5_size).bind fun v4 => (ch_rc w2 (some t0) 14).bind fun _ => (c_J5_add_2 g t0 x1 v3 v4 w2).bind fun p6 => some ((1, p6))
theorem s_J5_add {g : State} {t0 : Nat} {x1 : Option Nat} {w : ch_W} {res : Int32 × ch_W} {Q : Outcome → ch_W → Prop} (h : c_J5_add g t0 x1 w = some res) (hk : (ch_eI Q) res) : ch_CT g true yJ5_add 8 [.ref t0, va_rf x1] (w) Q := by
  unfold c_J5_add at h
  refine ch_ctL mJ5_add (ls := [some (va_rf (some t0)), some (va_rf x1)]) q633 rfl (ch_lyr (r := some t0) (ch_lyr (r := x1) ch_ly0)) (Nat.le_of_ble_eq_true rfl) rfl ?_
  refine ch_aload_n 0 (some t0) dJ5_add_0 rfl (ch_dup dJ5_add_1 (ch_cat _) (cp_gI (ci := 13) (k := 0) dJ5_add_2 fl_J5_63 rfl h (fun v1 h => ?_)))
  refine ch_iconst _ 1 dJ5_add_5 rfl (ch_iadd _ _ dJ5_add_6 (cp_pI (ci := 13) (k := 0) dJ5_add_7 fl_J5_63 rfl rfl rfl h (fun w2 h => ?_)))
  refine ch_aload_n 0 (some t0) dJ5_add_10 rfl (ch_aload_n 1 x1 dJ5_add_11 rfl (ch_aload_n 0 (some t0) dJ5_add_12 rfl (cp_gR (ci := 13) (k := 1) dJ5_add_13 fl_J5_9 rfl h (fun v3 h => ?_))))
  refine ch_aload_n 0 (some t0) dJ5_add_16 rfl (cp_gI (ci := 13) (k := 2) dJ5_add_17 fl_J5_48 rfl h (fun v4 h => ?_))
  obtain ⟨_, hb5, h⟩ := ch_bd h
  obtain ⟨p6, hp7, h⟩ := ch_bd h
  refine ch_iv yJ5_add_2 prog_32_method_24_code 4 none (ci := 13) (q := (RJ5, TJ5, 3)) (b := t0) (d' := 7) (av := [va_rf x1, va_rf v3, .int v4]) (rest := []) rfl dJ5_add_20 q634 q636 rfl qs10 q637 can_J5_add_2 (Nat.le_of_ble_eq_true rfl) (Nat.le_of_ble_eq_true rfl) (ch_rts hb5) (cp_kV (w1 := p6) (fun Q' hq => s_J5_add_2 hp7 hq) ?_)
  obtain rfl := Option.some.inj h
  exact ch_iconst _ 1 dJ5_add_23 rfl (ch_ireturn _ dJ5_add_24 rfl rfl hk)

theorem bJ5_isEmpty_0 : ch_ck cJ5_isEmpty 0 [42, 180, 0, 48, 154, 0, 7, 4, 167, 0, 4, 3, 172] := ch_ckof (by decide +kernel)
theorem dJ5_isEmpty_0 : decode cJ5_isEmpty 0 = .ok (.aload_n 0, 1) := dz_42 (bJ5_isEmpty_0 0 _ rfl)
theorem dJ5_isEmpty_1 : decode cJ5_isEmpty 1 = .ok (.getfield 48, 3) := dz_180 (bJ5_isEmpty_0 1 _ rfl) (bJ5_isEmpty_0 2 _ rfl) (bJ5_isEmpty_0 3 _ rfl)
theorem dJ5_isEmpty_4 : decode cJ5_isEmpty 4 = .ok (.ifCond .ne 7, 3) := dz_154 (bJ5_isEmpty_0 4 _ rfl) (bJ5_isEmpty_0 5 _ rfl) (bJ5_isEmpty_0 6 _ rfl)
theorem dJ5_isEmpty_7 : decode cJ5_isEmpty 7 = .ok (.iconst 1, 1) := dz_4 (bJ5_isEmpty_0 7 _ rfl)
theorem dJ5_isEmpty_8 : decode cJ5_isEmpty 8 = .ok (.goto 4, 3) := dz_167 (bJ5_isEmpty_0 8 _ rfl) (bJ5_isEmpty_0 9 _ rfl) (bJ5_isEmpty_0 10 _ rfl)
theorem dJ5_isEmpty_11 : decode cJ5_isEmpty 11 = .ok (.iconst 0, 1) := dz_3 (bJ5_isEmpty_0 11 _ rfl)
theorem dJ5_isEmpty_12 : decode cJ5_isEmpty 12 = .ok (.ireturn, 1) := dz_172 (bJ5_isEmpty_0 12 _ rfl)
def c_J5_isEmpty (t0 : Nat)  (w : ch_W) : Option (Int32) := (ch_gI w (some t0) 14 fJ5_size).bind fun v1 => if v1 = 0 then (some (1)) else (some (0))
theorem s_J5_isEmpty {g : State} {kb : Bool} {t0 : Nat} {w : ch_W} {res : Int32} {Q : Outcome → ch_W → Prop} (h : c_J5_isEmpty t0 w = some res) (hk : (fun r => ch_eI Q (r, w)) res) : ch_CT g kb yJ5_isEmpty 2 [.ref t0] (w) Q := by
  unfold c_J5_isEmpty at h
  refine ch_ctL mJ5_isEmpty (ls := [some (va_rf (some t0))]) q985 rfl (ch_lyr (r := some t0) ch_ly0) (Nat.le_of_ble_eq_true rfl) rfl ?_
  refine ch_aload_n 0 (some t0) dJ5_isEmpty_0 rfl (cp_gI (ci := 13) (k := 2) dJ5_isEmpty_1 fl_J5_48 rfl h (fun v1 h => ?_))
  refine cp_if_ne _ (tgt := 11) dJ5_isEmpty_4 rfl h (fun h => ?_) (fun h => ?_)
  · obtain rfl := Option.some.inj h
    exact ch_iconst _ 0 dJ5_isEmpty_11 rfl (ch_ireturn _ dJ5_isEmpty_12 rfl rfl hk)
  · obtain rfl := Option.some.inj h
    exact ch_iconst _ 1 dJ5_isEmpty_7 rfl (ch_goto 12 dJ5_isEmpty_8 rfl (ch_ireturn _ dJ5_isEmpty_12 rfl rfl hk))

theorem bJ5_fastRemove_0 : ch_ck cJ5_fastRemove 0 [42, 89, 180, 0, 63, 4, 96, 181, 0, 63, 42, 180, 0, 48, 4, 100] := ch_ckof (by decide +kernel)
theorem bJ5_fastRemove_1 : ch_ck cJ5_fastRemove 16 [89, 62, 28, 164, 0, 15, 43, 28, 4, 96, 43, 28, 29, 28, 100, 184] := ch_ckof (by decide +kernel)
theorem bJ5_fastRemove_2 : ch_ck cJ5_fastRemove 32 [0, 112, 43, 42, 29, 90, 181, 0, 48, 1, 83, 177] := ch_ckof (by decide +kernel)
theorem dJ5_fastRemove_0 : decode cJ5_fastRemove 0 = .ok (.aload_n 0, 1) := dz_42 (bJ5_fastRemove_0 0 _ rfl)
theorem dJ5_fastRemove_1 : decode cJ5_fastRemove 1 = .ok (.dup, 1) := dz_89 (bJ5_fastRemove_0 1 _ rfl)
theorem dJ5_fastRemove_2 : decode cJ5_fastRemove 2 = .ok (.getfield 63, 3) := dz_180 (bJ5_fastRemove_0 2 _ rfl) (bJ5_fastRemove_0 3 _ rfl) (bJ5_fastRemove_0 4 _ rfl)
theorem dJ5_fastRemove_5 : decode cJ5_fastRemove 5 = .ok (.iconst 1, 1) := dz_4 (bJ5_fastRemove_0 5 _ rfl)
theorem dJ5_fastRemove_6 : decode cJ5_fastRemove 6 = .ok (.iadd, 1) := dz_96 (bJ5_fastRemove_0 6 _ rfl)
theorem dJ5_fastRemove_7 : decode cJ5_fastRemove 7 = .ok (.putfield 63, 3) := dz_181 (bJ5_fastRemove_0 7 _ rfl) (bJ5_fastRemove_0 8 _ rfl) (bJ5_fastRemove_0 9 _ rfl)
theorem dJ5_fastRemove_10 : decode cJ5_fastRemove 10 = .ok (.aload_n 0, 1) := dz_42 (bJ5_fastRemove_0 10 _ rfl)
theorem dJ5_fastRemove_11 : decode cJ5_fastRemove 11 = .ok (.getfield 48, 3) := dz_180 (bJ5_fastRemove_0 11 _ rfl) (bJ5_fastRemove_0 12 _ rfl) (bJ5_fastRemove_0 13 _ rfl)
theorem dJ5_fastRemove_14 : decode cJ5_fastRemove 14 = .ok (.iconst 1, 1) := dz_4 (bJ5_fastRemove_0 14 _ rfl)
theorem dJ5_fastRemove_15 : decode cJ5_fastRemove 15 = .ok (.isub, 1) := dz_100 (bJ5_fastRemove_0 15 _ rfl)
theorem dJ5_fastRemove_16 : decode cJ5_fastRemove 16 = .ok (.dup, 1) := dz_89 (bJ5_fastRemove_1 0 _ rfl)
theorem dJ5_fastRemove_17 : decode cJ5_fastRemove 17 = .ok (.istore_n 3, 1) := dz_62 (bJ5_fastRemove_1 1 _ rfl)
theorem dJ5_fastRemove_18 : decode cJ5_fastRemove 18 = .ok (.iload_n 2, 1) := dz_28 (bJ5_fastRemove_1 2 _ rfl)
theorem dJ5_fastRemove_19 : decode cJ5_fastRemove 19 = .ok (.if_icmp .le 15, 3) := dz_164 (bJ5_fastRemove_1 3 _ rfl) (bJ5_fastRemove_1 4 _ rfl) (bJ5_fastRemove_1 5 _ rfl)
theorem dJ5_fastRemove_22 : decode cJ5_fastRemove 22 = .ok (.aload_n 1, 1) := dz_43 (bJ5_fastRemove_1 6 _ rfl)
theorem dJ5_fastRemove_23 : decode cJ5_fastRemove 23 = .ok (.iload_n 2, 1) := dz_28 (bJ5_fastRemove_1 7 _ rfl)
theorem dJ5_fastRemove_24 : decode cJ5_fastRemove 24 = .ok (.iconst 1, 1) := dz_4 (bJ5_fastRemove_1 8 _ rfl)
theorem dJ5_fastRemove_25 : decode cJ5_fastRemove 25 = .ok (.iadd, 1) := dz_96 (bJ5_fastRemove_1 9 _ rfl)
theorem dJ5_fastRemove_26 : decode cJ5_fastRemove 26 = .ok (.aload_n 1, 1) := dz_43 (bJ5_fastRemove_1 10 _ rfl)
theorem dJ5_fastRemove_27 : decode cJ5_fastRemove 27 = .ok (.iload_n 2, 1) := dz_28 (bJ5_fastRemove_1 11 _ rfl)
theorem dJ5_fastRemove_28 : decode cJ5_fastRemove 28 = .ok (.iload_n 3, 1) := dz_29 (bJ5_fastRemove_1 12 _ rfl)
theorem dJ5_fastRemove_29 : decode cJ5_fastRemove 29 = .ok (.iload_n 2, 1) := dz_28 (bJ5_fastRemove_1 13 _ rfl)
theorem dJ5_fastRemove_30 : decode cJ5_fastRemove 30 = .ok (.isub, 1) := dz_100 (bJ5_fastRemove_1 14 _ rfl)
theorem dJ5_fastRemove_31 : decode cJ5_fastRemove 31 = .ok (.invokestatic 112, 3) := dz_184 (bJ5_fastRemove_1 15 _ rfl) (bJ5_fastRemove_2 0 _ rfl) (bJ5_fastRemove_2 1 _ rfl)
theorem dJ5_fastRemove_34 : decode cJ5_fastRemove 34 = .ok (.aload_n 1, 1) := dz_43 (bJ5_fastRemove_2 2 _ rfl)
theorem dJ5_fastRemove_35 : decode cJ5_fastRemove 35 = .ok (.aload_n 0, 1) := dz_42 (bJ5_fastRemove_2 3 _ rfl)
theorem dJ5_fastRemove_36 : decode cJ5_fastRemove 36 = .ok (.iload_n 3, 1) := dz_29 (bJ5_fastRemove_2 4 _ rfl)
theorem dJ5_fastRemove_37 : decode cJ5_fastRemove 37 = .ok (.dup_x1, 1) := dz_90 (bJ5_fastRemove_2 5 _ rfl)
theorem dJ5_fastRemove_38 : decode cJ5_fastRemove 38 = .ok (.putfield 48, 3) := dz_181 (bJ5_fastRemove_2 6 _ rfl) (bJ5_fastRemove_2 7 _ rfl) (bJ5_fastRemove_2 8 _ rfl)
theorem dJ5_fastRemove_41 : decode cJ5_fastRemove 41 = .ok (.aconst_null, 1) := dz_1 (bJ5_fastRemove_2 9 _ rfl)
theorem dJ5_fastRemove_42 : decode cJ5_fastRemove 42 = .ok (.aastore, 1) := dz_83 (bJ5_fastRemove_2 10 _ rfl)
theorem dJ5_fastRemove_43 : decode cJ5_fastRemove 43 = .ok (.return_, 1) := dz_177 (bJ5_fastRemove_2 11 _ rfl)
def c_J5_fastRemove_34 (t0 : Nat) (x1 : Option Nat) (x3 : Int32)  (w : ch_W) : Option (ch_W) := (ch_pI w (some t0) 14 fJ5_size x3).bind fun w1 => (ch_wR w1 x1 25 0 x3 none).bind fun w2 => some (w2)
theorem s_J5_fastRemove_34 {g : State} {t0 : Nat} {x1 : Option Nat} {x3 : Int32} {w : ch_W} {res : ch_W} {Q : Outcome → ch_W → Prop} (h : c_J5_fastRemove_34 t0 x1 x3 w = some res) (hk : (ch_eV Q) res) : ch_FT g true mJ5_fastRemove 2 34 [some (va_rf (some t0)), some (va_rf x1), none, some (.int x3)] [] (w) Q := by
  unfold c_J5_fastRemove_34 at h
  refine ch_aload_n 1 x1 dJ5_fastRemove_34 rfl (ch_aload_n 0 (some t0) dJ5_fastRemove_35 rfl (ch_iload_n 3 _ dJ5_fastRemove_36 rfl (ch_dup_x1 dJ5_fastRemove_37 rfl (ch_cat _) (cp_pI (ci := 13) (k := 2) dJ5_fastRemove_38 fl_J5_48 rfl rfl rfl h (fun w1 h => ?_)))))
  refine ch_null dJ5_fastRemove_41 (cp_aast (t := 25) (c := 0) dJ5_fastRemove_42 rfl (Nat.le_of_ble_eq_true rfl) rfl el_0 h (fun w2 h => ?_))
  obtain rfl := Option.some.inj h
  exact ch_return dJ5_fastRemove_43 rfl hk

def c_J5_fastRemove (t0 : Nat) (x1 : Option Nat) (x2 : Int32) (w : ch_W) : Option (ch_W) := (ch_gI w (some t0) 14 fJ5_modCount).bind fun v1 => (ch_pI w (some t0) 14 fJ5_modCount (v1 + 1)).bind fun w2 => (ch_gI w2 (some t0) 14 fJ5_size).bind fun v3 => if x2 < (v3 - 1) then ((ch_cpR w2 x1 (x2 + 1) x1 x2 ((v3 - 1) - x2)).bind fun w4 => c_J5_fastRemove_34 t0 x1 (v3 - 1) w4) else (c_J5_fastRemove_34 t0 x1 (v3 - 1) w2)
theorem s_J5_fastRemove {g : State} {t0 : Nat} {x1 : Option Nat} {x2 : Int32} {w : ch_W} {res : ch_W} {Q : Outcome → ch_W → Prop} (h : c_J5_fastRemove t0 x1 x2 w = some res) (hk : (ch_eV Q) res) : ch_CT g true yJ5_fastRemove 2 [.ref t0, va_rf x1, .int x2] (w) Q := by
  unfold c_J5_fastRemove at h
  refine ch_ctL mJ5_fastRemove (ls := [some (va_rf (some t0)), some (va_rf x1), some (.int x2), none]) q1249 rfl (ch_lyr (r := some t0) (ch_lyr (r := x1) (ch_lyi ch_ly0))) (Nat.le_of_ble_eq_true rfl) rfl ?_
  refine ch_aload_n 0 (some t0) dJ5_fastRemove_0 rfl (ch_dup dJ5_fastRemove_1 (ch_cat _) (cp_gI (ci := 13) (k := 0) dJ5_fastRemove_2 fl_J5_63 rfl h (fun v1 h => ?_)))
  refine ch_iconst _ 1 dJ5_fastRemove_5 rfl (ch_iadd _ _ dJ5_fastRemove_6 (cp_pI (ci := 13) (k := 0) dJ5_fastRemove_7 fl_J5_63 rfl rfl rfl h (fun w2 h => ?_)))
  refine ch_aload_n 0 (some t0) dJ5_fastRemove_10 rfl (cp_gI (ci := 13) (k := 2) dJ5_fastRemove_11 fl_J5_48 rfl h (fun v3 h => ?_))
  refine ch_iconst _ 1 dJ5_fastRemove_14 rfl (ch_isub _ _ dJ5_fastRemove_15 (ch_dup dJ5_fastRemove_16 rfl (ch_istore_n 3 _ (ls1 := [some (va_rf (some t0)), some (va_rf x1), some (.int x2), some (.int (v3 - 1))]) dJ5_fastRemove_17 (Nat.le_of_ble_eq_true rfl) rfl (ch_iload_n 2 _ dJ5_fastRemove_18 rfl (cp_icmp_le _ _ (tgt := 34) dJ5_fastRemove_19 rfl h (fun h => ?_) (fun h => ?_))))))
  · exact ch_FT.wk (ch_wS (ch_wS (ch_wN (ch_wS ch_w0)))) (s_J5_fastRemove_34  h hk)
  · refine ch_aload_n 1 x1 dJ5_fastRemove_22 rfl (ch_iload_n 2 _ dJ5_fastRemove_23 rfl (ch_iconst _ 1 dJ5_fastRemove_24 rfl (ch_iadd _ _ dJ5_fastRemove_25 (ch_aload_n 1 x1 dJ5_fastRemove_26 rfl (ch_iload_n 2 _ dJ5_fastRemove_27 rfl (ch_iload_n 3 _ dJ5_fastRemove_28 rfl (ch_iload_n 2 _ dJ5_fastRemove_29 rfl (?_))))))))
    refine ch_isub _ _ dJ5_fastRemove_30 (cp_copyR dJ5_fastRemove_31 q1250 (Nat.le_of_ble_eq_true rfl) (Nat.le_of_ble_eq_true rfl) h (fun w4 h => ?_))
    exact ch_FT.wk (ch_wS (ch_wS (ch_wN (ch_wS ch_w0)))) (s_J5_fastRemove_34  h hk)

theorem bJ5_remove_0 : ch_ck cJ5_remove 0 [27, 42, 180, 0, 48, 184, 0, 118, 87, 42, 180, 0, 9, 77, 44, 27] := ch_ckof (by decide +kernel)
theorem bJ5_remove_1 : ch_ck cJ5_remove 16 [50, 78, 42, 44, 27, 182, 0, 144, 45, 176] := ch_ckof (by decide +kernel)
theorem dJ5_remove_0 : decode cJ5_remove 0 = .ok (.iload_n 1, 1) := dz_27 (bJ5_remove_0 0 _ rfl)
theorem dJ5_remove_1 : decode cJ5_remove 1 = .ok (.aload_n 0, 1) := dz_42 (bJ5_remove_0 1 _ rfl)
theorem dJ5_remove_2 : decode cJ5_remove 2 = .ok (.getfield 48, 3) := dz_180 (bJ5_remove_0 2 _ rfl) (bJ5_remove_0 3 _ rfl) (bJ5_remove_0 4 _ rfl)
theorem dJ5_remove_5 : decode cJ5_remove 5 = .ok (.invokestatic 118, 3) := dz_184 (bJ5_remove_0 5 _ rfl) (bJ5_remove_0 6 _ rfl) (bJ5_remove_0 7 _ rfl)
theorem dJ5_remove_8 : decode cJ5_remove 8 = .ok (.pop, 1) := dz_87 (bJ5_remove_0 8 _ rfl)
theorem dJ5_remove_9 : decode cJ5_remove 9 = .ok (.aload_n 0, 1) := dz_42 (bJ5_remove_0 9 _ rfl)
theorem dJ5_remove_10 : decode cJ5_remove 10 = .ok (.getfield 9, 3) := dz_180 (bJ5_remove_0 10 _ rfl) (bJ5_remove_0 11 _ rfl) (bJ5_remove_0 12 _ rfl)
theorem dJ5_remove_13 : decode cJ5_remove 13 = .ok (.astore_n 2, 1) := dz_77 (bJ5_remove_0 13 _ rfl)
theorem dJ5_remove_14 : decode cJ5_remove 14 = .ok (.aload_n 2, 1) := dz_44 (bJ5_remove_0 14 _ rfl)
theorem dJ5_remove_15 : decode cJ5_remove 15 = .ok (.iload_n 1, 1) := dz_27 (bJ5_remove_0 15 _ rfl)
theorem dJ5_remove_16 : decode cJ5_remove 16 = .ok (.aaload, 1) := dz_50 (bJ5_remove_1 0 _ rfl)
theorem dJ5_remove_17 : decode cJ5_remove 17 = .ok (.astore_n 3, 1) := dz_78 (bJ5_remove_1 1 _ rfl)
theorem dJ5_remove_18 : decode cJ5_remove 18 = .ok (.aload_n 0, 1) := dz_42 (bJ5_remove_1 2 _ rfl)
theorem dJ5_remove_19 : decode cJ5_remove 19 = .ok (.aload_n 2, 1) := dz_44 (bJ5_remove_1 3 _ rfl)
theorem dJ5_remove_20 : decode cJ5_remove 20 = .ok (.iload_n 1, 1) := dz_27 (bJ5_remove_1 4 _ rfl)
theorem dJ5_remove_21 : decode cJ5_remove 21 = .ok (.invokevirtual 144, 3) := dz_182 (bJ5_remove_1 5 _ rfl) (bJ5_remove_1 6 _ rfl) (bJ5_remove_1 7 _ rfl)
theorem dJ5_remove_24 : decode cJ5_remove 24 = .ok (.aload_n 3, 1) := dz_45 (bJ5_remove_1 8 _ rfl)
theorem dJ5_remove_25 : decode cJ5_remove 25 = .ok (.areturn, 1) := dz_176 (bJ5_remove_1 9 _ rfl)
def c_J5_remove (t0 : Nat) (x1 : Int32) (w : ch_W) : Option (Option Nat × ch_W) := (ch_gI w (some t0) 14 fJ5_size).bind fun v1 => (c_J10_checkIndex x1 v1 w).bind fun v2 => (ch_gR w (some t0) 14 fJ5_elementData).bind fun v4 => (ch_lR w v4 25 x1).bind fun v5 => (ch_rc w (some t0) 14).bind fun _ => (c_J5_fastRemove t0 v4 x1 w).bind fun p7 => some ((v5, p7))
theorem s_J5_remove {g : State} {t0 : Nat} {x1 : Int32} {w : ch_W} {res : Option Nat × ch_W} {Q : Outcome → ch_W → Prop} (h : c_J5_remove t0 x1 w = some res) (hk : (ch_eR Q) res) : ch_CT g true yJ5_remove 4 [.ref t0, .int x1] (w) Q := by
  unfold c_J5_remove at h
  refine ch_ctL mJ5_remove (ls := [some (va_rf (some t0)), some (.int x1), none, none]) q1245 rfl (ch_lyr (r := some t0) (ch_lyi ch_ly0)) (Nat.le_of_ble_eq_true rfl) rfl ?_
  refine ch_iload_n 1 _ dJ5_remove_0 rfl (ch_aload_n 0 (some t0) dJ5_remove_1 rfl (cp_gI (ci := 13) (k := 2) dJ5_remove_2 fl_J5_48 rfl h (fun v1 h => ?_)))
  obtain ⟨v2, hp3, h⟩ := ch_bd h
  refine ch_is yJ10_checkIndex prog_36_method_17_code 2 (some .int) (d' := 3) (av := [.int x1, .int v1]) (rest := []) rfl dJ5_remove_5 q615 q616 q217 q617 can_J10_checkIndex (Nat.le_of_ble_eq_true rfl) (Nat.le_of_ble_eq_true rfl) (cp_kI (v := v2) (w1 := w) (fun Q' hq => s_J10_checkIndex hp3 hq) ?_)
  refine ch_pop dJ5_remove_8 rfl (ch_aload_n 0 (some t0) dJ5_remove_9 rfl (cp_gR (ci := 13) (k := 1) dJ5_remove_10 fl_J5_9 rfl h (fun v4 h => ?_)))
  refine ch_astore_n 2 v4 (ls1 := [some (va_rf (some t0)), some (.int x1), some (va_rf v4), none]) dJ5_remove_13 (Nat.le_of_ble_eq_true rfl) rfl (ch_aload_n 2 v4 dJ5_remove_14 rfl (ch_iload_n 1 _ dJ5_remove_15 rfl (cp_aald (t := 25) dJ5_remove_16 rfl rfl h (fun v5 h => ?_))))
  obtain ⟨_, hb6, h⟩ := ch_bd h
  obtain ⟨p7, hp8, h⟩ := ch_bd h
  refine ch_astore_n 3 v5 (ls1 := [some (va_rf (some t0)), some (.int x1), some (va_rf v4), some (va_rf v5)]) dJ5_remove_17 (Nat.le_of_ble_eq_true rfl) (ch_s1o rfl rfl) (ch_aload_n 0 (some t0) dJ5_remove_18 rfl (ch_aload_n 2 v4 dJ5_remove_19 rfl (ch_iload_n 1 _ dJ5_remove_20 rfl (ch_iv yJ5_fastRemove prog_32_method_39_code 4 none (ci := 13) (q := (RJ5, TJ5, 3)) (b := t0) (d' := 2) (av := [va_rf v4, .int x1]) (rest := []) rfl dJ5_remove_21 q1246 q1248 rfl qs55 q1249 can_J5_fastRemove (Nat.le_of_ble_eq_true rfl) (Nat.le_of_ble_eq_true rfl) (ch_rts hb6) (cp_kV (w1 := p7) (fun Q' hq => s_J5_fastRemove hp8 hq) ?_)))))
  obtain rfl := Option.some.inj h
  exact ch_aload_n 3 v5 dJ5_remove_24 rfl (ch_areturn v5 dJ5_remove_25 rfl (Or.inl ⟨_, rfl⟩) hk)

theorem bJ6_coder_0 : ch_ck cJ6_coder 0 [178, 0, 38, 153, 0, 10, 42, 180, 0, 15, 167, 0, 4, 4, 172] := ch_ckof (by decide +kernel)
theorem dJ6_coder_0 : decode cJ6_coder 0 = .ok (.getstatic 38, 3) := dz_178 (bJ6_coder_0 0 _ rfl) (bJ6_coder_0 1 _ rfl) (bJ6_coder_0 2 _ rfl)
theorem dJ6_coder_3 : decode cJ6_coder 3 = .ok (.ifCond .eq 10, 3) := dz_153 (bJ6_coder_0 3 _ rfl) (bJ6_coder_0 4 _ rfl) (bJ6_coder_0 5 _ rfl)
theorem dJ6_coder_6 : decode cJ6_coder 6 = .ok (.aload_n 0, 1) := dz_42 (bJ6_coder_0 6 _ rfl)
theorem dJ6_coder_7 : decode cJ6_coder 7 = .ok (.getfield 15, 3) := dz_180 (bJ6_coder_0 7 _ rfl) (bJ6_coder_0 8 _ rfl) (bJ6_coder_0 9 _ rfl)
theorem dJ6_coder_10 : decode cJ6_coder 10 = .ok (.goto 4, 3) := dz_167 (bJ6_coder_0 10 _ rfl) (bJ6_coder_0 11 _ rfl) (bJ6_coder_0 12 _ rfl)
theorem dJ6_coder_13 : decode cJ6_coder 13 = .ok (.iconst 1, 1) := dz_4 (bJ6_coder_0 13 _ rfl)
theorem dJ6_coder_14 : decode cJ6_coder 14 = .ok (.ireturn, 1) := dz_172 (bJ6_coder_0 14 _ rfl)
def c_J6_coder (g : State) (t0 : Nat)  (w : ch_W) : Option (Int32) := if (1 : Int32) = 0 then ((ch_nar .byte 1).bind fun v => some (v)) else ((ch_sC w (some t0)).bind fun v1 => (ch_nar .byte v1).bind fun v => some (v))
theorem s_J6_coder {g : State} {kb : Bool} {t0 : Nat} {w : ch_W} {res : Int32} {Q : Outcome → ch_W → Prop} (h : c_J6_coder g t0 w = some res) (hk : (fun r => ch_eI Q (r, w)) res) : ch_CT g kb yJ6_coder 2 [.ref t0] (w) Q := by
  unfold c_J6_coder at h
  refine ch_ctL mJ6_coder (ls := [some (va_rf (some t0))]) q520 rfl (ch_lyr (r := some t0) ch_ly0) (Nat.le_of_ble_eq_true rfl) rfl ?_
  refine ch_getsC dJ6_coder_0 q521 (cp_if_eq _ (tgt := 13) dJ6_coder_3 rfl h (fun h => ?_) (fun h => ?_))
  · refine ch_iconst _ 1 dJ6_coder_13 rfl (cp_nret _ dJ6_coder_14 rfl rfl h (fun h => ?_))
    obtain rfl := Option.some.inj h
    exact hk
  · refine ch_aload_n 0 (some t0) dJ6_coder_6 rfl (cp_sC dJ6_coder_7 q2359 h (fun v1 h => ?_))
    refine ch_goto 14 dJ6_coder_10 rfl (cp_nret _ dJ6_coder_14 rfl rfl h (fun h => ?_))
    obtain rfl := Option.some.inj h
    exact hk

theorem bJ6_length_0 : ch_ck cJ6_length 0 [42, 180, 0, 9, 190, 42, 182, 1, 79, 122, 172] := ch_ckof (by decide +kernel)
theorem dJ6_length_0 : decode cJ6_length 0 = .ok (.aload_n 0, 1) := dz_42 (bJ6_length_0 0 _ rfl)
theorem dJ6_length_1 : decode cJ6_length 1 = .ok (.getfield 9, 3) := dz_180 (bJ6_length_0 1 _ rfl) (bJ6_length_0 2 _ rfl) (bJ6_length_0 3 _ rfl)
theorem dJ6_length_4 : decode cJ6_length 4 = .ok (.arraylength, 1) := dz_190 (bJ6_length_0 4 _ rfl)
theorem dJ6_length_5 : decode cJ6_length 5 = .ok (.aload_n 0, 1) := dz_42 (bJ6_length_0 5 _ rfl)
theorem dJ6_length_6 : decode cJ6_length 6 = .ok (.invokevirtual 335, 3) := dz_182 (bJ6_length_0 6 _ rfl) (bJ6_length_0 7 _ rfl) (bJ6_length_0 8 _ rfl)
theorem dJ6_length_9 : decode cJ6_length 9 = .ok (.ishr, 1) := dz_122 (bJ6_length_0 9 _ rfl)
theorem dJ6_length_10 : decode cJ6_length 10 = .ok (.ireturn, 1) := dz_172 (bJ6_length_0 10 _ rfl)
def c_J6_length (g : State) (t0 : Nat)  (w : ch_W) : Option (Int32) := (ch_sV w (some t0)).bind fun v1 => (ch_le w v1 22).bind fun v2 => (ch_rc w (some t0) 20).bind fun _ => (c_J6_coder g t0 w).bind fun v4 => some (v2 >>> (v4 &&& 31))
theorem s_J6_length {g : State} {kb : Bool} {t0 : Nat} {w : ch_W} {res : Int32} {Q : Outcome → ch_W → Prop} (h : c_J6_length g t0 w = some res) (hk : (fun r => ch_eI Q (r, w)) res) : ch_CT g kb yJ6_length 3 [.ref t0] (w) Q := by
  unfold c_J6_length at h
  refine ch_ctL mJ6_length (ls := [some (va_rf (some t0))]) q516 rfl (ch_lyr (r := some t0) ch_ly0) (Nat.le_of_ble_eq_true rfl) rfl ?_
  refine ch_aload_n 0 (some t0) dJ6_length_0 rfl (cp_sV dJ6_length_1 q2358 h (fun v1 h => ?_))
  refine cp_alen (t := 22) dJ6_length_4 rfl rfl h (fun v2 h => ?_)
  obtain ⟨_, hb3, h⟩ := ch_bd h
  obtain ⟨v4, hp5, h⟩ := ch_bd h
  refine ch_aload_n 0 (some t0) dJ6_length_5 rfl (ch_ivS yJ6_coder prog_23_method_152_code 1 (some .byte) (b := t0) (d' := 2) (av := []) (rest := [.int v2]) rfl dJ6_length_6 q517 q518 q519 q520 can_J6_coder (Nat.le_of_ble_eq_true rfl) (ch_hw (Nat.le_of_ble_eq_true rfl)) (ch_rts hb3) (cp_kI (v := v4) (w1 := w) (fun Q' hq => s_J6_coder hp5 hq) ?_))
  obtain rfl := Option.some.inj h
  exact ch_ishr _ _ dJ6_length_9 (ch_ireturn _ dJ6_length_10 rfl rfl hk)

theorem bJ6_isLatin1_0 : ch_ck cJ6_isLatin1 0 [178, 0, 38, 153, 0, 14, 42, 180, 0, 15, 154, 0, 7, 4, 167, 0] := ch_ckof (by decide +kernel)
theorem bJ6_isLatin1_1 : ch_ck cJ6_isLatin1 16 [4, 3, 172] := ch_ckof (by decide +kernel)
theorem dJ6_isLatin1_0 : decode cJ6_isLatin1 0 = .ok (.getstatic 38, 3) := dz_178 (bJ6_isLatin1_0 0 _ rfl) (bJ6_isLatin1_0 1 _ rfl) (bJ6_isLatin1_0 2 _ rfl)
theorem dJ6_isLatin1_3 : decode cJ6_isLatin1 3 = .ok (.ifCond .eq 14, 3) := dz_153 (bJ6_isLatin1_0 3 _ rfl) (bJ6_isLatin1_0 4 _ rfl) (bJ6_isLatin1_0 5 _ rfl)
theorem dJ6_isLatin1_6 : decode cJ6_isLatin1 6 = .ok (.aload_n 0, 1) := dz_42 (bJ6_isLatin1_0 6 _ rfl)
theorem dJ6_isLatin1_7 : decode cJ6_isLatin1 7 = .ok (.getfield 15, 3) := dz_180 (bJ6_isLatin1_0 7 _ rfl) (bJ6_isLatin1_0 8 _ rfl) (bJ6_isLatin1_0 9 _ rfl)
theorem dJ6_isLatin1_10 : decode cJ6_isLatin1 10 = .ok (.ifCond .ne 7, 3) := dz_154 (bJ6_isLatin1_0 10 _ rfl) (bJ6_isLatin1_0 11 _ rfl) (bJ6_isLatin1_0 12 _ rfl)
theorem dJ6_isLatin1_13 : decode cJ6_isLatin1 13 = .ok (.iconst 1, 1) := dz_4 (bJ6_isLatin1_0 13 _ rfl)
theorem dJ6_isLatin1_14 : decode cJ6_isLatin1 14 = .ok (.goto 4, 3) := dz_167 (bJ6_isLatin1_0 14 _ rfl) (bJ6_isLatin1_0 15 _ rfl) (bJ6_isLatin1_1 0 _ rfl)
theorem dJ6_isLatin1_17 : decode cJ6_isLatin1 17 = .ok (.iconst 0, 1) := dz_3 (bJ6_isLatin1_1 1 _ rfl)
theorem dJ6_isLatin1_18 : decode cJ6_isLatin1 18 = .ok (.ireturn, 1) := dz_172 (bJ6_isLatin1_1 2 _ rfl)
def c_J6_isLatin1 (g : State) (t0 : Nat)  (w : ch_W) : Option (Int32) := if (1 : Int32) = 0 then (some (0)) else ((ch_sC w (some t0)).bind fun v1 => if v1 = 0 then (some (1)) else (some (0)))
theorem s_J6_isLatin1 {g : State} {kb : Bool} {t0 : Nat} {w : ch_W} {res : Int32} {Q : Outcome → ch_W → Prop} (h : c_J6_isLatin1 g t0 w = some res) (hk : (fun r => ch_eI Q (r, w)) res) : ch_CT g kb yJ6_isLatin1 2 [.ref t0] (w) Q := by
  unfold c_J6_isLatin1 at h
  refine ch_ctL mJ6_isLatin1 (ls := [some (va_rf (some t0))]) q530 rfl (ch_lyr (r := some t0) ch_ly0) (Nat.le_of_ble_eq_true rfl) rfl ?_
  refine ch_getsC dJ6_isLatin1_0 q521 (cp_if_eq _ (tgt := 17) dJ6_isLatin1_3 rfl h (fun h => ?_) (fun h => ?_))
  · obtain rfl := Option.some.inj h
    exact ch_iconst _ 0 dJ6_isLatin1_17 rfl (ch_ireturn _ dJ6_isLatin1_18 rfl rfl hk)
  · refine ch_aload_n 0 (some t0) dJ6_isLatin1_6 rfl (cp_sC dJ6_isLatin1_7 q2359 h (fun v1 h => ?_))
    refine cp_if_ne _ (tgt := 17) dJ6_isLatin1_10 rfl h (fun h => ?_) (fun h => ?_)
    · obtain rfl := Option.some.inj h
      exact ch_iconst _ 0 dJ6_isLatin1_17 rfl (ch_ireturn _ dJ6_isLatin1_18 rfl rfl hk)
    · obtain rfl := Option.some.inj h
      exact ch_iconst _ 1 dJ6_isLatin1_13 rfl (ch_goto 18 dJ6_isLatin1_14 rfl (ch_ireturn _ dJ6_isLatin1_18 rfl rfl hk))

theorem bJ6_checkIndex_0 : ch_ck cJ6_checkIndex 0 [26, 27, 178, 4, 29, 184, 4, 35, 87, 177] := ch_ckof (by decide +kernel)
theorem dJ6_checkIndex_0 : decode cJ6_checkIndex 0 = .ok (.iload_n 0, 1) := dz_26 (bJ6_checkIndex_0 0 _ rfl)
theorem dJ6_checkIndex_1 : decode cJ6_checkIndex 1 = .ok (.iload_n 1, 1) := dz_27 (bJ6_checkIndex_0 1 _ rfl)
theorem dJ6_checkIndex_2 : decode cJ6_checkIndex 2 = .ok (.getstatic 1053, 3) := dz_178 (bJ6_checkIndex_0 2 _ rfl) (bJ6_checkIndex_0 3 _ rfl) (bJ6_checkIndex_0 4 _ rfl)
theorem dJ6_checkIndex_5 : decode cJ6_checkIndex 5 = .ok (.invokestatic 1059, 3) := dz_184 (bJ6_checkIndex_0 5 _ rfl) (bJ6_checkIndex_0 6 _ rfl) (bJ6_checkIndex_0 7 _ rfl)
theorem dJ6_checkIndex_8 : decode cJ6_checkIndex 8 = .ok (.pop, 1) := dz_87 (bJ6_checkIndex_0 8 _ rfl)
theorem dJ6_checkIndex_9 : decode cJ6_checkIndex 9 = .ok (.return_, 1) := dz_177 (bJ6_checkIndex_0 9 _ rfl)
def c_J6_checkIndex (g : State) (x0 : Int32) (x1 : Int32) (w : ch_W) : Option (Unit) := (c_J8_checkIndex x0 x1 (ch_stF g) w).bind fun v1 => some (())
theorem s_J6_checkIndex {g : State} {kb : Bool} {x0 : Int32} {x1 : Int32} {w : ch_W} {res : Unit} {Q : Outcome → ch_W → Prop} (h : c_J6_checkIndex g x0 x1 w = some res) (hk : (fun _ => ch_eV Q (w)) res) : ch_CT g kb yJ6_checkIndex 3 [.int x0, .int x1] (w) Q := by
  unfold c_J6_checkIndex at h
  refine ch_ctL mJ6_checkIndex (ls := [some (.int x0), some (.int x1)]) q536 rfl (ch_lyi (ch_lyi ch_ly0)) (Nat.le_of_ble_eq_true rfl) rfl ?_
  obtain ⟨v1, hp2, h⟩ := ch_bd h
  refine ch_iload_n 0 _ dJ6_checkIndex_0 rfl (ch_iload_n 1 _ dJ6_checkIndex_1 rfl (ch_getsS dJ6_checkIndex_2 q537 (ch_is yJ8_checkIndex prog_40_method_11_code 3 (some .int) (d' := 2) (av := [.int x0, .int x1, va_rf (ch_stF g)]) (rest := []) rfl dJ6_checkIndex_5 q539 q540 q213 q541 can_J8_checkIndex (Nat.le_of_ble_eq_true rfl) (Nat.le_of_ble_eq_true rfl) (cp_kI (v := v1) (w1 := w) (fun Q' hq => s_J8_checkIndex hp2 hq) ?_))))
  obtain rfl := Option.some.inj h
  exact ch_pop dJ6_checkIndex_8 rfl (ch_return dJ6_checkIndex_9 rfl hk)

theorem bJ7_charAt_0 : ch_ck cJ7_charAt 0 [27, 42, 190, 184, 0, 9, 42, 27, 51, 17, 0, 255, 126, 146, 172] := ch_ckof (by decide +kernel)
theorem dJ7_charAt_0 : decode cJ7_charAt 0 = .ok (.iload_n 1, 1) := dz_27 (bJ7_charAt_0 0 _ rfl)
theorem dJ7_charAt_1 : decode cJ7_charAt 1 = .ok (.aload_n 0, 1) := dz_42 (bJ7_charAt_0 1 _ rfl)
theorem dJ7_charAt_2 : decode cJ7_charAt 2 = .ok (.arraylength, 1) := dz_190 (bJ7_charAt_0 2 _ rfl)
theorem dJ7_charAt_3 : decode cJ7_charAt 3 = .ok (.invokestatic 9, 3) := dz_184 (bJ7_charAt_0 3 _ rfl) (bJ7_charAt_0 4 _ rfl) (bJ7_charAt_0 5 _ rfl)
theorem dJ7_charAt_6 : decode cJ7_charAt 6 = .ok (.aload_n 0, 1) := dz_42 (bJ7_charAt_0 6 _ rfl)
theorem dJ7_charAt_7 : decode cJ7_charAt 7 = .ok (.iload_n 1, 1) := dz_27 (bJ7_charAt_0 7 _ rfl)
theorem dJ7_charAt_8 : decode cJ7_charAt 8 = .ok (.baload, 1) := dz_51 (bJ7_charAt_0 8 _ rfl)
theorem dJ7_charAt_9 : decode cJ7_charAt 9 = .ok (.sipush 255, 3) := dz_17 (bJ7_charAt_0 9 _ rfl) (bJ7_charAt_0 10 _ rfl) (bJ7_charAt_0 11 _ rfl)
theorem dJ7_charAt_12 : decode cJ7_charAt 12 = .ok (.iand, 1) := dz_126 (bJ7_charAt_0 12 _ rfl)
theorem dJ7_charAt_13 : decode cJ7_charAt 13 = .ok (.i2c, 1) := dz_146 (bJ7_charAt_0 13 _ rfl)
theorem dJ7_charAt_14 : decode cJ7_charAt 14 = .ok (.ireturn, 1) := dz_172 (bJ7_charAt_0 14 _ rfl)
def c_J7_charAt (g : State) (x0 : Option Nat) (x1 : Int32) (w : ch_W) : Option (Int32) := (ch_le w x0 22).bind fun v1 => (c_J6_checkIndex g x1 v1 w).bind fun v2 => (ch_lI w x0 22 x1).bind fun v4 => (ch_nar .char ((Int32.toUInt32 (v4 &&& 255) % 65536).toInt32)).bind fun v => some (v)
theorem s_J7_charAt {g : State} {kb : Bool} {x0 : Option Nat} {x1 : Int32} {w : ch_W} {res : Int32} {Q : Outcome → ch_W → Prop} (h : c_J7_charAt g x0 x1 w = some res) (hk : (fun r => ch_eI Q (r, w)) res) : ch_CT g kb yJ7_charAt 4 [va_rf x0, .int x1] (w) Q := by
  unfold c_J7_charAt at h
  refine ch_ctL mJ7_charAt (ls := [some (va_rf x0), some (.int x1)]) q533 rfl (ch_lyr (r := x0) (ch_lyi ch_ly0)) (Nat.le_of_ble_eq_true rfl) rfl ?_
  refine ch_iload_n 1 _ dJ7_charAt_0 rfl (ch_aload_n 0 x0 dJ7_charAt_1 rfl (cp_alen (t := 22) dJ7_charAt_2 rfl rfl h (fun v1 h => ?_)))
  obtain ⟨v2, hp3, h⟩ := ch_bd h
  refine ch_is yJ6_checkIndex prog_23_method_155_code 2 none (d' := 3) (av := [.int x1, .int v1]) (rest := []) rfl dJ7_charAt_3 q534 q535 q211 q536 can_J6_checkIndex (Nat.le_of_ble_eq_true rfl) (Nat.le_of_ble_eq_true rfl) (cp_kV (w1 := w) (fun Q' hq => s_J6_checkIndex hp3 hq) ?_)
  refine ch_aload_n 0 x0 dJ7_charAt_6 rfl (ch_iload_n 1 _ dJ7_charAt_7 rfl (cp_bald (t := 22) dJ7_charAt_8 rfl rfl h (fun v4 h => ?_)))
  refine ch_sipush _ 255 dJ7_charAt_9 rfl (ch_iand _ _ dJ7_charAt_12 (ch_i2c _ dJ7_charAt_13 (cp_nret _ dJ7_charAt_14 rfl rfl h (fun h => ?_))))
  obtain rfl := Option.some.inj h
  exact hk

theorem bJ6_charAt_0 : ch_ck cJ6_charAt 0 [42, 182, 1, 236, 153, 0, 12, 42, 180, 0, 9, 27, 184, 1, 239, 172] := ch_ckof (by decide +kernel)
theorem bJ6_charAt_1 : ch_ck cJ6_charAt 16 [42, 180, 0, 9, 27, 184, 1, 242, 172] := ch_ckof (by decide +kernel)
theorem dJ6_charAt_0 : decode cJ6_charAt 0 = .ok (.aload_n 0, 1) := dz_42 (bJ6_charAt_0 0 _ rfl)
theorem dJ6_charAt_1 : decode cJ6_charAt 1 = .ok (.invokevirtual 492, 3) := dz_182 (bJ6_charAt_0 1 _ rfl) (bJ6_charAt_0 2 _ rfl) (bJ6_charAt_0 3 _ rfl)
theorem dJ6_charAt_4 : decode cJ6_charAt 4 = .ok (.ifCond .eq 12, 3) := dz_153 (bJ6_charAt_0 4 _ rfl) (bJ6_charAt_0 5 _ rfl) (bJ6_charAt_0 6 _ rfl)
theorem dJ6_charAt_7 : decode cJ6_charAt 7 = .ok (.aload_n 0, 1) := dz_42 (bJ6_charAt_0 7 _ rfl)
theorem dJ6_charAt_8 : decode cJ6_charAt 8 = .ok (.getfield 9, 3) := dz_180 (bJ6_charAt_0 8 _ rfl) (bJ6_charAt_0 9 _ rfl) (bJ6_charAt_0 10 _ rfl)
theorem dJ6_charAt_11 : decode cJ6_charAt 11 = .ok (.iload_n 1, 1) := dz_27 (bJ6_charAt_0 11 _ rfl)
theorem dJ6_charAt_12 : decode cJ6_charAt 12 = .ok (.invokestatic 495, 3) := dz_184 (bJ6_charAt_0 12 _ rfl) (bJ6_charAt_0 13 _ rfl) (bJ6_charAt_0 14 _ rfl)
theorem dJ6_charAt_15 : decode cJ6_charAt 15 = .ok (.ireturn, 1) := dz_172 (bJ6_charAt_0 15 _ rfl)
theorem dJ6_charAt_16 : decode cJ6_charAt 16 = .ok (.aload_n 0, 1) := dz_42 (bJ6_charAt_1 0 _ rfl)
theorem dJ6_charAt_17 : decode cJ6_charAt 17 = .ok (.getfield 9, 3) := dz_180 (bJ6_charAt_1 1 _ rfl) (bJ6_charAt_1 2 _ rfl) (bJ6_charAt_1 3 _ rfl)
theorem dJ6_charAt_20 : decode cJ6_charAt 20 = .ok (.iload_n 1, 1) := dz_27 (bJ6_charAt_1 4 _ rfl)
theorem dJ6_charAt_21 : decode cJ6_charAt 21 = .ok (.invokestatic 498, 3) := dz_184 (bJ6_charAt_1 5 _ rfl) (bJ6_charAt_1 6 _ rfl) (bJ6_charAt_1 7 _ rfl)
theorem dJ6_charAt_24 : decode cJ6_charAt 24 = .ok (.ireturn, 1) := dz_172 (bJ6_charAt_1 8 _ rfl)
def c_J6_charAt (g : State) (t0 : Nat) (x1 : Int32) (w : ch_W) : Option (Int32) := (ch_rc w (some t0) 20).bind fun _ => (c_J6_isLatin1 g t0 w).bind fun v2 => if v2 = 0 then ((ch_sV w (some t0)).bind fun v4 => none) else ((ch_sV w (some t0)).bind fun v5 => (c_J7_charAt g v5 x1 w).bind fun v6 => (ch_nar .char v6).bind fun v => some (v))
theorem s_J6_charAt {g : State} {kb : Bool} {t0 : Nat} {x1 : Int32} {w : ch_W} {res : Int32} {Q : Outcome → ch_W → Prop} (h : c_J6_charAt g t0 x1 w = some res) (hk : (fun r => ch_eI Q (r, w)) res) : ch_CT g kb yJ6_charAt 5 [.ref t0, .int x1] (w) Q := by
  unfold c_J6_charAt at h
  refine ch_ctL mJ6_charAt (ls := [some (va_rf (some t0)), some (.int x1)]) q526 rfl (ch_lyr (r := some t0) (ch_lyi ch_ly0)) (Nat.le_of_ble_eq_true rfl) rfl ?_
  obtain ⟨_, hb1, h⟩ := ch_bd h
  obtain ⟨v2, hp3, h⟩ := ch_bd h
  refine ch_aload_n 0 (some t0) dJ6_charAt_0 rfl (ch_ivS yJ6_isLatin1 prog_23_method_154_code 1 (some .boolean) (b := t0) (d' := 2) (av := []) (rest := []) rfl dJ6_charAt_1 q527 q528 q529 q530 can_J6_isLatin1 (Nat.le_of_ble_eq_true rfl) (Nat.le_of_ble_eq_true rfl) (ch_rts hb1) (cp_kI (v := v2) (w1 := w) (fun Q' hq => s_J6_isLatin1 hp3 hq) ?_))
  refine cp_if_eq _ (tgt := 16) dJ6_charAt_4 rfl h (fun h => ?_) (fun h => ?_)
  · refine ch_aload_n 0 (some t0) dJ6_charAt_16 rfl (cp_sV dJ6_charAt_17 q2358 h (fun v4 h => ?_))
    cases h
  · refine ch_aload_n 0 (some t0) dJ6_charAt_7 rfl (cp_sV dJ6_charAt_8 q2358 h (fun v5 h => ?_))
    obtain ⟨v6, hp7, h⟩ := ch_bd h
    refine ch_iload_n 1 _ dJ6_charAt_11 rfl (ch_is yJ7_charAt prog_24_method_2_code 2 (some .char) (d' := 4) (av := [va_rf v5, .int x1]) (rest := []) rfl dJ6_charAt_12 q531 q532 q212 q533 can_J7_charAt (Nat.le_of_ble_eq_true rfl) (Nat.le_of_ble_eq_true rfl) (cp_kI (v := v6) (w1 := w) (fun Q' hq => s_J7_charAt hp7 hq) ?_))
    refine cp_nret _ dJ6_charAt_15 rfl rfl h (fun h => ?_)
    obtain rfl := Option.some.inj h
    exact hk

theorem bX2_init_0 : ch_ck cX2_init 0 [42, 183, 0, 1, 177] := ch_ckof (by decide +kernel)
theorem dX2_init_0 : decode cX2_init 0 = .ok (.aload_n 0, 1) := dz_42 (bX2_init_0 0 _ rfl)
theorem dX2_init_1 : decode cX2_init 1 = .ok (.invokespecial 1, 3) := dz_183 (bX2_init_0 1 _ rfl) (bX2_init_0 2 _ rfl) (bX2_init_0 3 _ rfl)
theorem dX2_init_4 : decode cX2_init 4 = .ok (.return_, 1) := dz_177 (bX2_init_0 4 _ rfl)
def c_X2_init (g : State) (t0 : Nat)  (w : ch_W) : Option (ch_W) := (ch_thr g w (some t0) 3).bind fun w1 => some (w1)
theorem s_X2_init {g : State} {t0 : Nat} {w : ch_W} {res : ch_W} {Q : Outcome → ch_W → Prop} (h : c_X2_init g t0 w = some res) (hk : (ch_eV Q) res) : ch_CT g true yX2_init 6 [.ref t0] (w) Q := by
  unfold c_X2_init at h
  refine ch_ctL mX2_init (ls := [some (va_rf (some t0))]) q288 rfl (ch_lyr (r := some t0) ch_ly0) (Nat.le_of_ble_eq_true rfl) rfl ?_
  refine ch_aload_n 0 (some t0) dX2_init_0 rfl (cp_thr th_X2 dX2_init_1 q289 (Nat.le_of_ble_eq_true rfl) (Nat.le_of_ble_eq_true rfl) h (fun w1 h => ?_))
  obtain rfl := Option.some.inj h
  exact ch_return dX2_init_4 rfl hk

theorem bX1_init_0 : ch_ck cX1_init 0 [42, 183, 0, 3, 42, 17, 45, 80, 188, 11, 181, 0, 9, 42, 17, 45] := ch_ckof (by decide +kernel)
theorem bX1_init_1 : ch_ck cX1_init 16 [80, 188, 11, 181, 0, 15, 42, 18, 18, 188, 11, 181, 0, 19, 42, 16] := ch_ckof (by decide +kernel)
theorem bX1_init_2 : ch_ck cX1_init 32 [100, 189, 0, 22, 181, 0, 24, 42, 16, 100, 188, 10, 181, 0, 28, 42] := ch_ckof (by decide +kernel)
theorem bX1_init_3 : ch_ck cX1_init 48 [16, 100, 188, 10, 181, 0, 32, 42, 17, 1, 44, 188, 10, 181, 0, 35] := ch_ckof (by decide +kernel)
theorem bX1_init_4 : ch_ck cX1_init 64 [42, 17, 1, 244, 188, 10, 181, 0, 38, 42, 187, 0, 41, 89, 183, 0] := ch_ckof (by decide +kernel)
theorem bX1_init_5 : ch_ck cX1_init 80 [43, 181, 0, 44, 177] := ch_ckof (by decide +kernel)
theorem dX1_init_0 : decode cX1_init 0 = .ok (.aload_n 0, 1) := dz_42 (bX1_init_0 0 _ rfl)
theorem dX1_init_1 : decode cX1_init 1 = .ok (.invokespecial 3, 3) := dz_183 (bX1_init_0 1 _ rfl) (bX1_init_0 2 _ rfl) (bX1_init_0 3 _ rfl)
theorem dX1_init_4 : decode cX1_init 4 = .ok (.aload_n 0, 1) := dz_42 (bX1_init_0 4 _ rfl)
theorem dX1_init_5 : decode cX1_init 5 = .ok (.sipush 11600, 3) := dz_17 (bX1_init_0 5 _ rfl) (bX1_init_0 6 _ rfl) (bX1_init_0 7 _ rfl)
theorem dX1_init_8 : decode cX1_init 8 = .ok (.newarray .long, 2) := dz_188_11 (bX1_init_0 8 _ rfl) (bX1_init_0 9 _ rfl)
theorem dX1_init_10 : decode cX1_init 10 = .ok (.putfield 9, 3) := dz_181 (bX1_init_0 10 _ rfl) (bX1_init_0 11 _ rfl) (bX1_init_0 12 _ rfl)
theorem dX1_init_13 : decode cX1_init 13 = .ok (.aload_n 0, 1) := dz_42 (bX1_init_0 13 _ rfl)
theorem dX1_init_14 : decode cX1_init 14 = .ok (.sipush 11600, 3) := dz_17 (bX1_init_0 14 _ rfl) (bX1_init_0 15 _ rfl) (bX1_init_1 0 _ rfl)
theorem dX1_init_17 : decode cX1_init 17 = .ok (.newarray .long, 2) := dz_188_11 (bX1_init_1 1 _ rfl) (bX1_init_1 2 _ rfl)
theorem dX1_init_19 : decode cX1_init 19 = .ok (.putfield 15, 3) := dz_181 (bX1_init_1 3 _ rfl) (bX1_init_1 4 _ rfl) (bX1_init_1 5 _ rfl)
theorem dX1_init_22 : decode cX1_init 22 = .ok (.aload_n 0, 1) := dz_42 (bX1_init_1 6 _ rfl)
theorem dX1_init_23 : decode cX1_init 23 = .ok (.ldc 18, 2) := dz_18 (bX1_init_1 7 _ rfl) (bX1_init_1 8 _ rfl)
theorem dX1_init_25 : decode cX1_init 25 = .ok (.newarray .long, 2) := dz_188_11 (bX1_init_1 9 _ rfl) (bX1_init_1 10 _ rfl)
theorem dX1_init_27 : decode cX1_init 27 = .ok (.putfield 19, 3) := dz_181 (bX1_init_1 11 _ rfl) (bX1_init_1 12 _ rfl) (bX1_init_1 13 _ rfl)
theorem dX1_init_30 : decode cX1_init 30 = .ok (.aload_n 0, 1) := dz_42 (bX1_init_1 14 _ rfl)
theorem dX1_init_31 : decode cX1_init 31 = .ok (.bipush 100, 2) := dz_16 (bX1_init_1 15 _ rfl) (bX1_init_2 0 _ rfl)
theorem dX1_init_33 : decode cX1_init 33 = .ok (.anewarray 22, 3) := dz_189 (bX1_init_2 1 _ rfl) (bX1_init_2 2 _ rfl) (bX1_init_2 3 _ rfl)
theorem dX1_init_36 : decode cX1_init 36 = .ok (.putfield 24, 3) := dz_181 (bX1_init_2 4 _ rfl) (bX1_init_2 5 _ rfl) (bX1_init_2 6 _ rfl)
theorem dX1_init_39 : decode cX1_init 39 = .ok (.aload_n 0, 1) := dz_42 (bX1_init_2 7 _ rfl)
theorem dX1_init_40 : decode cX1_init 40 = .ok (.bipush 100, 2) := dz_16 (bX1_init_2 8 _ rfl) (bX1_init_2 9 _ rfl)
theorem dX1_init_42 : decode cX1_init 42 = .ok (.newarray .int, 2) := dz_188_10 (bX1_init_2 10 _ rfl) (bX1_init_2 11 _ rfl)
theorem dX1_init_44 : decode cX1_init 44 = .ok (.putfield 28, 3) := dz_181 (bX1_init_2 12 _ rfl) (bX1_init_2 13 _ rfl) (bX1_init_2 14 _ rfl)
theorem dX1_init_47 : decode cX1_init 47 = .ok (.aload_n 0, 1) := dz_42 (bX1_init_2 15 _ rfl)
theorem dX1_init_48 : decode cX1_init 48 = .ok (.bipush 100, 2) := dz_16 (bX1_init_3 0 _ rfl) (bX1_init_3 1 _ rfl)
theorem dX1_init_50 : decode cX1_init 50 = .ok (.newarray .int, 2) := dz_188_10 (bX1_init_3 2 _ rfl) (bX1_init_3 3 _ rfl)
theorem dX1_init_52 : decode cX1_init 52 = .ok (.putfield 32, 3) := dz_181 (bX1_init_3 4 _ rfl) (bX1_init_3 5 _ rfl) (bX1_init_3 6 _ rfl)
theorem dX1_init_55 : decode cX1_init 55 = .ok (.aload_n 0, 1) := dz_42 (bX1_init_3 7 _ rfl)
theorem dX1_init_56 : decode cX1_init 56 = .ok (.sipush 300, 3) := dz_17 (bX1_init_3 8 _ rfl) (bX1_init_3 9 _ rfl) (bX1_init_3 10 _ rfl)
theorem dX1_init_59 : decode cX1_init 59 = .ok (.newarray .int, 2) := dz_188_10 (bX1_init_3 11 _ rfl) (bX1_init_3 12 _ rfl)
theorem dX1_init_61 : decode cX1_init 61 = .ok (.putfield 35, 3) := dz_181 (bX1_init_3 13 _ rfl) (bX1_init_3 14 _ rfl) (bX1_init_3 15 _ rfl)
theorem dX1_init_64 : decode cX1_init 64 = .ok (.aload_n 0, 1) := dz_42 (bX1_init_4 0 _ rfl)
theorem dX1_init_65 : decode cX1_init 65 = .ok (.sipush 500, 3) := dz_17 (bX1_init_4 1 _ rfl) (bX1_init_4 2 _ rfl) (bX1_init_4 3 _ rfl)
theorem dX1_init_68 : decode cX1_init 68 = .ok (.newarray .int, 2) := dz_188_10 (bX1_init_4 4 _ rfl) (bX1_init_4 5 _ rfl)
theorem dX1_init_70 : decode cX1_init 70 = .ok (.putfield 38, 3) := dz_181 (bX1_init_4 6 _ rfl) (bX1_init_4 7 _ rfl) (bX1_init_4 8 _ rfl)
theorem dX1_init_73 : decode cX1_init 73 = .ok (.aload_n 0, 1) := dz_42 (bX1_init_4 9 _ rfl)
theorem dX1_init_74 : decode cX1_init 74 = .ok (.new 41, 3) := dz_187 (bX1_init_4 10 _ rfl) (bX1_init_4 11 _ rfl) (bX1_init_4 12 _ rfl)
theorem dX1_init_77 : decode cX1_init 77 = .ok (.dup, 1) := dz_89 (bX1_init_4 13 _ rfl)
theorem dX1_init_78 : decode cX1_init 78 = .ok (.invokespecial 43, 3) := dz_183 (bX1_init_4 14 _ rfl) (bX1_init_4 15 _ rfl) (bX1_init_5 0 _ rfl)
theorem dX1_init_81 : decode cX1_init 81 = .ok (.putfield 44, 3) := dz_181 (bX1_init_5 1 _ rfl) (bX1_init_5 2 _ rfl) (bX1_init_5 3 _ rfl)
theorem dX1_init_84 : decode cX1_init 84 = .ok (.return_, 1) := dz_177 (bX1_init_5 4 _ rfl)
def c_X1_init (g : State) (t0 : Nat)  (w : ch_W) : Option (ch_W) := (ch_nA w 24 11600).bind fun w1 => (ch_pR w1 (some t0) 2 fX1_heap (some (ch_nx w))).bind fun w2 => (ch_nA w2 24 11600).bind fun w3 => (ch_pR w3 (some t0) 2 fX1_other (some (ch_nx w2))).bind fun w4 => (ch_nA w4 24 160000).bind fun w5 => (ch_pR w5 (some t0) 2 fX1_pile (some (ch_nx w4))).bind fun w6 => (ch_nA w6 26 100).bind fun w7 => (ch_pR w7 (some t0) 2 fX1_methods (some (ch_nx w6))).bind fun w8 => (ch_nA w8 21 100).bind fun w9 => (ch_pR w9 (some t0) 2 fX1_places (some (ch_nx w8))).bind fun w10 => (ch_nA w10 21 100).bind fun w11 => (ch_pR w11 (some t0) 2 fX1_bases (some (ch_nx w10))).bind fun w12 => (ch_nA w12 21 300).bind fun w13 => (ch_pR w13 (some t0) 2 fX1_given (some (ch_nx w12))).bind fun w14 => (ch_nA w14 21 500).bind fun w15 => (ch_pR w15 (some t0) 2 fX1_outputs (some (ch_nx w14))).bind fun w16 => (ch_nO w16 3 7).bind fun w17 => (c_X2_init g (ch_nx w16) w17).bind fun p18 => (ch_pR p18 (some t0) 2 fX1_flying (some (ch_nx w16))).bind fun w20 => some (w20)
theorem s_X1_init {g : State} {t0 : Nat} {w : ch_W} {res : ch_W} {Q : Outcome → ch_W → Prop} (h : c_X1_init g t0 w = some res) (hk : (ch_eV Q) res) : ch_CT g true yX1_init 7 [.ref t0] (w) Q := by
  unfold c_X1_init at h
  refine ch_ctL mX1_init (ls := [some (va_rf (some t0))]) q240 rfl (ch_lyr (r := some t0) ch_ly0) (Nat.le_of_ble_eq_true rfl) rfl ?_
  refine ch_aload_n 0 (some t0) dX1_init_0 rfl (ch_objInit (some t0) rfl dX1_init_1 q241 q234 q235 (Nat.le_of_ble_eq_true rfl) (Nat.le_of_ble_eq_true rfl) (ch_aload_n 0 (some t0) dX1_init_4 rfl (ch_sipush _ 11600 dX1_init_5 rfl (cp_newA (t := 24) (ty := .long) dX1_init_8 rfl rfl (Nat.le_of_ble_eq_true rfl) rfl (Nat.le_of_ble_eq_true rfl) q313 h (fun w1 h => ?_)))))
  refine cp_pR (ci := 1) (k := 2) dX1_init_10 fl_X1_9 rfl rfl rfl h (fun w2 h => ?_)
  refine ch_aload_n 0 (some t0) dX1_init_13 rfl (ch_sipush _ 11600 dX1_init_14 rfl (cp_newA (t := 24) (ty := .long) dX1_init_17 rfl rfl (Nat.le_of_ble_eq_true rfl) rfl (Nat.le_of_ble_eq_true rfl) q313 h (fun w3 h => ?_)))
  refine cp_pR (ci := 1) (k := 3) dX1_init_19 fl_X1_15 rfl rfl rfl h (fun w4 h => ?_)
  refine ch_aload_n 0 (some t0) dX1_init_22 rfl (ch_ldc 18 160000 dX1_init_23 q242 (cp_newA (t := 24) (ty := .long) dX1_init_25 rfl rfl (Nat.le_of_ble_eq_true rfl) rfl (Nat.le_of_ble_eq_true rfl) q313 h (fun w5 h => ?_)))
  refine cp_pR (ci := 1) (k := 5) dX1_init_27 fl_X1_19 rfl rfl rfl h (fun w6 h => ?_)
  refine ch_aload_n 0 (some t0) dX1_init_30 rfl (ch_bipush _ 100 dX1_init_31 rfl (cp_newR (t := 26) (C := "ClassHouse$Member") dX1_init_33 rfl (Nat.le_of_ble_eq_true rfl) q243 q244 h (fun w7 h => ?_)))
  refine cp_pR (ci := 1) (k := 7) dX1_init_36 fl_X1_24 rfl rfl rfl h (fun w8 h => ?_)
  refine ch_aload_n 0 (some t0) dX1_init_39 rfl (ch_bipush _ 100 dX1_init_40 rfl (cp_newA (t := 21) (ty := .int) dX1_init_42 rfl rfl (Nat.le_of_ble_eq_true rfl) rfl (Nat.le_of_ble_eq_true rfl) q314 h (fun w9 h => ?_)))
  refine cp_pR (ci := 1) (k := 8) dX1_init_44 fl_X1_28 rfl rfl rfl h (fun w10 h => ?_)
  refine ch_aload_n 0 (some t0) dX1_init_47 rfl (ch_bipush _ 100 dX1_init_48 rfl (cp_newA (t := 21) (ty := .int) dX1_init_50 rfl rfl (Nat.le_of_ble_eq_true rfl) rfl (Nat.le_of_ble_eq_true rfl) q314 h (fun w11 h => ?_)))
  refine cp_pR (ci := 1) (k := 9) dX1_init_52 fl_X1_32 rfl rfl rfl h (fun w12 h => ?_)
  refine ch_aload_n 0 (some t0) dX1_init_55 rfl (ch_sipush _ 300 dX1_init_56 rfl (cp_newA (t := 21) (ty := .int) dX1_init_59 rfl rfl (Nat.le_of_ble_eq_true rfl) rfl (Nat.le_of_ble_eq_true rfl) q314 h (fun w13 h => ?_)))
  refine cp_pR (ci := 1) (k := 11) dX1_init_61 fl_X1_35 rfl rfl rfl h (fun w14 h => ?_)
  refine ch_aload_n 0 (some t0) dX1_init_64 rfl (ch_sipush _ 500 dX1_init_65 rfl (cp_newA (t := 21) (ty := .int) dX1_init_68 rfl rfl (Nat.le_of_ble_eq_true rfl) rfl (Nat.le_of_ble_eq_true rfl) q314 h (fun w15 h => ?_)))
  refine cp_pR (ci := 1) (k := 14) dX1_init_70 fl_X1_38 rfl rfl rfl h (fun w16 h => ?_)
  refine ch_aload_n 0 (some t0) dX1_init_73 rfl (cp_new (ci := 2) (n := 7) (q := (RX2, TX2, 7)) dX1_init_74 rfl q245 q246 q205 h (fun w17 h => ?_))
  obtain ⟨p18, hp19, h⟩ := ch_bd h
  refine ch_dup dX1_init_77 (ch_cat _) (ch_iiN yX2_init prog_11_method_1_code 1 (b := (ch_nx w16)) (d' := 6) (av := []) (rest := [va_rf (some (ch_nx w16)), va_rf (some t0)]) rfl dX1_init_78 rfl q286 q287 q288 can_X2_init (Nat.le_of_ble_eq_true rfl) (ch_hw (Nat.le_of_ble_eq_true rfl)) (cp_kV (w1 := p18) (fun Q' hq => s_X2_init hp19 hq) ?_))
  refine cp_pR (ci := 1) (k := 21) dX1_init_81 fl_X1_44 rfl rfl rfl h (fun w20 h => ?_)
  obtain rfl := Option.some.inj h
  exact ch_return dX1_init_84 rfl hk

theorem bX0_init_0 : ch_ck cX0_init 0 [42, 183, 0, 1, 42, 17, 11, 184, 188, 8, 181, 0, 9, 42, 17, 3] := ch_ckof (by decide +kernel)
theorem bX0_init_1 : ch_ck cX0_init 16 [232, 181, 0, 13, 42, 187, 0, 17, 89, 183, 0, 19, 181, 0, 20, 177] := ch_ckof (by decide +kernel)
theorem dX0_init_0 : decode cX0_init 0 = .ok (.aload_n 0, 1) := dz_42 (bX0_init_0 0 _ rfl)
theorem dX0_init_1 : decode cX0_init 1 = .ok (.invokespecial 1, 3) := dz_183 (bX0_init_0 1 _ rfl) (bX0_init_0 2 _ rfl) (bX0_init_0 3 _ rfl)
theorem dX0_init_4 : decode cX0_init 4 = .ok (.aload_n 0, 1) := dz_42 (bX0_init_0 4 _ rfl)
theorem dX0_init_5 : decode cX0_init 5 = .ok (.sipush 3000, 3) := dz_17 (bX0_init_0 5 _ rfl) (bX0_init_0 6 _ rfl) (bX0_init_0 7 _ rfl)
theorem dX0_init_8 : decode cX0_init 8 = .ok (.newarray .byte, 2) := dz_188_8 (bX0_init_0 8 _ rfl) (bX0_init_0 9 _ rfl)
theorem dX0_init_10 : decode cX0_init 10 = .ok (.putfield 9, 3) := dz_181 (bX0_init_0 10 _ rfl) (bX0_init_0 11 _ rfl) (bX0_init_0 12 _ rfl)
theorem dX0_init_13 : decode cX0_init 13 = .ok (.aload_n 0, 1) := dz_42 (bX0_init_0 13 _ rfl)
theorem dX0_init_14 : decode cX0_init 14 = .ok (.sipush 1000, 3) := dz_17 (bX0_init_0 14 _ rfl) (bX0_init_0 15 _ rfl) (bX0_init_1 0 _ rfl)
theorem dX0_init_17 : decode cX0_init 17 = .ok (.putfield 13, 3) := dz_181 (bX0_init_1 1 _ rfl) (bX0_init_1 2 _ rfl) (bX0_init_1 3 _ rfl)
theorem dX0_init_20 : decode cX0_init 20 = .ok (.aload_n 0, 1) := dz_42 (bX0_init_1 4 _ rfl)
theorem dX0_init_21 : decode cX0_init 21 = .ok (.new 17, 3) := dz_187 (bX0_init_1 5 _ rfl) (bX0_init_1 6 _ rfl) (bX0_init_1 7 _ rfl)
theorem dX0_init_24 : decode cX0_init 24 = .ok (.dup, 1) := dz_89 (bX0_init_1 8 _ rfl)
theorem dX0_init_25 : decode cX0_init 25 = .ok (.invokespecial 19, 3) := dz_183 (bX0_init_1 9 _ rfl) (bX0_init_1 10 _ rfl) (bX0_init_1 11 _ rfl)
theorem dX0_init_28 : decode cX0_init 28 = .ok (.putfield 20, 3) := dz_181 (bX0_init_1 12 _ rfl) (bX0_init_1 13 _ rfl) (bX0_init_1 14 _ rfl)
theorem dX0_init_31 : decode cX0_init 31 = .ok (.return_, 1) := dz_177 (bX0_init_1 15 _ rfl)
def c_X0_init (g : State) (t0 : Nat)  (w : ch_W) : Option (ch_W) := (ch_nA w 22 3000).bind fun w1 => (ch_pR w1 (some t0) 1 fX0_tape (some (ch_nx w))).bind fun w2 => (ch_pI w2 (some t0) 1 fX0_cells 1000).bind fun w3 => (ch_nO w3 2 22).bind fun w4 => (c_X1_init g (ch_nx w3) w4).bind fun p5 => (ch_pR p5 (some t0) 1 fX0_machine (some (ch_nx w3))).bind fun w7 => some (w7)
theorem s_X0_init {g : State} {t0 : Nat} {w : ch_W} {res : ch_W} {Q : Outcome → ch_W → Prop} (h : c_X0_init g t0 w = some res) (hk : (ch_eV Q) res) : ch_CT g true yX0_init 8 [.ref t0] (w) Q := by
  unfold c_X0_init at h
  refine ch_ctL mX0_init (ls := [some (va_rf (some t0))]) q232 rfl (ch_lyr (r := some t0) ch_ly0) (Nat.le_of_ble_eq_true rfl) rfl ?_
  refine ch_aload_n 0 (some t0) dX0_init_0 rfl (ch_objInit (some t0) rfl dX0_init_1 q233 q234 q235 (Nat.le_of_ble_eq_true rfl) (Nat.le_of_ble_eq_true rfl) (ch_aload_n 0 (some t0) dX0_init_4 rfl (ch_sipush _ 3000 dX0_init_5 rfl (cp_newA (t := 22) (ty := .byte) dX0_init_8 rfl rfl (Nat.le_of_ble_eq_true rfl) rfl (Nat.le_of_ble_eq_true rfl) q312 h (fun w1 h => ?_)))))
  refine cp_pR (ci := 0) (k := 0) dX0_init_10 fl_X0_9 rfl rfl rfl h (fun w2 h => ?_)
  refine ch_aload_n 0 (some t0) dX0_init_13 rfl (ch_sipush _ 1000 dX0_init_14 rfl (cp_pI (ci := 0) (k := 4) dX0_init_17 fl_X0_13 rfl rfl rfl h (fun w3 h => ?_)))
  refine ch_aload_n 0 (some t0) dX0_init_20 rfl (cp_new (ci := 1) (n := 22) (q := (RX1, TX1, 22)) dX0_init_21 rfl q236 q237 q201 h (fun w4 h => ?_))
  obtain ⟨p5, hp6, h⟩ := ch_bd h
  refine ch_dup dX0_init_24 (ch_cat _) (ch_iiN yX1_init prog_5_method_1_code 1 (b := (ch_nx w3)) (d' := 7) (av := []) (rest := [va_rf (some (ch_nx w3)), va_rf (some t0)]) rfl dX0_init_25 rfl q238 q239 q240 can_X1_init (Nat.le_of_ble_eq_true rfl) (ch_hw (Nat.le_of_ble_eq_true rfl)) (cp_kV (w1 := p5) (fun Q' hq => s_X1_init hp6 hq) ?_))
  refine cp_pR (ci := 0) (k := 5) dX0_init_28 fl_X0_20 rfl rfl rfl h (fun w7 h => ?_)
  obtain rfl := Option.some.inj h
  exact ch_return dX0_init_31 rfl hk

theorem bX0_put_0 : ch_ck cX0_put 0 [16, 24, 61, 28, 155, 0, 32, 42, 180, 0, 9, 42, 180, 0, 24, 27] := ch_ckof (by decide +kernel)
theorem bX0_put_1 : ch_ck cX0_put 16 [28, 122, 145, 84, 42, 89, 180, 0, 24, 4, 96, 181, 0, 24, 132, 2] := ch_ckof (by decide +kernel)
theorem bX0_put_2 : ch_ck cX0_put 32 [248, 167, 255, 226, 177] := ch_ckof (by decide +kernel)
theorem dX0_put_0 : decode cX0_put 0 = .ok (.bipush 24, 2) := dz_16 (bX0_put_0 0 _ rfl) (bX0_put_0 1 _ rfl)
theorem dX0_put_2 : decode cX0_put 2 = .ok (.istore_n 2, 1) := dz_61 (bX0_put_0 2 _ rfl)
theorem dX0_put_3 : decode cX0_put 3 = .ok (.iload_n 2, 1) := dz_28 (bX0_put_0 3 _ rfl)
theorem dX0_put_4 : decode cX0_put 4 = .ok (.ifCond .lt 32, 3) := dz_155 (bX0_put_0 4 _ rfl) (bX0_put_0 5 _ rfl) (bX0_put_0 6 _ rfl)
theorem dX0_put_7 : decode cX0_put 7 = .ok (.aload_n 0, 1) := dz_42 (bX0_put_0 7 _ rfl)
theorem dX0_put_8 : decode cX0_put 8 = .ok (.getfield 9, 3) := dz_180 (bX0_put_0 8 _ rfl) (bX0_put_0 9 _ rfl) (bX0_put_0 10 _ rfl)
theorem dX0_put_11 : decode cX0_put 11 = .ok (.aload_n 0, 1) := dz_42 (bX0_put_0 11 _ rfl)
theorem dX0_put_12 : decode cX0_put 12 = .ok (.getfield 24, 3) := dz_180 (bX0_put_0 12 _ rfl) (bX0_put_0 13 _ rfl) (bX0_put_0 14 _ rfl)
theorem dX0_put_15 : decode cX0_put 15 = .ok (.iload_n 1, 1) := dz_27 (bX0_put_0 15 _ rfl)
theorem dX0_put_16 : decode cX0_put 16 = .ok (.iload_n 2, 1) := dz_28 (bX0_put_1 0 _ rfl)
theorem dX0_put_17 : decode cX0_put 17 = .ok (.ishr, 1) := dz_122 (bX0_put_1 1 _ rfl)
theorem dX0_put_18 : decode cX0_put 18 = .ok (.i2b, 1) := dz_145 (bX0_put_1 2 _ rfl)
theorem dX0_put_19 : decode cX0_put 19 = .ok (.bastore, 1) := dz_84 (bX0_put_1 3 _ rfl)
theorem dX0_put_20 : decode cX0_put 20 = .ok (.aload_n 0, 1) := dz_42 (bX0_put_1 4 _ rfl)
theorem dX0_put_21 : decode cX0_put 21 = .ok (.dup, 1) := dz_89 (bX0_put_1 5 _ rfl)
theorem dX0_put_22 : decode cX0_put 22 = .ok (.getfield 24, 3) := dz_180 (bX0_put_1 6 _ rfl) (bX0_put_1 7 _ rfl) (bX0_put_1 8 _ rfl)
theorem dX0_put_25 : decode cX0_put 25 = .ok (.iconst 1, 1) := dz_4 (bX0_put_1 9 _ rfl)
theorem dX0_put_26 : decode cX0_put 26 = .ok (.iadd, 1) := dz_96 (bX0_put_1 10 _ rfl)
theorem dX0_put_27 : decode cX0_put 27 = .ok (.putfield 24, 3) := dz_181 (bX0_put_1 11 _ rfl) (bX0_put_1 12 _ rfl) (bX0_put_1 13 _ rfl)
theorem dX0_put_30 : decode cX0_put 30 = .ok (.iinc 2 (-8), 3) := dz_132 (bX0_put_1 14 _ rfl) (bX0_put_1 15 _ rfl) (bX0_put_2 0 _ rfl)
theorem dX0_put_33 : decode cX0_put 33 = .ok (.goto (-30), 3) := dz_167 (bX0_put_2 1 _ rfl) (bX0_put_2 2 _ rfl) (bX0_put_2 3 _ rfl)
theorem dX0_put_36 : decode cX0_put 36 = .ok (.return_, 1) := dz_177 (bX0_put_2 4 _ rfl)
def c_X0_put_3 (t0 : Nat) (x1 : Int32) (x2 : Int32)  (w : ch_W) : Option ((Int32 × ch_W) ⊕ (ch_W)) := if x2 < 0 then (some (.inr (w))) else ((ch_gR w (some t0) 1 fX0_tape).bind fun v1 => (ch_gI w (some t0) 1 fX0_fed).bind fun v2 => (ch_wI w v1 22 v2 (Int32.toInt8 ((Int32.toInt8 (x1 >>> (x2 &&& 31))).toInt32)).toInt32).bind fun w3 => (ch_gI w3 (some t0) 1 fX0_fed).bind fun v4 => (ch_pI w3 (some t0) 1 fX0_fed (v4 + 1)).bind fun w5 => some (.inl (x2 + (-8), w5)))
theorem s_X0_put_3 {g : State} {t0 : Nat} {x1 : Int32} {x2 : Int32} {w : ch_W} {res : (Int32 × ch_W) ⊕ (ch_W)} {Q : Outcome → ch_W → Prop} (h : c_X0_put_3 t0 x1 x2 w = some res) (hk : (ch_sm (fun s => ch_FT g true mX0_put 2 3 [some (va_rf (some t0)), some (.int x1), some (.int s.1)] [] (s.2) Q) (ch_eV Q)) res) : ch_FT g true mX0_put 2 3 [some (va_rf (some t0)), some (.int x1), some (.int x2)] [] (w) Q := by
  unfold c_X0_put_3 at h
  refine ch_iload_n 2 _ dX0_put_3 rfl (cp_if_lt _ (tgt := 36) dX0_put_4 rfl h (fun h => ?_) (fun h => ?_))
  · obtain rfl := Option.some.inj h
    exact ch_return dX0_put_36 rfl hk
  · refine ch_aload_n 0 (some t0) dX0_put_7 rfl (cp_gR (ci := 0) (k := 0) dX0_put_8 fl_X0_9 rfl h (fun v1 h => ?_))
    refine ch_aload_n 0 (some t0) dX0_put_11 rfl (cp_gI (ci := 0) (k := 1) dX0_put_12 fl_X0_24 rfl h (fun v2 h => ?_))
    refine ch_iload_n 1 _ dX0_put_15 rfl (ch_iload_n 2 _ dX0_put_16 rfl (ch_ishr _ _ dX0_put_17 (ch_i2b _ dX0_put_18 (cp_bast (t := 22) dX0_put_19 rfl (Nat.le_of_ble_eq_true rfl) rfl h (fun w3 h => ?_)))))
    refine ch_aload_n 0 (some t0) dX0_put_20 rfl (ch_dup dX0_put_21 (ch_cat _) (cp_gI (ci := 0) (k := 1) dX0_put_22 fl_X0_24 rfl h (fun v4 h => ?_)))
    refine ch_iconst _ 1 dX0_put_25 rfl (ch_iadd _ _ dX0_put_26 (cp_pI (ci := 0) (k := 1) dX0_put_27 fl_X0_24 rfl rfl rfl h (fun w5 h => ?_)))
    refine ch_iinc 2 _ _ (x2 + (-8)) (ls1 := [some (va_rf (some t0)), some (.int x1), some (.int (x2 + (-8)))]) dX0_put_30 rfl rfl (Nat.le_of_ble_eq_true rfl) rfl (ch_goto 3 dX0_put_33 rfl (ch_FT.wk (ch_wS (ch_wS (ch_wS ch_w0))) ?_))
    obtain rfl := Option.some.inj h
    exact hk
theorem sl_X0_put_3 {g : State} {t0 : Nat} {x1 : Int32} {a : Int32 × ch_W} {res : ch_W} {Q : Outcome → ch_W → Prop} (h : ch_loop (fun (s : Int32 × ch_W) => c_X0_put_3 t0 x1 s.1 s.2) a = some res) (hk : (ch_eV Q) res) : ch_FT g true mX0_put 2 3 [some (va_rf (some t0)), some (.int x1), some (.int a.1)] [] (a.2) Q := by
  refine ch_loop_ind (fun (a : Int32 × ch_W) (r : ch_W) => (ch_eV Q) r → ch_FT g true mX0_put 2 3 [some (va_rf (some t0)), some (.int x1), some (.int a.1)] [] (a.2) Q) ?_ ?_ a res h hk
  · intro a a2 b h1 ih hk
    exact s_X0_put_3  h1 (ih hk)
  · intro a b h1 hk
    exact s_X0_put_3  h1 hk

def c_X0_put (t0 : Nat) (x1 : Int32) (w : ch_W) : Option (ch_W) := ch_loop (fun (s : Int32 × ch_W) => c_X0_put_3 t0 x1 s.1 s.2) (24, w)
theorem s_X0_put {g : State} {t0 : Nat} {x1 : Int32} {w : ch_W} {res : ch_W} {Q : Outcome → ch_W → Prop} (h : c_X0_put t0 x1 w = some res) (hk : (ch_eV Q) res) : ch_CT g true yX0_put 2 [.ref t0, .int x1] (w) Q := by
  unfold c_X0_put at h
  refine ch_ctL mX0_put (ls := [some (va_rf (some t0)), some (.int x1), none]) q422 rfl (ch_lyr (r := some t0) (ch_lyi ch_ly0)) (Nat.le_of_ble_eq_true rfl) rfl ?_
  exact ch_bipush _ 24 dX0_put_0 rfl (ch_istore_n 2 _ (ls1 := [some (va_rf (some t0)), some (.int x1), some (.int 24)]) dX0_put_2 (Nat.le_of_ble_eq_true rfl) rfl (ch_FT.wk (ch_wS (ch_wS (ch_wS ch_w0))) (sl_X0_put_3  h hk)))

theorem bX0_feed_0 : ch_ck cX0_feed 0 [42, 180, 0, 24, 16, 20, 96, 17, 11, 184, 164, 0, 5, 2, 172, 42] := ch_ckof (by decide +kernel)
theorem bX0_feed_1 : ch_ck cX0_feed 16 [27, 182, 0, 27, 42, 28, 182, 0, 27, 42, 29, 182, 0, 27, 42, 21] := ch_ckof (by decide +kernel)
theorem bX0_feed_2 : ch_ck cX0_feed 32 [4, 182, 0, 27, 42, 21, 5, 182, 0, 27, 42, 180, 0, 24, 172] := ch_ckof (by decide +kernel)
theorem dX0_feed_0 : decode cX0_feed 0 = .ok (.aload_n 0, 1) := dz_42 (bX0_feed_0 0 _ rfl)
theorem dX0_feed_1 : decode cX0_feed 1 = .ok (.getfield 24, 3) := dz_180 (bX0_feed_0 1 _ rfl) (bX0_feed_0 2 _ rfl) (bX0_feed_0 3 _ rfl)
theorem dX0_feed_4 : decode cX0_feed 4 = .ok (.bipush 20, 2) := dz_16 (bX0_feed_0 4 _ rfl) (bX0_feed_0 5 _ rfl)
theorem dX0_feed_6 : decode cX0_feed 6 = .ok (.iadd, 1) := dz_96 (bX0_feed_0 6 _ rfl)
theorem dX0_feed_7 : decode cX0_feed 7 = .ok (.sipush 3000, 3) := dz_17 (bX0_feed_0 7 _ rfl) (bX0_feed_0 8 _ rfl) (bX0_feed_0 9 _ rfl)
theorem dX0_feed_10 : decode cX0_feed 10 = .ok (.if_icmp .le 5, 3) := dz_164 (bX0_feed_0 10 _ rfl) (bX0_feed_0 11 _ rfl) (bX0_feed_0 12 _ rfl)
theorem dX0_feed_13 : decode cX0_feed 13 = .ok (.iconst (-1), 1) := dz_2 (bX0_feed_0 13 _ rfl)
theorem dX0_feed_14 : decode cX0_feed 14 = .ok (.ireturn, 1) := dz_172 (bX0_feed_0 14 _ rfl)
theorem dX0_feed_15 : decode cX0_feed 15 = .ok (.aload_n 0, 1) := dz_42 (bX0_feed_0 15 _ rfl)
theorem dX0_feed_16 : decode cX0_feed 16 = .ok (.iload_n 1, 1) := dz_27 (bX0_feed_1 0 _ rfl)
theorem dX0_feed_17 : decode cX0_feed 17 = .ok (.invokevirtual 27, 3) := dz_182 (bX0_feed_1 1 _ rfl) (bX0_feed_1 2 _ rfl) (bX0_feed_1 3 _ rfl)
theorem dX0_feed_20 : decode cX0_feed 20 = .ok (.aload_n 0, 1) := dz_42 (bX0_feed_1 4 _ rfl)
theorem dX0_feed_21 : decode cX0_feed 21 = .ok (.iload_n 2, 1) := dz_28 (bX0_feed_1 5 _ rfl)
theorem dX0_feed_22 : decode cX0_feed 22 = .ok (.invokevirtual 27, 3) := dz_182 (bX0_feed_1 6 _ rfl) (bX0_feed_1 7 _ rfl) (bX0_feed_1 8 _ rfl)
theorem dX0_feed_25 : decode cX0_feed 25 = .ok (.aload_n 0, 1) := dz_42 (bX0_feed_1 9 _ rfl)
theorem dX0_feed_26 : decode cX0_feed 26 = .ok (.iload_n 3, 1) := dz_29 (bX0_feed_1 10 _ rfl)
theorem dX0_feed_27 : decode cX0_feed 27 = .ok (.invokevirtual 27, 3) := dz_182 (bX0_feed_1 11 _ rfl) (bX0_feed_1 12 _ rfl) (bX0_feed_1 13 _ rfl)
theorem dX0_feed_30 : decode cX0_feed 30 = .ok (.aload_n 0, 1) := dz_42 (bX0_feed_1 14 _ rfl)
theorem dX0_feed_31 : decode cX0_feed 31 = .ok (.iload 4, 2) := dz_21 (bX0_feed_1 15 _ rfl) (bX0_feed_2 0 _ rfl)
theorem dX0_feed_33 : decode cX0_feed 33 = .ok (.invokevirtual 27, 3) := dz_182 (bX0_feed_2 1 _ rfl) (bX0_feed_2 2 _ rfl) (bX0_feed_2 3 _ rfl)
theorem dX0_feed_36 : decode cX0_feed 36 = .ok (.aload_n 0, 1) := dz_42 (bX0_feed_2 4 _ rfl)
theorem dX0_feed_37 : decode cX0_feed 37 = .ok (.iload 5, 2) := dz_21 (bX0_feed_2 5 _ rfl) (bX0_feed_2 6 _ rfl)
theorem dX0_feed_39 : decode cX0_feed 39 = .ok (.invokevirtual 27, 3) := dz_182 (bX0_feed_2 7 _ rfl) (bX0_feed_2 8 _ rfl) (bX0_feed_2 9 _ rfl)
theorem dX0_feed_42 : decode cX0_feed 42 = .ok (.aload_n 0, 1) := dz_42 (bX0_feed_2 10 _ rfl)
theorem dX0_feed_43 : decode cX0_feed 43 = .ok (.getfield 24, 3) := dz_180 (bX0_feed_2 11 _ rfl) (bX0_feed_2 12 _ rfl) (bX0_feed_2 13 _ rfl)
theorem dX0_feed_46 : decode cX0_feed 46 = .ok (.ireturn, 1) := dz_172 (bX0_feed_2 14 _ rfl)
def c_X0_feed (t0 : Nat) (x1 : Int32) (x2 : Int32) (x3 : Int32) (x4 : Int32) (x5 : Int32) (w : ch_W) : Option (Int32 × ch_W) := (ch_gI w (some t0) 1 fX0_fed).bind fun v1 => if 3000 < (v1 + 20) then (some (((-1), w))) else ((ch_rc w (some t0) 1).bind fun _ => (c_X0_put t0 x1 w).bind fun p3 => (ch_rc p3 (some t0) 1).bind fun _ => (c_X0_put t0 x2 p3).bind fun p6 => (ch_rc p6 (some t0) 1).bind fun _ => (c_X0_put t0 x3 p6).bind fun p9 => (ch_rc p9 (some t0) 1).bind fun _ => (c_X0_put t0 x4 p9).bind fun p12 => (ch_rc p12 (some t0) 1).bind fun _ => (c_X0_put t0 x5 p12).bind fun p15 => (ch_gI p15 (some t0) 1 fX0_fed).bind fun v17 => some ((v17, p15)))
theorem s_X0_feed {g : State} {t0 : Nat} {x1 : Int32} {x2 : Int32} {x3 : Int32} {x4 : Int32} {x5 : Int32} {w : ch_W} {res : Int32 × ch_W} {Q : Outcome → ch_W → Prop} (h : c_X0_feed t0 x1 x2 x3 x4 x5 w = some res) (hk : (ch_eI Q) res) : ch_CT g true yX0_feed 3 [.ref t0, .int x1, .int x2, .int x3, .int x4, .int x5] (w) Q := by
  unfold c_X0_feed at h
  refine ch_ctL mX0_feed (ls := [some (va_rf (some t0)), some (.int x1), some (.int x2), some (.int x3), some (.int x4), some (.int x5)]) q418 rfl (ch_lyr (r := some t0) (ch_lyi (ch_lyi (ch_lyi (ch_lyi (ch_lyi ch_ly0)))))) (Nat.le_of_ble_eq_true rfl) rfl ?_
  refine ch_aload_n 0 (some t0) dX0_feed_0 rfl (cp_gI (ci := 0) (k := 1) dX0_feed_1 fl_X0_24 rfl h (fun v1 h => ?_))
  refine ch_bipush _ 20 dX0_feed_4 rfl (ch_iadd _ _ dX0_feed_6 (ch_sipush _ 3000 dX0_feed_7 rfl (cp_icmp_le _ _ (tgt := 15) dX0_feed_10 rfl h (fun h => ?_) (fun h => ?_))))
  · obtain ⟨_, hb2, h⟩ := ch_bd h
    obtain ⟨p3, hp4, h⟩ := ch_bd h
    refine ch_aload_n 0 (some t0) dX0_feed_15 rfl (ch_iload_n 1 _ dX0_feed_16 rfl (ch_iv yX0_put prog_1_method_8_code 3 none (ci := 0) (q := (RX0, TX0, 7)) (b := t0) (d' := 2) (av := [.int x1]) (rest := []) rfl dX0_feed_17 q419 q421 rfl qs1 q422 can_X0_put (Nat.le_of_ble_eq_true rfl) (Nat.le_of_ble_eq_true rfl) (ch_rts hb2) (cp_kV (w1 := p3) (fun Q' hq => s_X0_put hp4 hq) ?_)))
    obtain ⟨_, hb5, h⟩ := ch_bd h
    obtain ⟨p6, hp7, h⟩ := ch_bd h
    refine ch_aload_n 0 (some t0) dX0_feed_20 rfl (ch_iload_n 2 _ dX0_feed_21 rfl (ch_iv yX0_put prog_1_method_8_code 3 none (ci := 0) (q := (RX0, TX0, 7)) (b := t0) (d' := 2) (av := [.int x2]) (rest := []) rfl dX0_feed_22 q419 q421 rfl qs1 q422 can_X0_put (Nat.le_of_ble_eq_true rfl) (Nat.le_of_ble_eq_true rfl) (ch_rts hb5) (cp_kV (w1 := p6) (fun Q' hq => s_X0_put hp7 hq) ?_)))
    obtain ⟨_, hb8, h⟩ := ch_bd h
    obtain ⟨p9, hp10, h⟩ := ch_bd h
    refine ch_aload_n 0 (some t0) dX0_feed_25 rfl (ch_iload_n 3 _ dX0_feed_26 rfl (ch_iv yX0_put prog_1_method_8_code 3 none (ci := 0) (q := (RX0, TX0, 7)) (b := t0) (d' := 2) (av := [.int x3]) (rest := []) rfl dX0_feed_27 q419 q421 rfl qs1 q422 can_X0_put (Nat.le_of_ble_eq_true rfl) (Nat.le_of_ble_eq_true rfl) (ch_rts hb8) (cp_kV (w1 := p9) (fun Q' hq => s_X0_put hp10 hq) ?_)))
    obtain ⟨_, hb11, h⟩ := ch_bd h
    obtain ⟨p12, hp13, h⟩ := ch_bd h
    refine ch_aload_n 0 (some t0) dX0_feed_30 rfl (ch_iload 4 _ dX0_feed_31 rfl (ch_iv yX0_put prog_1_method_8_code 3 none (ci := 0) (q := (RX0, TX0, 7)) (b := t0) (d' := 2) (av := [.int x4]) (rest := []) rfl dX0_feed_33 q419 q421 rfl qs1 q422 can_X0_put (Nat.le_of_ble_eq_true rfl) (Nat.le_of_ble_eq_true rfl) (ch_rts hb11) (cp_kV (w1 := p12) (fun Q' hq => s_X0_put hp13 hq) ?_)))
    obtain ⟨_, hb14, h⟩ := ch_bd h
    obtain ⟨p15, hp16, h⟩ := ch_bd h
    refine ch_aload_n 0 (some t0) dX0_feed_36 rfl (ch_iload 5 _ dX0_feed_37 rfl (ch_iv yX0_put prog_1_method_8_code 3 none (ci := 0) (q := (RX0, TX0, 7)) (b := t0) (d' := 2) (av := [.int x5]) (rest := []) rfl dX0_feed_39 q419 q421 rfl qs1 q422 can_X0_put (Nat.le_of_ble_eq_true rfl) (Nat.le_of_ble_eq_true rfl) (ch_rts hb14) (cp_kV (w1 := p15) (fun Q' hq => s_X0_put hp16 hq) ?_)))
    refine ch_aload_n 0 (some t0) dX0_feed_42 rfl (cp_gI (ci := 0) (k := 1) dX0_feed_43 fl_X0_24 rfl h (fun v17 h => ?_))
    obtain rfl := Option.some.inj h
    exact ch_ireturn _ dX0_feed_46 rfl rfl hk
  · obtain rfl := Option.some.inj h
    exact ch_iconst _ (-1) dX0_feed_13 rfl (ch_ireturn _ dX0_feed_14 rfl rfl hk)

theorem bX0_end_0 : ch_ck cX0_end 0 [27, 155, 0, 11, 27, 42, 180, 0, 24, 164, 0, 5, 2, 172, 42, 27] := ch_ckof (by decide +kernel)
theorem bX0_end_1 : ch_ck cX0_end 16 [181, 0, 24, 27, 172] := ch_ckof (by decide +kernel)
theorem dX0_end_0 : decode cX0_end 0 = .ok (.iload_n 1, 1) := dz_27 (bX0_end_0 0 _ rfl)
theorem dX0_end_1 : decode cX0_end 1 = .ok (.ifCond .lt 11, 3) := dz_155 (bX0_end_0 1 _ rfl) (bX0_end_0 2 _ rfl) (bX0_end_0 3 _ rfl)
theorem dX0_end_4 : decode cX0_end 4 = .ok (.iload_n 1, 1) := dz_27 (bX0_end_0 4 _ rfl)
theorem dX0_end_5 : decode cX0_end 5 = .ok (.aload_n 0, 1) := dz_42 (bX0_end_0 5 _ rfl)
theorem dX0_end_6 : decode cX0_end 6 = .ok (.getfield 24, 3) := dz_180 (bX0_end_0 6 _ rfl) (bX0_end_0 7 _ rfl) (bX0_end_0 8 _ rfl)
theorem dX0_end_9 : decode cX0_end 9 = .ok (.if_icmp .le 5, 3) := dz_164 (bX0_end_0 9 _ rfl) (bX0_end_0 10 _ rfl) (bX0_end_0 11 _ rfl)
theorem dX0_end_12 : decode cX0_end 12 = .ok (.iconst (-1), 1) := dz_2 (bX0_end_0 12 _ rfl)
theorem dX0_end_13 : decode cX0_end 13 = .ok (.ireturn, 1) := dz_172 (bX0_end_0 13 _ rfl)
theorem dX0_end_14 : decode cX0_end 14 = .ok (.aload_n 0, 1) := dz_42 (bX0_end_0 14 _ rfl)
theorem dX0_end_15 : decode cX0_end 15 = .ok (.iload_n 1, 1) := dz_27 (bX0_end_0 15 _ rfl)
theorem dX0_end_16 : decode cX0_end 16 = .ok (.putfield 24, 3) := dz_181 (bX0_end_1 0 _ rfl) (bX0_end_1 1 _ rfl) (bX0_end_1 2 _ rfl)
theorem dX0_end_19 : decode cX0_end 19 = .ok (.iload_n 1, 1) := dz_27 (bX0_end_1 3 _ rfl)
theorem dX0_end_20 : decode cX0_end 20 = .ok (.ireturn, 1) := dz_172 (bX0_end_1 4 _ rfl)
def c_X0_end (t0 : Nat) (x1 : Int32) (w : ch_W) : Option (Int32 × ch_W) := if x1 < 0 then (some (((-1), w))) else ((ch_gI w (some t0) 1 fX0_fed).bind fun v1 => if v1 < x1 then (some (((-1), w))) else ((ch_pI w (some t0) 1 fX0_fed x1).bind fun w2 => some ((x1, w2))))
theorem s_X0_end {g : State} {t0 : Nat} {x1 : Int32} {w : ch_W} {res : Int32 × ch_W} {Q : Outcome → ch_W → Prop} (h : c_X0_end t0 x1 w = some res) (hk : (ch_eI Q) res) : ch_CT g true yX0_end 2 [.ref t0, .int x1] (w) Q := by
  unfold c_X0_end at h
  refine ch_ctL mX0_end (ls := [some (va_rf (some t0)), some (.int x1)]) q426 rfl (ch_lyr (r := some t0) (ch_lyi ch_ly0)) (Nat.le_of_ble_eq_true rfl) rfl ?_
  refine ch_iload_n 1 _ dX0_end_0 rfl (cp_if_lt _ (tgt := 12) dX0_end_1 rfl h (fun h => ?_) (fun h => ?_))
  · obtain rfl := Option.some.inj h
    exact ch_iconst _ (-1) dX0_end_12 rfl (ch_ireturn _ dX0_end_13 rfl rfl hk)
  · refine ch_iload_n 1 _ dX0_end_4 rfl (ch_aload_n 0 (some t0) dX0_end_5 rfl (cp_gI (ci := 0) (k := 1) dX0_end_6 fl_X0_24 rfl h (fun v1 h => ?_)))
    refine cp_icmp_le _ _ (tgt := 14) dX0_end_9 rfl h (fun h => ?_) (fun h => ?_)
    · refine ch_aload_n 0 (some t0) dX0_end_14 rfl (ch_iload_n 1 _ dX0_end_15 rfl (cp_pI (ci := 0) (k := 1) dX0_end_16 fl_X0_24 rfl rfl rfl h (fun w2 h => ?_)))
      obtain rfl := Option.some.inj h
      exact ch_iload_n 1 _ dX0_end_19 rfl (ch_ireturn _ dX0_end_20 rfl rfl hk)
    · obtain rfl := Option.some.inj h
      exact ch_iconst _ (-1) dX0_end_12 rfl (ch_ireturn _ dX0_end_13 rfl rfl hk)

theorem bX4_init_0 : ch_ck cX4_init 0 [42, 183, 0, 3, 42, 187, 0, 9, 89, 183, 0, 11, 181, 0, 12, 42] := ch_ckof (by decide +kernel)
theorem bX4_init_1 : ch_ck cX4_init 16 [187, 0, 9, 89, 183, 0, 11, 181, 0, 18, 42, 43, 181, 0, 21, 42] := ch_ckof (by decide +kernel)
theorem bX4_init_2 : ch_ck cX4_init 32 [28, 181, 0, 25, 177] := ch_ckof (by decide +kernel)
theorem dX4_init_0 : decode cX4_init 0 = .ok (.aload_n 0, 1) := dz_42 (bX4_init_0 0 _ rfl)
theorem dX4_init_1 : decode cX4_init 1 = .ok (.invokespecial 3, 3) := dz_183 (bX4_init_0 1 _ rfl) (bX4_init_0 2 _ rfl) (bX4_init_0 3 _ rfl)
theorem dX4_init_4 : decode cX4_init 4 = .ok (.aload_n 0, 1) := dz_42 (bX4_init_0 4 _ rfl)
theorem dX4_init_5 : decode cX4_init 5 = .ok (.new 9, 3) := dz_187 (bX4_init_0 5 _ rfl) (bX4_init_0 6 _ rfl) (bX4_init_0 7 _ rfl)
theorem dX4_init_8 : decode cX4_init 8 = .ok (.dup, 1) := dz_89 (bX4_init_0 8 _ rfl)
theorem dX4_init_9 : decode cX4_init 9 = .ok (.invokespecial 11, 3) := dz_183 (bX4_init_0 9 _ rfl) (bX4_init_0 10 _ rfl) (bX4_init_0 11 _ rfl)
theorem dX4_init_12 : decode cX4_init 12 = .ok (.putfield 12, 3) := dz_181 (bX4_init_0 12 _ rfl) (bX4_init_0 13 _ rfl) (bX4_init_0 14 _ rfl)
theorem dX4_init_15 : decode cX4_init 15 = .ok (.aload_n 0, 1) := dz_42 (bX4_init_0 15 _ rfl)
theorem dX4_init_16 : decode cX4_init 16 = .ok (.new 9, 3) := dz_187 (bX4_init_1 0 _ rfl) (bX4_init_1 1 _ rfl) (bX4_init_1 2 _ rfl)
theorem dX4_init_19 : decode cX4_init 19 = .ok (.dup, 1) := dz_89 (bX4_init_1 3 _ rfl)
theorem dX4_init_20 : decode cX4_init 20 = .ok (.invokespecial 11, 3) := dz_183 (bX4_init_1 4 _ rfl) (bX4_init_1 5 _ rfl) (bX4_init_1 6 _ rfl)
theorem dX4_init_23 : decode cX4_init 23 = .ok (.putfield 18, 3) := dz_181 (bX4_init_1 7 _ rfl) (bX4_init_1 8 _ rfl) (bX4_init_1 9 _ rfl)
theorem dX4_init_26 : decode cX4_init 26 = .ok (.aload_n 0, 1) := dz_42 (bX4_init_1 10 _ rfl)
theorem dX4_init_27 : decode cX4_init 27 = .ok (.aload_n 1, 1) := dz_43 (bX4_init_1 11 _ rfl)
theorem dX4_init_28 : decode cX4_init 28 = .ok (.putfield 21, 3) := dz_181 (bX4_init_1 12 _ rfl) (bX4_init_1 13 _ rfl) (bX4_init_1 14 _ rfl)
theorem dX4_init_31 : decode cX4_init 31 = .ok (.aload_n 0, 1) := dz_42 (bX4_init_1 15 _ rfl)
theorem dX4_init_32 : decode cX4_init 32 = .ok (.iload_n 2, 1) := dz_28 (bX4_init_2 0 _ rfl)
theorem dX4_init_33 : decode cX4_init 33 = .ok (.putfield 25, 3) := dz_181 (bX4_init_2 1 _ rfl) (bX4_init_2 2 _ rfl) (bX4_init_2 3 _ rfl)
theorem dX4_init_36 : decode cX4_init 36 = .ok (.return_, 1) := dz_177 (bX4_init_2 4 _ rfl)
def c_X4_init (g : State) (t0 : Nat) (x1 : Option Nat) (x2 : Int32) (w : ch_W) : Option (ch_W) := (ch_nO w 14 3).bind fun w1 => (c_J5_init g (ch_nx w) w1).bind fun p2 => (ch_pR p2 (some t0) 5 fX4_names (some (ch_nx w))).bind fun w4 => (ch_nO w4 14 3).bind fun w5 => (c_J5_init g (ch_nx w4) w5).bind fun p6 => (ch_pR p6 (some t0) 5 fX4_kinds (some (ch_nx w4))).bind fun w8 => (ch_pR w8 (some t0) 5 fX4_s x1).bind fun w9 => (ch_pI w9 (some t0) 5 fX4_end x2).bind fun w10 => some (w10)
theorem s_X4_init {g : State} {t0 : Nat} {x1 : Option Nat} {x2 : Int32} {w : ch_W} {res : ch_W} {Q : Outcome → ch_W → Prop} (h : c_X4_init g t0 x1 x2 w = some res) (hk : (ch_eV Q) res) : ch_CT g true yX4_init 5 [.ref t0, va_rf x1, .int x2] (w) Q := by
  unfold c_X4_init at h
  refine ch_ctL mX4_init (ls := [some (va_rf (some t0)), some (va_rf x1), some (.int x2)]) q436 rfl (ch_lyr (r := some t0) (ch_lyr (r := x1) (ch_lyi ch_ly0))) (Nat.le_of_ble_eq_true rfl) rfl ?_
  refine ch_aload_n 0 (some t0) dX4_init_0 rfl (ch_objInit (some t0) rfl dX4_init_1 q437 q234 q235 (Nat.le_of_ble_eq_true rfl) (Nat.le_of_ble_eq_true rfl) (ch_aload_n 0 (some t0) dX4_init_4 rfl (cp_new (ci := 13) (n := 3) (q := (RJ5, TJ5, 3)) dX4_init_5 rfl q438 q439 q210 h (fun w1 h => ?_))))
  obtain ⟨p2, hp3, h⟩ := ch_bd h
  refine ch_dup dX4_init_8 (ch_cat _) (ch_ii yJ5_init prog_32_method_2_code 1 (b := (ch_nx w)) (d' := 4) (av := []) (rest := [va_rf (some (ch_nx w)), va_rf (some t0)]) rfl dX4_init_9 rfl q440 q441 q442 can_J5_init (Nat.le_of_ble_eq_true rfl) (ch_hw (Nat.le_of_ble_eq_true rfl)) (cp_kV (w1 := p2) (fun Q' hq => s_J5_init hp3 hq) ?_))
  refine cp_pR (ci := 4) (k := 6) dX4_init_12 fl_X4_12 rfl rfl rfl h (fun w4 h => ?_)
  refine ch_aload_n 0 (some t0) dX4_init_15 rfl (cp_new (ci := 13) (n := 3) (q := (RJ5, TJ5, 3)) dX4_init_16 rfl q438 q439 q210 h (fun w5 h => ?_))
  obtain ⟨p6, hp7, h⟩ := ch_bd h
  refine ch_dup dX4_init_19 (ch_cat _) (ch_ii yJ5_init prog_32_method_2_code 1 (b := (ch_nx w4)) (d' := 4) (av := []) (rest := [va_rf (some (ch_nx w4)), va_rf (some t0)]) rfl dX4_init_20 rfl q440 q441 q442 can_J5_init (Nat.le_of_ble_eq_true rfl) (ch_hw (Nat.le_of_ble_eq_true rfl)) (cp_kV (w1 := p6) (fun Q' hq => s_J5_init hp7 hq) ?_))
  refine cp_pR (ci := 4) (k := 7) dX4_init_23 fl_X4_18 rfl rfl rfl h (fun w8 h => ?_)
  refine ch_aload_n 0 (some t0) dX4_init_26 rfl (ch_aload_n 1 x1 dX4_init_27 rfl (cp_pR (ci := 4) (k := 0) dX4_init_28 fl_X4_21 rfl rfl rfl h (fun w9 h => ?_)))
  refine ch_aload_n 0 (some t0) dX4_init_31 rfl (ch_iload_n 2 _ dX4_init_32 rfl (cp_pI (ci := 4) (k := 1) dX4_init_33 fl_X4_25 rfl rfl rfl h (fun w10 h => ?_)))
  obtain rfl := Option.some.inj h
  exact ch_return dX4_init_36 rfl hk

theorem bX4_isLetter_0 : ch_ck cX4_isLetter 0 [26, 16, 97, 161, 0, 9, 26, 16, 122, 164, 0, 15, 26, 16, 65, 161] := ch_ckof (by decide +kernel)
theorem bX4_isLetter_1 : ch_ck cX4_isLetter 16 [0, 13, 26, 16, 90, 163, 0, 7, 4, 167, 0, 4, 3, 172] := ch_ckof (by decide +kernel)
theorem dX4_isLetter_0 : decode cX4_isLetter 0 = .ok (.iload_n 0, 1) := dz_26 (bX4_isLetter_0 0 _ rfl)
theorem dX4_isLetter_1 : decode cX4_isLetter 1 = .ok (.bipush 97, 2) := dz_16 (bX4_isLetter_0 1 _ rfl) (bX4_isLetter_0 2 _ rfl)
theorem dX4_isLetter_3 : decode cX4_isLetter 3 = .ok (.if_icmp .lt 9, 3) := dz_161 (bX4_isLetter_0 3 _ rfl) (bX4_isLetter_0 4 _ rfl) (bX4_isLetter_0 5 _ rfl)
theorem dX4_isLetter_6 : decode cX4_isLetter 6 = .ok (.iload_n 0, 1) := dz_26 (bX4_isLetter_0 6 _ rfl)
theorem dX4_isLetter_7 : decode cX4_isLetter 7 = .ok (.bipush 122, 2) := dz_16 (bX4_isLetter_0 7 _ rfl) (bX4_isLetter_0 8 _ rfl)
theorem dX4_isLetter_9 : decode cX4_isLetter 9 = .ok (.if_icmp .le 15, 3) := dz_164 (bX4_isLetter_0 9 _ rfl) (bX4_isLetter_0 10 _ rfl) (bX4_isLetter_0 11 _ rfl)
theorem dX4_isLetter_12 : decode cX4_isLetter 12 = .ok (.iload_n 0, 1) := dz_26 (bX4_isLetter_0 12 _ rfl)
theorem dX4_isLetter_13 : decode cX4_isLetter 13 = .ok (.bipush 65, 2) := dz_16 (bX4_isLetter_0 13 _ rfl) (bX4_isLetter_0 14 _ rfl)
theorem dX4_isLetter_15 : decode cX4_isLetter 15 = .ok (.if_icmp .lt 13, 3) := dz_161 (bX4_isLetter_0 15 _ rfl) (bX4_isLetter_1 0 _ rfl) (bX4_isLetter_1 1 _ rfl)
theorem dX4_isLetter_18 : decode cX4_isLetter 18 = .ok (.iload_n 0, 1) := dz_26 (bX4_isLetter_1 2 _ rfl)
theorem dX4_isLetter_19 : decode cX4_isLetter 19 = .ok (.bipush 90, 2) := dz_16 (bX4_isLetter_1 3 _ rfl) (bX4_isLetter_1 4 _ rfl)
theorem dX4_isLetter_21 : decode cX4_isLetter 21 = .ok (.if_icmp .gt 7, 3) := dz_163 (bX4_isLetter_1 5 _ rfl) (bX4_isLetter_1 6 _ rfl) (bX4_isLetter_1 7 _ rfl)
theorem dX4_isLetter_24 : decode cX4_isLetter 24 = .ok (.iconst 1, 1) := dz_4 (bX4_isLetter_1 8 _ rfl)
theorem dX4_isLetter_25 : decode cX4_isLetter 25 = .ok (.goto 4, 3) := dz_167 (bX4_isLetter_1 9 _ rfl) (bX4_isLetter_1 10 _ rfl) (bX4_isLetter_1 11 _ rfl)
theorem dX4_isLetter_28 : decode cX4_isLetter 28 = .ok (.iconst 0, 1) := dz_3 (bX4_isLetter_1 12 _ rfl)
theorem dX4_isLetter_29 : decode cX4_isLetter 29 = .ok (.ireturn, 1) := dz_172 (bX4_isLetter_1 13 _ rfl)
def c_X4_isLetter_12 (x0 : Int32)  (w : ch_W) : Option (Int32) := if x0 < 65 then (some (0)) else (if 90 < x0 then (some (0)) else (some (1)))
theorem s_X4_isLetter_12 {g : State} {kb : Bool} {x0 : Int32} {w : ch_W} {res : Int32} {Q : Outcome → ch_W → Prop} (h : c_X4_isLetter_12 x0 w = some res) (hk : (fun r => ch_eI Q (r, w)) res) : ch_FT g kb mX4_isLetter 2 12 [some (.int x0)] [] (w) Q := by
  unfold c_X4_isLetter_12 at h
  refine ch_iload_n 0 _ dX4_isLetter_12 rfl (ch_bipush _ 65 dX4_isLetter_13 rfl (cp_icmp_lt _ _ (tgt := 28) dX4_isLetter_15 rfl h (fun h => ?_) (fun h => ?_)))
  · obtain rfl := Option.some.inj h
    exact ch_iconst _ 0 dX4_isLetter_28 rfl (ch_ireturn _ dX4_isLetter_29 rfl rfl hk)
  · refine ch_iload_n 0 _ dX4_isLetter_18 rfl (ch_bipush _ 90 dX4_isLetter_19 rfl (cp_icmp_gt _ _ (tgt := 28) dX4_isLetter_21 rfl h (fun h => ?_) (fun h => ?_)))
    · obtain rfl := Option.some.inj h
      exact ch_iconst _ 0 dX4_isLetter_28 rfl (ch_ireturn _ dX4_isLetter_29 rfl rfl hk)
    · obtain rfl := Option.some.inj h
      exact ch_iconst _ 1 dX4_isLetter_24 rfl (ch_goto 29 dX4_isLetter_25 rfl (ch_ireturn _ dX4_isLetter_29 rfl rfl hk))

def c_X4_isLetter (x0 : Int32) (w : ch_W) : Option (Int32) := if x0 < 97 then (c_X4_isLetter_12 x0 w) else (if 122 < x0 then (c_X4_isLetter_12 x0 w) else (some (1)))
theorem s_X4_isLetter {g : State} {kb : Bool} {x0 : Int32} {w : ch_W} {res : Int32} {Q : Outcome → ch_W → Prop} (h : c_X4_isLetter x0 w = some res) (hk : (fun r => ch_eI Q (r, w)) res) : ch_CT g kb yX4_isLetter 2 [.int x0] (w) Q := by
  unfold c_X4_isLetter at h
  refine ch_ctL mX4_isLetter (ls := [some (.int x0)]) q503 rfl (ch_lyi ch_ly0) (Nat.le_of_ble_eq_true rfl) rfl ?_
  refine ch_iload_n 0 _ dX4_isLetter_0 rfl (ch_bipush _ 97 dX4_isLetter_1 rfl (cp_icmp_lt _ _ (tgt := 12) dX4_isLetter_3 rfl h (fun h => ?_) (fun h => ?_)))
  · exact ch_FT.wk (ch_wS ch_w0) (s_X4_isLetter_12  h hk)
  · refine ch_iload_n 0 _ dX4_isLetter_6 rfl (ch_bipush _ 122 dX4_isLetter_7 rfl (cp_icmp_le _ _ (tgt := 24) dX4_isLetter_9 rfl h (fun h => ?_) (fun h => ?_)))
    · obtain rfl := Option.some.inj h
      exact ch_iconst _ 1 dX4_isLetter_24 rfl (ch_goto 29 dX4_isLetter_25 rfl (ch_ireturn _ dX4_isLetter_29 rfl rfl hk))
    · exact ch_FT.wk (ch_wS ch_w0) (s_X4_isLetter_12  h hk)

theorem bX4_isDigit_0 : ch_ck cX4_isDigit 0 [26, 16, 48, 161, 0, 13, 26, 16, 57, 163, 0, 7, 4, 167, 0, 4] := ch_ckof (by decide +kernel)
theorem bX4_isDigit_1 : ch_ck cX4_isDigit 16 [3, 172] := ch_ckof (by decide +kernel)
theorem dX4_isDigit_0 : decode cX4_isDigit 0 = .ok (.iload_n 0, 1) := dz_26 (bX4_isDigit_0 0 _ rfl)
theorem dX4_isDigit_1 : decode cX4_isDigit 1 = .ok (.bipush 48, 2) := dz_16 (bX4_isDigit_0 1 _ rfl) (bX4_isDigit_0 2 _ rfl)
theorem dX4_isDigit_3 : decode cX4_isDigit 3 = .ok (.if_icmp .lt 13, 3) := dz_161 (bX4_isDigit_0 3 _ rfl) (bX4_isDigit_0 4 _ rfl) (bX4_isDigit_0 5 _ rfl)
theorem dX4_isDigit_6 : decode cX4_isDigit 6 = .ok (.iload_n 0, 1) := dz_26 (bX4_isDigit_0 6 _ rfl)
theorem dX4_isDigit_7 : decode cX4_isDigit 7 = .ok (.bipush 57, 2) := dz_16 (bX4_isDigit_0 7 _ rfl) (bX4_isDigit_0 8 _ rfl)
theorem dX4_isDigit_9 : decode cX4_isDigit 9 = .ok (.if_icmp .gt 7, 3) := dz_163 (bX4_isDigit_0 9 _ rfl) (bX4_isDigit_0 10 _ rfl) (bX4_isDigit_0 11 _ rfl)
theorem dX4_isDigit_12 : decode cX4_isDigit 12 = .ok (.iconst 1, 1) := dz_4 (bX4_isDigit_0 12 _ rfl)
theorem dX4_isDigit_13 : decode cX4_isDigit 13 = .ok (.goto 4, 3) := dz_167 (bX4_isDigit_0 13 _ rfl) (bX4_isDigit_0 14 _ rfl) (bX4_isDigit_0 15 _ rfl)
theorem dX4_isDigit_16 : decode cX4_isDigit 16 = .ok (.iconst 0, 1) := dz_3 (bX4_isDigit_1 0 _ rfl)
theorem dX4_isDigit_17 : decode cX4_isDigit 17 = .ok (.ireturn, 1) := dz_172 (bX4_isDigit_1 1 _ rfl)
def c_X4_isDigit (x0 : Int32) (w : ch_W) : Option (Int32) := if x0 < 48 then (some (0)) else (if 57 < x0 then (some (0)) else (some (1)))
theorem s_X4_isDigit {g : State} {kb : Bool} {x0 : Int32} {w : ch_W} {res : Int32} {Q : Outcome → ch_W → Prop} (h : c_X4_isDigit x0 w = some res) (hk : (fun r => ch_eI Q (r, w)) res) : ch_CT g kb yX4_isDigit 2 [.int x0] (w) Q := by
  unfold c_X4_isDigit at h
  refine ch_ctL mX4_isDigit (ls := [some (.int x0)]) q506 rfl (ch_lyi ch_ly0) (Nat.le_of_ble_eq_true rfl) rfl ?_
  refine ch_iload_n 0 _ dX4_isDigit_0 rfl (ch_bipush _ 48 dX4_isDigit_1 rfl (cp_icmp_lt _ _ (tgt := 16) dX4_isDigit_3 rfl h (fun h => ?_) (fun h => ?_)))
  · obtain rfl := Option.some.inj h
    exact ch_iconst _ 0 dX4_isDigit_16 rfl (ch_ireturn _ dX4_isDigit_17 rfl rfl hk)
  · refine ch_iload_n 0 _ dX4_isDigit_6 rfl (ch_bipush _ 57 dX4_isDigit_7 rfl (cp_icmp_gt _ _ (tgt := 16) dX4_isDigit_9 rfl h (fun h => ?_) (fun h => ?_)))
    · obtain rfl := Option.some.inj h
      exact ch_iconst _ 0 dX4_isDigit_16 rfl (ch_ireturn _ dX4_isDigit_17 rfl rfl hk)
    · obtain rfl := Option.some.inj h
      exact ch_iconst _ 1 dX4_isDigit_12 rfl (ch_goto 17 dX4_isDigit_13 rfl (ch_ireturn _ dX4_isDigit_17 rfl rfl hk))

theorem bX4_is_0 : ch_ck cX4_is 0 [42, 180, 0, 37, 42, 180, 0, 31, 100, 43, 182, 0, 66, 160, 0, 7] := ch_ckof (by decide +kernel)
theorem bX4_is_1 : ch_ck cX4_is 16 [4, 167, 0, 4, 3, 61, 3, 62, 28, 153, 0, 42, 29, 43, 182, 0] := ch_ckof (by decide +kernel)
theorem bX4_is_2 : ch_ck cX4_is 32 [66, 162, 0, 34, 42, 180, 0, 21, 42, 180, 0, 31, 29, 96, 51, 43] := ch_ckof (by decide +kernel)
theorem bX4_is_3 : ch_ck cX4_is 48 [29, 182, 0, 72, 160, 0, 7, 4, 167, 0, 4, 3, 61, 132, 3, 1] := ch_ckof (by decide +kernel)
theorem bX4_is_4 : ch_ck cX4_is 64 [167, 255, 216, 28, 172] := ch_ckof (by decide +kernel)
theorem dX4_is_0 : decode cX4_is 0 = .ok (.aload_n 0, 1) := dz_42 (bX4_is_0 0 _ rfl)
theorem dX4_is_1 : decode cX4_is 1 = .ok (.getfield 37, 3) := dz_180 (bX4_is_0 1 _ rfl) (bX4_is_0 2 _ rfl) (bX4_is_0 3 _ rfl)
theorem dX4_is_4 : decode cX4_is 4 = .ok (.aload_n 0, 1) := dz_42 (bX4_is_0 4 _ rfl)
theorem dX4_is_5 : decode cX4_is 5 = .ok (.getfield 31, 3) := dz_180 (bX4_is_0 5 _ rfl) (bX4_is_0 6 _ rfl) (bX4_is_0 7 _ rfl)
theorem dX4_is_8 : decode cX4_is 8 = .ok (.isub, 1) := dz_100 (bX4_is_0 8 _ rfl)
theorem dX4_is_9 : decode cX4_is 9 = .ok (.aload_n 1, 1) := dz_43 (bX4_is_0 9 _ rfl)
theorem dX4_is_10 : decode cX4_is 10 = .ok (.invokevirtual 66, 3) := dz_182 (bX4_is_0 10 _ rfl) (bX4_is_0 11 _ rfl) (bX4_is_0 12 _ rfl)
theorem dX4_is_13 : decode cX4_is 13 = .ok (.if_icmp .ne 7, 3) := dz_160 (bX4_is_0 13 _ rfl) (bX4_is_0 14 _ rfl) (bX4_is_0 15 _ rfl)
theorem dX4_is_16 : decode cX4_is 16 = .ok (.iconst 1, 1) := dz_4 (bX4_is_1 0 _ rfl)
theorem dX4_is_17 : decode cX4_is 17 = .ok (.goto 4, 3) := dz_167 (bX4_is_1 1 _ rfl) (bX4_is_1 2 _ rfl) (bX4_is_1 3 _ rfl)
theorem dX4_is_20 : decode cX4_is 20 = .ok (.iconst 0, 1) := dz_3 (bX4_is_1 4 _ rfl)
theorem dX4_is_21 : decode cX4_is 21 = .ok (.istore_n 2, 1) := dz_61 (bX4_is_1 5 _ rfl)
theorem dX4_is_22 : decode cX4_is 22 = .ok (.iconst 0, 1) := dz_3 (bX4_is_1 6 _ rfl)
theorem dX4_is_23 : decode cX4_is 23 = .ok (.istore_n 3, 1) := dz_62 (bX4_is_1 7 _ rfl)
theorem dX4_is_24 : decode cX4_is 24 = .ok (.iload_n 2, 1) := dz_28 (bX4_is_1 8 _ rfl)
theorem dX4_is_25 : decode cX4_is 25 = .ok (.ifCond .eq 42, 3) := dz_153 (bX4_is_1 9 _ rfl) (bX4_is_1 10 _ rfl) (bX4_is_1 11 _ rfl)
theorem dX4_is_28 : decode cX4_is 28 = .ok (.iload_n 3, 1) := dz_29 (bX4_is_1 12 _ rfl)
theorem dX4_is_29 : decode cX4_is 29 = .ok (.aload_n 1, 1) := dz_43 (bX4_is_1 13 _ rfl)
theorem dX4_is_30 : decode cX4_is 30 = .ok (.invokevirtual 66, 3) := dz_182 (bX4_is_1 14 _ rfl) (bX4_is_1 15 _ rfl) (bX4_is_2 0 _ rfl)
theorem dX4_is_33 : decode cX4_is 33 = .ok (.if_icmp .ge 34, 3) := dz_162 (bX4_is_2 1 _ rfl) (bX4_is_2 2 _ rfl) (bX4_is_2 3 _ rfl)
theorem dX4_is_36 : decode cX4_is 36 = .ok (.aload_n 0, 1) := dz_42 (bX4_is_2 4 _ rfl)
theorem dX4_is_37 : decode cX4_is 37 = .ok (.getfield 21, 3) := dz_180 (bX4_is_2 5 _ rfl) (bX4_is_2 6 _ rfl) (bX4_is_2 7 _ rfl)
theorem dX4_is_40 : decode cX4_is 40 = .ok (.aload_n 0, 1) := dz_42 (bX4_is_2 8 _ rfl)
theorem dX4_is_41 : decode cX4_is 41 = .ok (.getfield 31, 3) := dz_180 (bX4_is_2 9 _ rfl) (bX4_is_2 10 _ rfl) (bX4_is_2 11 _ rfl)
theorem dX4_is_44 : decode cX4_is 44 = .ok (.iload_n 3, 1) := dz_29 (bX4_is_2 12 _ rfl)
theorem dX4_is_45 : decode cX4_is 45 = .ok (.iadd, 1) := dz_96 (bX4_is_2 13 _ rfl)
theorem dX4_is_46 : decode cX4_is 46 = .ok (.baload, 1) := dz_51 (bX4_is_2 14 _ rfl)
theorem dX4_is_47 : decode cX4_is 47 = .ok (.aload_n 1, 1) := dz_43 (bX4_is_2 15 _ rfl)
theorem dX4_is_48 : decode cX4_is 48 = .ok (.iload_n 3, 1) := dz_29 (bX4_is_3 0 _ rfl)
theorem dX4_is_49 : decode cX4_is 49 = .ok (.invokevirtual 72, 3) := dz_182 (bX4_is_3 1 _ rfl) (bX4_is_3 2 _ rfl) (bX4_is_3 3 _ rfl)
theorem dX4_is_52 : decode cX4_is 52 = .ok (.if_icmp .ne 7, 3) := dz_160 (bX4_is_3 4 _ rfl) (bX4_is_3 5 _ rfl) (bX4_is_3 6 _ rfl)
theorem dX4_is_55 : decode cX4_is 55 = .ok (.iconst 1, 1) := dz_4 (bX4_is_3 7 _ rfl)
theorem dX4_is_56 : decode cX4_is 56 = .ok (.goto 4, 3) := dz_167 (bX4_is_3 8 _ rfl) (bX4_is_3 9 _ rfl) (bX4_is_3 10 _ rfl)
theorem dX4_is_59 : decode cX4_is 59 = .ok (.iconst 0, 1) := dz_3 (bX4_is_3 11 _ rfl)
theorem dX4_is_60 : decode cX4_is 60 = .ok (.istore_n 2, 1) := dz_61 (bX4_is_3 12 _ rfl)
theorem dX4_is_61 : decode cX4_is 61 = .ok (.iinc 3 1, 3) := dz_132 (bX4_is_3 13 _ rfl) (bX4_is_3 14 _ rfl) (bX4_is_3 15 _ rfl)
theorem dX4_is_64 : decode cX4_is 64 = .ok (.goto (-40), 3) := dz_167 (bX4_is_4 0 _ rfl) (bX4_is_4 1 _ rfl) (bX4_is_4 2 _ rfl)
theorem dX4_is_67 : decode cX4_is 67 = .ok (.iload_n 2, 1) := dz_28 (bX4_is_4 3 _ rfl)
theorem dX4_is_68 : decode cX4_is 68 = .ok (.ireturn, 1) := dz_172 (bX4_is_4 4 _ rfl)
def c_X4_is_24 (g : State) (t0 : Nat) (x1 : Option Nat) (x2 : Int32) (x3 : Int32)  (w : ch_W) : Option ((Int32 × Int32) ⊕ (Int32)) := if x2 = 0 then ((ch_bit x2).bind fun v => some (.inr (v))) else ((ch_rc w x1 20).bind fun b2 => (c_J6_length g b2 w).bind fun v3 => if x3 < v3 then ((ch_gR w (some t0) 5 fX4_s).bind fun v5 => (ch_gI w (some t0) 5 fX4_from).bind fun v6 => (ch_lI w v5 22 (v6 + x3)).bind fun v7 => (ch_rc w x1 20).bind fun b9 => (c_J6_charAt g b9 x3 w).bind fun v10 => if v7 = v10 then (some (.inl (1, x3 + 1))) else (some (.inl (0, x3 + 1)))) else ((ch_bit x2).bind fun v => some (.inr (v))))
theorem s_X4_is_24 {g : State} {kb : Bool} {t0 : Nat} {x1 : Option Nat} {x2 : Int32} {x3 : Int32} {w : ch_W} {res : (Int32 × Int32) ⊕ (Int32)} {Q : Outcome → ch_W → Prop} (h : c_X4_is_24 g t0 x1 x2 x3 w = some res) (hk : (ch_sm (fun s => ch_FT g kb mX4_is 6 24 [some (va_rf (some t0)), some (va_rf x1), some (.int s.1), some (.int s.2)] [] (w) Q) (fun r => ch_eI Q (r, w))) res) : ch_FT g kb mX4_is 6 24 [some (va_rf (some t0)), some (va_rf x1), some (.int x2), some (.int x3)] [] (w) Q := by
  unfold c_X4_is_24 at h
  refine ch_iload_n 2 _ dX4_is_24 rfl (cp_if_eq _ (tgt := 67) dX4_is_25 rfl h (fun h => ?_) (fun h => ?_))
  · refine ch_iload_n 2 _ dX4_is_67 rfl (cp_zret _ dX4_is_68 rfl h (fun h => ?_))
    obtain rfl := Option.some.inj h
    exact hk
  · obtain ⟨b2, hb1, h⟩ := ch_bd h
    obtain ⟨v3, hp4, h⟩ := ch_bd h
    refine ch_iload_n 3 _ dX4_is_28 rfl (ch_aload_n 1 x1 dX4_is_29 rfl (ch_ivS yJ6_length prog_23_method_54_code 1 (some .int) (b := b2) (d' := 3) (av := []) (rest := [.int x3]) (by rw [ch_rs hb1]; rfl) dX4_is_30 q513 q514 q515 q516 can_J6_length (Nat.le_of_ble_eq_true rfl) (ch_hw (Nat.le_of_ble_eq_true rfl)) (ch_rtg hb1) (cp_kI (v := v3) (w1 := w) (fun Q' hq => s_J6_length hp4 hq) ?_)))
    refine cp_icmp_ge _ _ (tgt := 67) dX4_is_33 rfl h (fun h => ?_) (fun h => ?_)
    · refine ch_iload_n 2 _ dX4_is_67 rfl (cp_zret _ dX4_is_68 rfl h (fun h => ?_))
      obtain rfl := Option.some.inj h
      exact hk
    · refine ch_aload_n 0 (some t0) dX4_is_36 rfl (cp_gR (ci := 4) (k := 0) dX4_is_37 fl_X4_21 rfl h (fun v5 h => ?_))
      refine ch_aload_n 0 (some t0) dX4_is_40 rfl (cp_gI (ci := 4) (k := 3) dX4_is_41 fl_X4_31 rfl h (fun v6 h => ?_))
      refine ch_iload_n 3 _ dX4_is_44 rfl (ch_iadd _ _ dX4_is_45 (cp_bald (t := 22) dX4_is_46 rfl rfl h (fun v7 h => ?_)))
      obtain ⟨b9, hb8, h⟩ := ch_bd h
      obtain ⟨v10, hp11, h⟩ := ch_bd h
      refine ch_aload_n 1 x1 dX4_is_47 rfl (ch_iload_n 3 _ dX4_is_48 rfl (ch_ivS yJ6_charAt prog_23_method_56_code 2 (some .char) (b := b9) (d' := 5) (av := [.int x3]) (rest := [.int v7]) (by rw [ch_rs hb8]; rfl) dX4_is_49 q523 q524 q525 q526 can_J6_charAt (Nat.le_of_ble_eq_true rfl) (ch_hw (Nat.le_of_ble_eq_true rfl)) (ch_rtg hb8) (cp_kI (v := v10) (w1 := w) (fun Q' hq => s_J6_charAt hp11 hq) ?_)))
      refine cp_icmp_ne _ _ (tgt := 59) dX4_is_52 rfl h (fun h => ?_) (fun h => ?_)
      · refine ch_iconst _ 0 dX4_is_59 rfl (ch_istore_n 2 _ (ls1 := [some (va_rf (some t0)), some (va_rf x1), some (.int 0), some (.int x3)]) dX4_is_60 (Nat.le_of_ble_eq_true rfl) (ch_s1o rfl rfl) (ch_iinc 3 _ _ (x3 + 1) (ls1 := [some (va_rf (some t0)), some (va_rf x1), some (.int 0), some (.int (x3 + 1))]) dX4_is_61 rfl rfl (Nat.le_of_ble_eq_true rfl) rfl (ch_goto 24 dX4_is_64 rfl (ch_FT.wk (ch_wS (ch_wS (ch_wS (ch_wS ch_w0)))) ?_))))
        obtain rfl := Option.some.inj h
        exact hk
      · refine ch_iconst _ 1 dX4_is_55 rfl (ch_goto 60 dX4_is_56 rfl (ch_istore_n 2 _ (ls1 := [some (va_rf (some t0)), some (va_rf x1), some (.int 1), some (.int x3)]) dX4_is_60 (Nat.le_of_ble_eq_true rfl) (ch_s1o rfl rfl) (ch_iinc 3 _ _ (x3 + 1) (ls1 := [some (va_rf (some t0)), some (va_rf x1), some (.int 1), some (.int (x3 + 1))]) dX4_is_61 rfl rfl (Nat.le_of_ble_eq_true rfl) rfl (ch_goto 24 dX4_is_64 rfl (ch_FT.wk (ch_wS (ch_wS (ch_wS (ch_wS ch_w0)))) ?_)))))
        obtain rfl := Option.some.inj h
        exact hk
theorem sl_X4_is_24 {g : State} {kb : Bool} {t0 : Nat} {x1 : Option Nat} {w : ch_W} {a : Int32 × Int32} {res : Int32} {Q : Outcome → ch_W → Prop} (h : ch_loop (fun (s : Int32 × Int32) => c_X4_is_24 g t0 x1 s.1 s.2 w) a = some res) (hk : (fun r => ch_eI Q (r, w)) res) : ch_FT g kb mX4_is 6 24 [some (va_rf (some t0)), some (va_rf x1), some (.int a.1), some (.int a.2)] [] (w) Q := by
  refine ch_loop_ind (fun (a : Int32 × Int32) (r : Int32) => (fun r => ch_eI Q (r, w)) r → ch_FT g kb mX4_is 6 24 [some (va_rf (some t0)), some (va_rf x1), some (.int a.1), some (.int a.2)] [] (w) Q) ?_ ?_ a res h hk
  · intro a a2 b h1 ih hk
    exact s_X4_is_24  h1 (ih hk)
  · intro a b h1 hk
    exact s_X4_is_24  h1 hk

def c_X4_is (g : State) (t0 : Nat) (x1 : Option Nat) (w : ch_W) : Option (Int32) := (ch_gI w (some t0) 5 fX4_to).bind fun v1 => (ch_gI w (some t0) 5 fX4_from).bind fun v2 => (ch_rc w x1 20).bind fun b4 => (c_J6_length g b4 w).bind fun v5 => if (v1 - v2) = v5 then (ch_loop (fun (s : Int32 × Int32) => c_X4_is_24 g t0 x1 s.1 s.2 w) (1, 0)) else (ch_loop (fun (s : Int32 × Int32) => c_X4_is_24 g t0 x1 s.1 s.2 w) (0, 0))
theorem s_X4_is {g : State} {kb : Bool} {t0 : Nat} {x1 : Option Nat} {w : ch_W} {res : Int32} {Q : Outcome → ch_W → Prop} (h : c_X4_is g t0 x1 w = some res) (hk : (fun r => ch_eI Q (r, w)) res) : ch_CT g kb yX4_is 6 [.ref t0, va_rf x1] (w) Q := by
  unfold c_X4_is at h
  refine ch_ctL mX4_is (ls := [some (va_rf (some t0)), some (va_rf x1), none, none]) q512 rfl (ch_lyr (r := some t0) (ch_lyr (r := x1) ch_ly0)) (Nat.le_of_ble_eq_true rfl) rfl ?_
  refine ch_aload_n 0 (some t0) dX4_is_0 rfl (cp_gI (ci := 4) (k := 4) dX4_is_1 fl_X4_37 rfl h (fun v1 h => ?_))
  refine ch_aload_n 0 (some t0) dX4_is_4 rfl (cp_gI (ci := 4) (k := 3) dX4_is_5 fl_X4_31 rfl h (fun v2 h => ?_))
  obtain ⟨b4, hb3, h⟩ := ch_bd h
  obtain ⟨v5, hp6, h⟩ := ch_bd h
  refine ch_isub _ _ dX4_is_8 (ch_aload_n 1 x1 dX4_is_9 rfl (ch_ivS yJ6_length prog_23_method_54_code 1 (some .int) (b := b4) (d' := 3) (av := []) (rest := [.int (v1 - v2)]) (by rw [ch_rs hb3]; rfl) dX4_is_10 q513 q514 q515 q516 can_J6_length (Nat.le_of_ble_eq_true rfl) (ch_hw (Nat.le_of_ble_eq_true rfl)) (ch_rtg hb3) (cp_kI (v := v5) (w1 := w) (fun Q' hq => s_J6_length hp6 hq) ?_)))
  refine cp_icmp_ne _ _ (tgt := 20) dX4_is_13 rfl h (fun h => ?_) (fun h => ?_)
  · exact ch_iconst _ 0 dX4_is_20 rfl (ch_istore_n 2 _ (ls1 := [some (va_rf (some t0)), some (va_rf x1), some (.int 0), none]) dX4_is_21 (Nat.le_of_ble_eq_true rfl) (ch_s1o rfl rfl) (ch_iconst _ 0 dX4_is_22 rfl (ch_istore_n 3 _ (ls1 := [some (va_rf (some t0)), some (va_rf x1), some (.int 0), some (.int 0)]) dX4_is_23 (Nat.le_of_ble_eq_true rfl) rfl (ch_FT.wk (ch_wS (ch_wS (ch_wS (ch_wS ch_w0)))) (sl_X4_is_24  h hk)))))
  · exact ch_iconst _ 1 dX4_is_16 rfl (ch_goto 21 dX4_is_17 rfl (ch_istore_n 2 _ (ls1 := [some (va_rf (some t0)), some (va_rf x1), some (.int 1), none]) dX4_is_21 (Nat.le_of_ble_eq_true rfl) (ch_s1o rfl rfl) (ch_iconst _ 0 dX4_is_22 rfl (ch_istore_n 3 _ (ls1 := [some (va_rf (some t0)), some (va_rf x1), some (.int 1), some (.int 0)]) dX4_is_23 (Nat.le_of_ble_eq_true rfl) rfl (ch_FT.wk (ch_wS (ch_wS (ch_wS (ch_wS ch_w0)))) (sl_X4_is_24  h hk))))))

theorem bX5_init_0 : ch_ck cX5_init 0 [42, 183, 0, 1, 42, 27, 181, 0, 7, 177] := ch_ckof (by decide +kernel)
theorem dX5_init_0 : decode cX5_init 0 = .ok (.aload_n 0, 1) := dz_42 (bX5_init_0 0 _ rfl)
theorem dX5_init_1 : decode cX5_init 1 = .ok (.invokespecial 1, 3) := dz_183 (bX5_init_0 1 _ rfl) (bX5_init_0 2 _ rfl) (bX5_init_0 3 _ rfl)
theorem dX5_init_4 : decode cX5_init 4 = .ok (.aload_n 0, 1) := dz_42 (bX5_init_0 4 _ rfl)
theorem dX5_init_5 : decode cX5_init 5 = .ok (.iload_n 1, 1) := dz_27 (bX5_init_0 5 _ rfl)
theorem dX5_init_6 : decode cX5_init 6 = .ok (.putfield 7, 3) := dz_181 (bX5_init_0 6 _ rfl) (bX5_init_0 7 _ rfl) (bX5_init_0 8 _ rfl)
theorem dX5_init_9 : decode cX5_init 9 = .ok (.return_, 1) := dz_177 (bX5_init_0 9 _ rfl)
def c_X5_init (g : State) (t0 : Nat) (x1 : Int32) (w : ch_W) : Option (ch_W) := (ch_thr g w (some t0) 6).bind fun w1 => (ch_pI w1 (some t0) 6 fX5_answer x1).bind fun w2 => some (w2)
theorem s_X5_init {g : State} {t0 : Nat} {x1 : Int32} {w : ch_W} {res : ch_W} {Q : Outcome → ch_W → Prop} (h : c_X5_init g t0 x1 w = some res) (hk : (ch_eV Q) res) : ch_CT g true yX5_init 6 [.ref t0, .int x1] (w) Q := by
  unfold c_X5_init at h
  refine ch_ctL mX5_init (ls := [some (va_rf (some t0)), some (.int x1)]) q576 rfl (ch_lyr (r := some t0) (ch_lyi ch_ly0)) (Nat.le_of_ble_eq_true rfl) rfl ?_
  refine ch_aload_n 0 (some t0) dX5_init_0 rfl (cp_thr th_X5 dX5_init_1 q577 (Nat.le_of_ble_eq_true rfl) (Nat.le_of_ble_eq_true rfl) h (fun w1 h => ?_))
  refine ch_aload_n 0 (some t0) dX5_init_4 rfl (ch_iload_n 1 _ dX5_init_5 rfl (cp_pI (ci := 5) (k := 6) dX5_init_6 fl_X5_7 rfl rfl rfl h (fun w2 h => ?_)))
  obtain rfl := Option.some.inj h
  exact ch_return dX5_init_9 rfl hk

theorem bX4_must_0 : ch_ck cX4_must 0 [27, 154, 0, 17, 187, 0, 29, 89, 2, 42, 180, 0, 31, 100, 183, 0] := ch_ckof (by decide +kernel)
theorem bX4_must_1 : ch_ck cX4_must 16 [34, 191, 177] := ch_ckof (by decide +kernel)
theorem dX4_must_0 : decode cX4_must 0 = .ok (.iload_n 1, 1) := dz_27 (bX4_must_0 0 _ rfl)
theorem dX4_must_1 : decode cX4_must 1 = .ok (.ifCond .ne 17, 3) := dz_154 (bX4_must_0 1 _ rfl) (bX4_must_0 2 _ rfl) (bX4_must_0 3 _ rfl)
theorem dX4_must_4 : decode cX4_must 4 = .ok (.new 29, 3) := dz_187 (bX4_must_0 4 _ rfl) (bX4_must_0 5 _ rfl) (bX4_must_0 6 _ rfl)
theorem dX4_must_7 : decode cX4_must 7 = .ok (.dup, 1) := dz_89 (bX4_must_0 7 _ rfl)
theorem dX4_must_8 : decode cX4_must 8 = .ok (.iconst (-1), 1) := dz_2 (bX4_must_0 8 _ rfl)
theorem dX4_must_9 : decode cX4_must 9 = .ok (.aload_n 0, 1) := dz_42 (bX4_must_0 9 _ rfl)
theorem dX4_must_10 : decode cX4_must 10 = .ok (.getfield 31, 3) := dz_180 (bX4_must_0 10 _ rfl) (bX4_must_0 11 _ rfl) (bX4_must_0 12 _ rfl)
theorem dX4_must_13 : decode cX4_must 13 = .ok (.isub, 1) := dz_100 (bX4_must_0 13 _ rfl)
theorem dX4_must_14 : decode cX4_must 14 = .ok (.invokespecial 34, 3) := dz_183 (bX4_must_0 14 _ rfl) (bX4_must_0 15 _ rfl) (bX4_must_1 0 _ rfl)
theorem dX4_must_17 : decode cX4_must 17 = .ok (.athrow, 1) := dz_191 (bX4_must_1 1 _ rfl)
theorem dX4_must_18 : decode cX4_must 18 = .ok (.return_, 1) := dz_177 (bX4_must_1 2 _ rfl)
def c_X4_must (g : State) (t0 : Nat) (x1 : Int32) (w : ch_W) : Option (Except Nat Unit × ch_W) := if x1 = 0 then ((ch_nO w 6 7).bind fun w1 => (ch_gI w1 (some t0) 5 fX4_from).bind fun v2 => (c_X5_init g (ch_nx w) ((-1) - v2) w1).bind fun p3 => (some (ch_nx w)).bind fun a5 => some ((.error a5, p3))) else (some ((.ok (), w)))
theorem s_X4_must {g : State} {t0 : Nat} {x1 : Int32} {w : ch_W} {res : Except Nat Unit × ch_W} {Q : Outcome → ch_W → Prop} (h : c_X4_must g t0 x1 w = some res) (hk : (ch_xV Q) res) : ch_CT g true yX4_must 7 [.ref t0, .int x1] (w) Q := by
  unfold c_X4_must at h
  refine ch_ctL mX4_must (ls := [some (va_rf (some t0)), some (.int x1)]) q564 rfl (ch_lyr (r := some t0) (ch_lyi ch_ly0)) (Nat.le_of_ble_eq_true rfl) rfl ?_
  refine ch_iload_n 1 _ dX4_must_0 rfl (cp_if_ne _ (tgt := 18) dX4_must_1 rfl h (fun h => ?_) (fun h => ?_))
  · obtain rfl := Option.some.inj h
    exact ch_return dX4_must_18 rfl hk
  · refine cp_new (ci := 5) (n := 7) (q := (RX5, TX5, 7)) dX4_must_4 rfl q565 q566 q215 h (fun w1 h => ?_)
    refine ch_dup dX4_must_7 (ch_cat _) (ch_iconst _ (-1) dX4_must_8 rfl (ch_aload_n 0 (some t0) dX4_must_9 rfl (cp_gI (ci := 4) (k := 3) dX4_must_10 fl_X4_31 rfl h (fun v2 h => ?_))))
    obtain ⟨p3, hp4, h⟩ := ch_bd h
    refine ch_isub _ _ dX4_must_13 (ch_ii yX5_init prog_8_method_1_code 2 (b := (ch_nx w)) (d' := 6) (av := [.int ((-1) - v2)]) (rest := [va_rf (some (ch_nx w))]) rfl dX4_must_14 rfl q574 q575 q576 can_X5_init (Nat.le_of_ble_eq_true rfl) (ch_hw (Nat.le_of_ble_eq_true rfl)) (cp_kV (w1 := p3) (fun Q' hq => s_X5_init hp4 hq) ?_))
    obtain ⟨a5, ha, h⟩ := ch_bd h
    obtain rfl := Option.some.inj h
    exact ch_athrow (some (ch_nx w)) ha dX4_must_17 rfl hk

theorem bX4_sign_0 : ch_ck cX4_sign 0 [28, 16, 61, 160, 0, 21, 27, 16, 61, 159, 0, 32, 27, 16, 33, 159] := ch_ckof (by decide +kernel)
theorem bX4_sign_1 : ch_ck cX4_sign 16 [0, 26, 27, 16, 60, 159, 0, 20, 27, 28, 160, 0, 19, 27, 16, 38] := ch_ckof (by decide +kernel)
theorem bX4_sign_2 : ch_ck cX4_sign 32 [159, 0, 9, 27, 16, 124, 160, 0, 7, 4, 167, 0, 4, 3, 62, 27] := ch_ckof (by decide +kernel)
theorem bX4_sign_3 : ch_ck cX4_sign 48 [16, 123, 159, 0, 105, 27, 16, 125, 159, 0, 99, 27, 16, 40, 159, 0] := ch_ckof (by decide +kernel)
theorem bX4_sign_4 : ch_ck cX4_sign 64 [93, 27, 16, 41, 159, 0, 87, 27, 16, 91, 159, 0, 81, 27, 16, 93] := ch_ckof (by decide +kernel)
theorem bX4_sign_5 : ch_ck cX4_sign 80 [159, 0, 75, 27, 16, 59, 159, 0, 69, 27, 16, 44, 159, 0, 63, 27] := ch_ckof (by decide +kernel)
theorem bX4_sign_6 : ch_ck cX4_sign 96 [16, 46, 159, 0, 57, 27, 16, 58, 159, 0, 51, 27, 16, 61, 159, 0] := ch_ckof (by decide +kernel)
theorem bX4_sign_7 : ch_ck cX4_sign 112 [45, 27, 16, 60, 159, 0, 39, 27, 16, 43, 159, 0, 33, 27, 16, 45] := ch_ckof (by decide +kernel)
theorem bX4_sign_8 : ch_ck cX4_sign 128 [159, 0, 27, 27, 16, 42, 159, 0, 21, 27, 16, 47, 159, 0, 15, 27] := ch_ckof (by decide +kernel)
theorem bX4_sign_9 : ch_ck cX4_sign 144 [16, 37, 159, 0, 9, 27, 16, 33, 160, 0, 7, 4, 167, 0, 4, 3] := ch_ckof (by decide +kernel)
theorem bX4_sign_10 : ch_ck cX4_sign 160 [54, 4, 42, 29, 154, 0, 8, 21, 4, 153, 0, 7, 4, 167, 0, 4] := ch_ckof (by decide +kernel)
theorem bX4_sign_11 : ch_ck cX4_sign 176 [3, 182, 0, 58, 42, 6, 181, 0, 40, 42, 42, 180, 0, 31, 29, 153] := ch_ckof (by decide +kernel)
theorem bX4_sign_12 : ch_ck cX4_sign 192 [0, 7, 5, 167, 0, 4, 4, 96, 181, 0, 37, 177] := ch_ckof (by decide +kernel)
theorem dX4_sign_0 : decode cX4_sign 0 = .ok (.iload_n 2, 1) := dz_28 (bX4_sign_0 0 _ rfl)
theorem dX4_sign_1 : decode cX4_sign 1 = .ok (.bipush 61, 2) := dz_16 (bX4_sign_0 1 _ rfl) (bX4_sign_0 2 _ rfl)
theorem dX4_sign_3 : decode cX4_sign 3 = .ok (.if_icmp .ne 21, 3) := dz_160 (bX4_sign_0 3 _ rfl) (bX4_sign_0 4 _ rfl) (bX4_sign_0 5 _ rfl)
theorem dX4_sign_6 : decode cX4_sign 6 = .ok (.iload_n 1, 1) := dz_27 (bX4_sign_0 6 _ rfl)
theorem dX4_sign_7 : decode cX4_sign 7 = .ok (.bipush 61, 2) := dz_16 (bX4_sign_0 7 _ rfl) (bX4_sign_0 8 _ rfl)
theorem dX4_sign_9 : decode cX4_sign 9 = .ok (.if_icmp .eq 32, 3) := dz_159 (bX4_sign_0 9 _ rfl) (bX4_sign_0 10 _ rfl) (bX4_sign_0 11 _ rfl)
theorem dX4_sign_12 : decode cX4_sign 12 = .ok (.iload_n 1, 1) := dz_27 (bX4_sign_0 12 _ rfl)
theorem dX4_sign_13 : decode cX4_sign 13 = .ok (.bipush 33, 2) := dz_16 (bX4_sign_0 13 _ rfl) (bX4_sign_0 14 _ rfl)
theorem dX4_sign_15 : decode cX4_sign 15 = .ok (.if_icmp .eq 26, 3) := dz_159 (bX4_sign_0 15 _ rfl) (bX4_sign_1 0 _ rfl) (bX4_sign_1 1 _ rfl)
theorem dX4_sign_18 : decode cX4_sign 18 = .ok (.iload_n 1, 1) := dz_27 (bX4_sign_1 2 _ rfl)
theorem dX4_sign_19 : decode cX4_sign 19 = .ok (.bipush 60, 2) := dz_16 (bX4_sign_1 3 _ rfl) (bX4_sign_1 4 _ rfl)
theorem dX4_sign_21 : decode cX4_sign 21 = .ok (.if_icmp .eq 20, 3) := dz_159 (bX4_sign_1 5 _ rfl) (bX4_sign_1 6 _ rfl) (bX4_sign_1 7 _ rfl)
theorem dX4_sign_24 : decode cX4_sign 24 = .ok (.iload_n 1, 1) := dz_27 (bX4_sign_1 8 _ rfl)
theorem dX4_sign_25 : decode cX4_sign 25 = .ok (.iload_n 2, 1) := dz_28 (bX4_sign_1 9 _ rfl)
theorem dX4_sign_26 : decode cX4_sign 26 = .ok (.if_icmp .ne 19, 3) := dz_160 (bX4_sign_1 10 _ rfl) (bX4_sign_1 11 _ rfl) (bX4_sign_1 12 _ rfl)
theorem dX4_sign_29 : decode cX4_sign 29 = .ok (.iload_n 1, 1) := dz_27 (bX4_sign_1 13 _ rfl)
theorem dX4_sign_30 : decode cX4_sign 30 = .ok (.bipush 38, 2) := dz_16 (bX4_sign_1 14 _ rfl) (bX4_sign_1 15 _ rfl)
theorem dX4_sign_32 : decode cX4_sign 32 = .ok (.if_icmp .eq 9, 3) := dz_159 (bX4_sign_2 0 _ rfl) (bX4_sign_2 1 _ rfl) (bX4_sign_2 2 _ rfl)
theorem dX4_sign_35 : decode cX4_sign 35 = .ok (.iload_n 1, 1) := dz_27 (bX4_sign_2 3 _ rfl)
theorem dX4_sign_36 : decode cX4_sign 36 = .ok (.bipush 124, 2) := dz_16 (bX4_sign_2 4 _ rfl) (bX4_sign_2 5 _ rfl)
theorem dX4_sign_38 : decode cX4_sign 38 = .ok (.if_icmp .ne 7, 3) := dz_160 (bX4_sign_2 6 _ rfl) (bX4_sign_2 7 _ rfl) (bX4_sign_2 8 _ rfl)
theorem dX4_sign_41 : decode cX4_sign 41 = .ok (.iconst 1, 1) := dz_4 (bX4_sign_2 9 _ rfl)
theorem dX4_sign_42 : decode cX4_sign 42 = .ok (.goto 4, 3) := dz_167 (bX4_sign_2 10 _ rfl) (bX4_sign_2 11 _ rfl) (bX4_sign_2 12 _ rfl)
theorem dX4_sign_45 : decode cX4_sign 45 = .ok (.iconst 0, 1) := dz_3 (bX4_sign_2 13 _ rfl)
theorem dX4_sign_46 : decode cX4_sign 46 = .ok (.istore_n 3, 1) := dz_62 (bX4_sign_2 14 _ rfl)
theorem dX4_sign_47 : decode cX4_sign 47 = .ok (.iload_n 1, 1) := dz_27 (bX4_sign_2 15 _ rfl)
theorem dX4_sign_48 : decode cX4_sign 48 = .ok (.bipush 123, 2) := dz_16 (bX4_sign_3 0 _ rfl) (bX4_sign_3 1 _ rfl)
theorem dX4_sign_50 : decode cX4_sign 50 = .ok (.if_icmp .eq 105, 3) := dz_159 (bX4_sign_3 2 _ rfl) (bX4_sign_3 3 _ rfl) (bX4_sign_3 4 _ rfl)
theorem dX4_sign_53 : decode cX4_sign 53 = .ok (.iload_n 1, 1) := dz_27 (bX4_sign_3 5 _ rfl)
theorem dX4_sign_54 : decode cX4_sign 54 = .ok (.bipush 125, 2) := dz_16 (bX4_sign_3 6 _ rfl) (bX4_sign_3 7 _ rfl)
theorem dX4_sign_56 : decode cX4_sign 56 = .ok (.if_icmp .eq 99, 3) := dz_159 (bX4_sign_3 8 _ rfl) (bX4_sign_3 9 _ rfl) (bX4_sign_3 10 _ rfl)
theorem dX4_sign_59 : decode cX4_sign 59 = .ok (.iload_n 1, 1) := dz_27 (bX4_sign_3 11 _ rfl)
theorem dX4_sign_60 : decode cX4_sign 60 = .ok (.bipush 40, 2) := dz_16 (bX4_sign_3 12 _ rfl) (bX4_sign_3 13 _ rfl)
theorem dX4_sign_62 : decode cX4_sign 62 = .ok (.if_icmp .eq 93, 3) := dz_159 (bX4_sign_3 14 _ rfl) (bX4_sign_3 15 _ rfl) (bX4_sign_4 0 _ rfl)
theorem dX4_sign_65 : decode cX4_sign 65 = .ok (.iload_n 1, 1) := dz_27 (bX4_sign_4 1 _ rfl)
theorem dX4_sign_66 : decode cX4_sign 66 = .ok (.bipush 41, 2) := dz_16 (bX4_sign_4 2 _ rfl) (bX4_sign_4 3 _ rfl)
theorem dX4_sign_68 : decode cX4_sign 68 = .ok (.if_icmp .eq 87, 3) := dz_159 (bX4_sign_4 4 _ rfl) (bX4_sign_4 5 _ rfl) (bX4_sign_4 6 _ rfl)
theorem dX4_sign_71 : decode cX4_sign 71 = .ok (.iload_n 1, 1) := dz_27 (bX4_sign_4 7 _ rfl)
theorem dX4_sign_72 : decode cX4_sign 72 = .ok (.bipush 91, 2) := dz_16 (bX4_sign_4 8 _ rfl) (bX4_sign_4 9 _ rfl)
theorem dX4_sign_74 : decode cX4_sign 74 = .ok (.if_icmp .eq 81, 3) := dz_159 (bX4_sign_4 10 _ rfl) (bX4_sign_4 11 _ rfl) (bX4_sign_4 12 _ rfl)
theorem dX4_sign_77 : decode cX4_sign 77 = .ok (.iload_n 1, 1) := dz_27 (bX4_sign_4 13 _ rfl)
theorem dX4_sign_78 : decode cX4_sign 78 = .ok (.bipush 93, 2) := dz_16 (bX4_sign_4 14 _ rfl) (bX4_sign_4 15 _ rfl)
theorem dX4_sign_80 : decode cX4_sign 80 = .ok (.if_icmp .eq 75, 3) := dz_159 (bX4_sign_5 0 _ rfl) (bX4_sign_5 1 _ rfl) (bX4_sign_5 2 _ rfl)
theorem dX4_sign_83 : decode cX4_sign 83 = .ok (.iload_n 1, 1) := dz_27 (bX4_sign_5 3 _ rfl)
theorem dX4_sign_84 : decode cX4_sign 84 = .ok (.bipush 59, 2) := dz_16 (bX4_sign_5 4 _ rfl) (bX4_sign_5 5 _ rfl)
theorem dX4_sign_86 : decode cX4_sign 86 = .ok (.if_icmp .eq 69, 3) := dz_159 (bX4_sign_5 6 _ rfl) (bX4_sign_5 7 _ rfl) (bX4_sign_5 8 _ rfl)
theorem dX4_sign_89 : decode cX4_sign 89 = .ok (.iload_n 1, 1) := dz_27 (bX4_sign_5 9 _ rfl)
theorem dX4_sign_90 : decode cX4_sign 90 = .ok (.bipush 44, 2) := dz_16 (bX4_sign_5 10 _ rfl) (bX4_sign_5 11 _ rfl)
theorem dX4_sign_92 : decode cX4_sign 92 = .ok (.if_icmp .eq 63, 3) := dz_159 (bX4_sign_5 12 _ rfl) (bX4_sign_5 13 _ rfl) (bX4_sign_5 14 _ rfl)
theorem dX4_sign_95 : decode cX4_sign 95 = .ok (.iload_n 1, 1) := dz_27 (bX4_sign_5 15 _ rfl)
theorem dX4_sign_96 : decode cX4_sign 96 = .ok (.bipush 46, 2) := dz_16 (bX4_sign_6 0 _ rfl) (bX4_sign_6 1 _ rfl)
theorem dX4_sign_98 : decode cX4_sign 98 = .ok (.if_icmp .eq 57, 3) := dz_159 (bX4_sign_6 2 _ rfl) (bX4_sign_6 3 _ rfl) (bX4_sign_6 4 _ rfl)
theorem dX4_sign_101 : decode cX4_sign 101 = .ok (.iload_n 1, 1) := dz_27 (bX4_sign_6 5 _ rfl)
theorem dX4_sign_102 : decode cX4_sign 102 = .ok (.bipush 58, 2) := dz_16 (bX4_sign_6 6 _ rfl) (bX4_sign_6 7 _ rfl)
theorem dX4_sign_104 : decode cX4_sign 104 = .ok (.if_icmp .eq 51, 3) := dz_159 (bX4_sign_6 8 _ rfl) (bX4_sign_6 9 _ rfl) (bX4_sign_6 10 _ rfl)
theorem dX4_sign_107 : decode cX4_sign 107 = .ok (.iload_n 1, 1) := dz_27 (bX4_sign_6 11 _ rfl)
theorem dX4_sign_108 : decode cX4_sign 108 = .ok (.bipush 61, 2) := dz_16 (bX4_sign_6 12 _ rfl) (bX4_sign_6 13 _ rfl)
theorem dX4_sign_110 : decode cX4_sign 110 = .ok (.if_icmp .eq 45, 3) := dz_159 (bX4_sign_6 14 _ rfl) (bX4_sign_6 15 _ rfl) (bX4_sign_7 0 _ rfl)
theorem dX4_sign_113 : decode cX4_sign 113 = .ok (.iload_n 1, 1) := dz_27 (bX4_sign_7 1 _ rfl)
theorem dX4_sign_114 : decode cX4_sign 114 = .ok (.bipush 60, 2) := dz_16 (bX4_sign_7 2 _ rfl) (bX4_sign_7 3 _ rfl)
theorem dX4_sign_116 : decode cX4_sign 116 = .ok (.if_icmp .eq 39, 3) := dz_159 (bX4_sign_7 4 _ rfl) (bX4_sign_7 5 _ rfl) (bX4_sign_7 6 _ rfl)
theorem dX4_sign_119 : decode cX4_sign 119 = .ok (.iload_n 1, 1) := dz_27 (bX4_sign_7 7 _ rfl)
theorem dX4_sign_120 : decode cX4_sign 120 = .ok (.bipush 43, 2) := dz_16 (bX4_sign_7 8 _ rfl) (bX4_sign_7 9 _ rfl)
theorem dX4_sign_122 : decode cX4_sign 122 = .ok (.if_icmp .eq 33, 3) := dz_159 (bX4_sign_7 10 _ rfl) (bX4_sign_7 11 _ rfl) (bX4_sign_7 12 _ rfl)
theorem dX4_sign_125 : decode cX4_sign 125 = .ok (.iload_n 1, 1) := dz_27 (bX4_sign_7 13 _ rfl)
theorem dX4_sign_126 : decode cX4_sign 126 = .ok (.bipush 45, 2) := dz_16 (bX4_sign_7 14 _ rfl) (bX4_sign_7 15 _ rfl)
theorem dX4_sign_128 : decode cX4_sign 128 = .ok (.if_icmp .eq 27, 3) := dz_159 (bX4_sign_8 0 _ rfl) (bX4_sign_8 1 _ rfl) (bX4_sign_8 2 _ rfl)
theorem dX4_sign_131 : decode cX4_sign 131 = .ok (.iload_n 1, 1) := dz_27 (bX4_sign_8 3 _ rfl)
theorem dX4_sign_132 : decode cX4_sign 132 = .ok (.bipush 42, 2) := dz_16 (bX4_sign_8 4 _ rfl) (bX4_sign_8 5 _ rfl)
theorem dX4_sign_134 : decode cX4_sign 134 = .ok (.if_icmp .eq 21, 3) := dz_159 (bX4_sign_8 6 _ rfl) (bX4_sign_8 7 _ rfl) (bX4_sign_8 8 _ rfl)
theorem dX4_sign_137 : decode cX4_sign 137 = .ok (.iload_n 1, 1) := dz_27 (bX4_sign_8 9 _ rfl)
theorem dX4_sign_138 : decode cX4_sign 138 = .ok (.bipush 47, 2) := dz_16 (bX4_sign_8 10 _ rfl) (bX4_sign_8 11 _ rfl)
theorem dX4_sign_140 : decode cX4_sign 140 = .ok (.if_icmp .eq 15, 3) := dz_159 (bX4_sign_8 12 _ rfl) (bX4_sign_8 13 _ rfl) (bX4_sign_8 14 _ rfl)
theorem dX4_sign_143 : decode cX4_sign 143 = .ok (.iload_n 1, 1) := dz_27 (bX4_sign_8 15 _ rfl)
theorem dX4_sign_144 : decode cX4_sign 144 = .ok (.bipush 37, 2) := dz_16 (bX4_sign_9 0 _ rfl) (bX4_sign_9 1 _ rfl)
theorem dX4_sign_146 : decode cX4_sign 146 = .ok (.if_icmp .eq 9, 3) := dz_159 (bX4_sign_9 2 _ rfl) (bX4_sign_9 3 _ rfl) (bX4_sign_9 4 _ rfl)
theorem dX4_sign_149 : decode cX4_sign 149 = .ok (.iload_n 1, 1) := dz_27 (bX4_sign_9 5 _ rfl)
theorem dX4_sign_150 : decode cX4_sign 150 = .ok (.bipush 33, 2) := dz_16 (bX4_sign_9 6 _ rfl) (bX4_sign_9 7 _ rfl)
theorem dX4_sign_152 : decode cX4_sign 152 = .ok (.if_icmp .ne 7, 3) := dz_160 (bX4_sign_9 8 _ rfl) (bX4_sign_9 9 _ rfl) (bX4_sign_9 10 _ rfl)
theorem dX4_sign_155 : decode cX4_sign 155 = .ok (.iconst 1, 1) := dz_4 (bX4_sign_9 11 _ rfl)
theorem dX4_sign_156 : decode cX4_sign 156 = .ok (.goto 4, 3) := dz_167 (bX4_sign_9 12 _ rfl) (bX4_sign_9 13 _ rfl) (bX4_sign_9 14 _ rfl)
theorem dX4_sign_159 : decode cX4_sign 159 = .ok (.iconst 0, 1) := dz_3 (bX4_sign_9 15 _ rfl)
theorem dX4_sign_160 : decode cX4_sign 160 = .ok (.istore 4, 2) := dz_54 (bX4_sign_10 0 _ rfl) (bX4_sign_10 1 _ rfl)
theorem dX4_sign_162 : decode cX4_sign 162 = .ok (.aload_n 0, 1) := dz_42 (bX4_sign_10 2 _ rfl)
theorem dX4_sign_163 : decode cX4_sign 163 = .ok (.iload_n 3, 1) := dz_29 (bX4_sign_10 3 _ rfl)
theorem dX4_sign_164 : decode cX4_sign 164 = .ok (.ifCond .ne 8, 3) := dz_154 (bX4_sign_10 4 _ rfl) (bX4_sign_10 5 _ rfl) (bX4_sign_10 6 _ rfl)
theorem dX4_sign_167 : decode cX4_sign 167 = .ok (.iload 4, 2) := dz_21 (bX4_sign_10 7 _ rfl) (bX4_sign_10 8 _ rfl)
theorem dX4_sign_169 : decode cX4_sign 169 = .ok (.ifCond .eq 7, 3) := dz_153 (bX4_sign_10 9 _ rfl) (bX4_sign_10 10 _ rfl) (bX4_sign_10 11 _ rfl)
theorem dX4_sign_172 : decode cX4_sign 172 = .ok (.iconst 1, 1) := dz_4 (bX4_sign_10 12 _ rfl)
theorem dX4_sign_173 : decode cX4_sign 173 = .ok (.goto 4, 3) := dz_167 (bX4_sign_10 13 _ rfl) (bX4_sign_10 14 _ rfl) (bX4_sign_10 15 _ rfl)
theorem dX4_sign_176 : decode cX4_sign 176 = .ok (.iconst 0, 1) := dz_3 (bX4_sign_11 0 _ rfl)
theorem dX4_sign_177 : decode cX4_sign 177 = .ok (.invokevirtual 58, 3) := dz_182 (bX4_sign_11 1 _ rfl) (bX4_sign_11 2 _ rfl) (bX4_sign_11 3 _ rfl)
theorem dX4_sign_180 : decode cX4_sign 180 = .ok (.aload_n 0, 1) := dz_42 (bX4_sign_11 4 _ rfl)
theorem dX4_sign_181 : decode cX4_sign 181 = .ok (.iconst 3, 1) := dz_6 (bX4_sign_11 5 _ rfl)
theorem dX4_sign_182 : decode cX4_sign 182 = .ok (.putfield 40, 3) := dz_181 (bX4_sign_11 6 _ rfl) (bX4_sign_11 7 _ rfl) (bX4_sign_11 8 _ rfl)
theorem dX4_sign_185 : decode cX4_sign 185 = .ok (.aload_n 0, 1) := dz_42 (bX4_sign_11 9 _ rfl)
theorem dX4_sign_186 : decode cX4_sign 186 = .ok (.aload_n 0, 1) := dz_42 (bX4_sign_11 10 _ rfl)
theorem dX4_sign_187 : decode cX4_sign 187 = .ok (.getfield 31, 3) := dz_180 (bX4_sign_11 11 _ rfl) (bX4_sign_11 12 _ rfl) (bX4_sign_11 13 _ rfl)
theorem dX4_sign_190 : decode cX4_sign 190 = .ok (.iload_n 3, 1) := dz_29 (bX4_sign_11 14 _ rfl)
theorem dX4_sign_191 : decode cX4_sign 191 = .ok (.ifCond .eq 7, 3) := dz_153 (bX4_sign_11 15 _ rfl) (bX4_sign_12 0 _ rfl) (bX4_sign_12 1 _ rfl)
theorem dX4_sign_194 : decode cX4_sign 194 = .ok (.iconst 2, 1) := dz_5 (bX4_sign_12 2 _ rfl)
theorem dX4_sign_195 : decode cX4_sign 195 = .ok (.goto 4, 3) := dz_167 (bX4_sign_12 3 _ rfl) (bX4_sign_12 4 _ rfl) (bX4_sign_12 5 _ rfl)
theorem dX4_sign_198 : decode cX4_sign 198 = .ok (.iconst 1, 1) := dz_4 (bX4_sign_12 6 _ rfl)
theorem dX4_sign_199 : decode cX4_sign 199 = .ok (.iadd, 1) := dz_96 (bX4_sign_12 7 _ rfl)
theorem dX4_sign_200 : decode cX4_sign 200 = .ok (.putfield 37, 3) := dz_181 (bX4_sign_12 8 _ rfl) (bX4_sign_12 9 _ rfl) (bX4_sign_12 10 _ rfl)
theorem dX4_sign_203 : decode cX4_sign 203 = .ok (.return_, 1) := dz_177 (bX4_sign_12 11 _ rfl)
def c_X4_sign_177 (g : State) (t0 : Nat) (x3 : Int32) (y0 : Int32) (y1 : Nat) (w : ch_W) : Option (Except Nat Unit × ch_W) := (ch_rc w (some y1) 5).bind fun _ => ch_tb (c_X4_must g y1 y0 w) (fun a w => (.error a, w)) fun _ w3 => (ch_pI w3 (some t0) 5 fX4_kind 3).bind fun w4 => (ch_gI w4 (some t0) 5 fX4_from).bind fun v5 => if x3 = 0 then ((ch_pI w4 (some t0) 5 fX4_to (v5 + 1)).bind fun w6 => some ((.ok (), w6))) else ((ch_pI w4 (some t0) 5 fX4_to (v5 + 2)).bind fun w7 => some ((.ok (), w7)))
theorem s_X4_sign_177 {g : State} {t0 : Nat} {x3 : Int32} {y0 : Int32} {y1 : Nat} {w : ch_W} {res : Except Nat Unit × ch_W} {Q : Outcome → ch_W → Prop} (h : c_X4_sign_177 g t0 x3 y0 y1 w = some res) (hk : (ch_xV Q) res) : ch_FT g true mX4_sign 8 177 [some (va_rf (some t0)), none, none, some (.int x3), none] [.int y0, va_rf (some y1)] (w) Q := by
  unfold c_X4_sign_177 at h
  obtain ⟨_, hb1, h⟩ := ch_bd h
  refine ch_iv yX4_must prog_7_method_2_code 2 none (ci := 4) (q := (RX4, TX4, 9)) (b := y1) (d' := 7) (av := [.int y0]) (rest := []) rfl dX4_sign_177 q561 q563 rfl qs4 q564 can_X4_must (Nat.le_of_ble_eq_true rfl) (Nat.le_of_ble_eq_true rfl) (ch_rts hb1) (cp_tV h (fun p hp Q' hq => s_X4_must hp hq) (fun w3 h => ?_) (fun a w1 h => ?_))
  · refine ch_aload_n 0 (some t0) dX4_sign_180 rfl (ch_iconst _ 3 dX4_sign_181 rfl (cp_pI (ci := 4) (k := 2) dX4_sign_182 fl_X4_40 rfl rfl rfl h (fun w4 h => ?_)))
    refine ch_aload_n 0 (some t0) dX4_sign_185 rfl (ch_aload_n 0 (some t0) dX4_sign_186 rfl (cp_gI (ci := 4) (k := 3) dX4_sign_187 fl_X4_31 rfl h (fun v5 h => ?_)))
    refine ch_iload_n 3 _ dX4_sign_190 rfl (cp_if_eq _ (tgt := 198) dX4_sign_191 rfl h (fun h => ?_) (fun h => ?_))
    · refine ch_iconst _ 1 dX4_sign_198 rfl (ch_iadd _ _ dX4_sign_199 (cp_pI (ci := 4) (k := 4) dX4_sign_200 fl_X4_37 rfl rfl rfl h (fun w6 h => ?_)))
      obtain rfl := Option.some.inj h
      exact ch_return dX4_sign_203 rfl hk
    · refine ch_iconst _ 2 dX4_sign_194 rfl (ch_goto 199 dX4_sign_195 rfl (ch_iadd _ _ dX4_sign_199 (cp_pI (ci := 4) (k := 4) dX4_sign_200 fl_X4_37 rfl rfl rfl h (fun w7 h => ?_))))
      obtain rfl := Option.some.inj h
      exact ch_return dX4_sign_203 rfl hk
  · subst h
    exact ch_th rfl hk

def c_X4_sign_172 (g : State) (t0 : Nat) (x3 : Int32) (y0 : Nat) (w : ch_W) : Option (Except Nat Unit × ch_W) := c_X4_sign_177 g t0 x3 1 y0 w
theorem s_X4_sign_172 {g : State} {t0 : Nat} {x3 : Int32} {y0 : Nat} {w : ch_W} {res : Except Nat Unit × ch_W} {Q : Outcome → ch_W → Prop} (h : c_X4_sign_172 g t0 x3 y0 w = some res) (hk : (ch_xV Q) res) : ch_FT g true mX4_sign 8 172 [some (va_rf (some t0)), none, none, some (.int x3), none] [va_rf (some y0)] (w) Q := by
  unfold c_X4_sign_172 at h
  exact ch_iconst _ 1 dX4_sign_172 rfl (ch_goto 177 dX4_sign_173 rfl (ch_FT.wk (ch_wS (ch_wN (ch_wN (ch_wS (ch_wN ch_w0))))) (s_X4_sign_177  h hk)))

def c_X4_sign_160 (g : State) (t0 : Nat) (x3 : Int32) (y0 : Int32) (w : ch_W) : Option (Except Nat Unit × ch_W) := if x3 = 0 then (if y0 = 0 then (c_X4_sign_177 g t0 x3 0 t0 w) else (c_X4_sign_172 g t0 x3 t0 w)) else (c_X4_sign_172 g t0 x3 t0 w)
theorem s_X4_sign_160 {g : State} {t0 : Nat} {x3 : Int32} {y0 : Int32} {w : ch_W} {res : Except Nat Unit × ch_W} {Q : Outcome → ch_W → Prop} (h : c_X4_sign_160 g t0 x3 y0 w = some res) (hk : (ch_xV Q) res) : ch_FT g true mX4_sign 8 160 [some (va_rf (some t0)), none, none, some (.int x3), none] [.int y0] (w) Q := by
  unfold c_X4_sign_160 at h
  refine ch_istore 4 _ (ls1 := [some (va_rf (some t0)), none, none, some (.int x3), some (.int y0)]) dX4_sign_160 (Nat.le_of_ble_eq_true rfl) rfl (ch_aload_n 0 (some t0) dX4_sign_162 rfl (ch_iload_n 3 _ dX4_sign_163 rfl (cp_if_ne _ (tgt := 172) dX4_sign_164 rfl h (fun h => ?_) (fun h => ?_))))
  · exact ch_FT.wk (ch_wS (ch_wN (ch_wN (ch_wS (ch_wN ch_w0))))) (s_X4_sign_172  h hk)
  · refine ch_iload 4 _ dX4_sign_167 rfl (cp_if_eq _ (tgt := 176) dX4_sign_169 rfl h (fun h => ?_) (fun h => ?_))
    · exact ch_iconst _ 0 dX4_sign_176 rfl (ch_FT.wk (ch_wS (ch_wN (ch_wN (ch_wS (ch_wN ch_w0))))) (s_X4_sign_177  h hk))
    · exact ch_FT.wk (ch_wS (ch_wN (ch_wN (ch_wS (ch_wN ch_w0))))) (s_X4_sign_172  h hk)

def c_X4_sign_155 (g : State) (t0 : Nat) (x3 : Int32)  (w : ch_W) : Option (Except Nat Unit × ch_W) := c_X4_sign_160 g t0 x3 1 w
theorem s_X4_sign_155 {g : State} {t0 : Nat} {x3 : Int32} {w : ch_W} {res : Except Nat Unit × ch_W} {Q : Outcome → ch_W → Prop} (h : c_X4_sign_155 g t0 x3 w = some res) (hk : (ch_xV Q) res) : ch_FT g true mX4_sign 8 155 [some (va_rf (some t0)), none, none, some (.int x3), none] [] (w) Q := by
  unfold c_X4_sign_155 at h
  exact ch_iconst _ 1 dX4_sign_155 rfl (ch_goto 160 dX4_sign_156 rfl (ch_FT.wk (ch_wS (ch_wN (ch_wN (ch_wS (ch_wN ch_w0))))) (s_X4_sign_160  h hk)))

def c_X4_sign_46 (g : State) (t0 : Nat) (x1 : Int32) (y0 : Int32) (w : ch_W) : Option (Except Nat Unit × ch_W) := if x1 = 123 then (c_X4_sign_155 g t0 y0 w) else (if x1 = 125 then (c_X4_sign_155 g t0 y0 w) else (if x1 = 40 then (c_X4_sign_155 g t0 y0 w) else (if x1 = 41 then (c_X4_sign_155 g t0 y0 w) else (if x1 = 91 then (c_X4_sign_155 g t0 y0 w) else (if x1 = 93 then (c_X4_sign_155 g t0 y0 w) else (if x1 = 59 then (c_X4_sign_155 g t0 y0 w) else (if x1 = 44 then (c_X4_sign_155 g t0 y0 w) else (if x1 = 46 then (c_X4_sign_155 g t0 y0 w) else (if x1 = 58 then (c_X4_sign_155 g t0 y0 w) else (if x1 = 61 then (c_X4_sign_155 g t0 y0 w) else (if x1 = 60 then (c_X4_sign_155 g t0 y0 w) else (if x1 = 43 then (c_X4_sign_155 g t0 y0 w) else (if x1 = 45 then (c_X4_sign_155 g t0 y0 w) else (if x1 = 42 then (c_X4_sign_155 g t0 y0 w) else (if x1 = 47 then (c_X4_sign_155 g t0 y0 w) else (if x1 = 37 then (c_X4_sign_155 g t0 y0 w) else (if x1 = 33 then (c_X4_sign_155 g t0 y0 w) else (c_X4_sign_160 g t0 y0 0 w))))))))))))))))))
theorem s_X4_sign_46 {g : State} {t0 : Nat} {x1 : Int32} {y0 : Int32} {w : ch_W} {res : Except Nat Unit × ch_W} {Q : Outcome → ch_W → Prop} (h : c_X4_sign_46 g t0 x1 y0 w = some res) (hk : (ch_xV Q) res) : ch_FT g true mX4_sign 8 46 [some (va_rf (some t0)), some (.int x1), none, none, none] [.int y0] (w) Q := by
  unfold c_X4_sign_46 at h
  refine ch_istore_n 3 _ (ls1 := [some (va_rf (some t0)), some (.int x1), none, some (.int y0), none]) dX4_sign_46 (Nat.le_of_ble_eq_true rfl) rfl (ch_iload_n 1 _ dX4_sign_47 rfl (ch_bipush _ 123 dX4_sign_48 rfl (cp_icmp_eq _ _ (tgt := 155) dX4_sign_50 rfl h (fun h => ?_) (fun h => ?_))))
  · exact ch_FT.wk (ch_wS (ch_wN (ch_wN (ch_wS (ch_wN ch_w0))))) (s_X4_sign_155  h hk)
  · refine ch_iload_n 1 _ dX4_sign_53 rfl (ch_bipush _ 125 dX4_sign_54 rfl (cp_icmp_eq _ _ (tgt := 155) dX4_sign_56 rfl h (fun h => ?_) (fun h => ?_)))
    · exact ch_FT.wk (ch_wS (ch_wN (ch_wN (ch_wS (ch_wN ch_w0))))) (s_X4_sign_155  h hk)
    · refine ch_iload_n 1 _ dX4_sign_59 rfl (ch_bipush _ 40 dX4_sign_60 rfl (cp_icmp_eq _ _ (tgt := 155) dX4_sign_62 rfl h (fun h => ?_) (fun h => ?_)))
      · exact ch_FT.wk (ch_wS (ch_wN (ch_wN (ch_wS (ch_wN ch_w0))))) (s_X4_sign_155  h hk)
      · refine ch_iload_n 1 _ dX4_sign_65 rfl (ch_bipush _ 41 dX4_sign_66 rfl (cp_icmp_eq _ _ (tgt := 155) dX4_sign_68 rfl h (fun h => ?_) (fun h => ?_)))
        · exact ch_FT.wk (ch_wS (ch_wN (ch_wN (ch_wS (ch_wN ch_w0))))) (s_X4_sign_155  h hk)
        · refine ch_iload_n 1 _ dX4_sign_71 rfl (ch_bipush _ 91 dX4_sign_72 rfl (cp_icmp_eq _ _ (tgt := 155) dX4_sign_74 rfl h (fun h => ?_) (fun h => ?_)))
          · exact ch_FT.wk (ch_wS (ch_wN (ch_wN (ch_wS (ch_wN ch_w0))))) (s_X4_sign_155  h hk)
          · refine ch_iload_n 1 _ dX4_sign_77 rfl (ch_bipush _ 93 dX4_sign_78 rfl (cp_icmp_eq _ _ (tgt := 155) dX4_sign_80 rfl h (fun h => ?_) (fun h => ?_)))
            · exact ch_FT.wk (ch_wS (ch_wN (ch_wN (ch_wS (ch_wN ch_w0))))) (s_X4_sign_155  h hk)
            · refine ch_iload_n 1 _ dX4_sign_83 rfl (ch_bipush _ 59 dX4_sign_84 rfl (cp_icmp_eq _ _ (tgt := 155) dX4_sign_86 rfl h (fun h => ?_) (fun h => ?_)))
              · exact ch_FT.wk (ch_wS (ch_wN (ch_wN (ch_wS (ch_wN ch_w0))))) (s_X4_sign_155  h hk)
              · refine ch_iload_n 1 _ dX4_sign_89 rfl (ch_bipush _ 44 dX4_sign_90 rfl (cp_icmp_eq _ _ (tgt := 155) dX4_sign_92 rfl h (fun h => ?_) (fun h => ?_)))
                · exact ch_FT.wk (ch_wS (ch_wN (ch_wN (ch_wS (ch_wN ch_w0))))) (s_X4_sign_155  h hk)
                · refine ch_iload_n 1 _ dX4_sign_95 rfl (ch_bipush _ 46 dX4_sign_96 rfl (cp_icmp_eq _ _ (tgt := 155) dX4_sign_98 rfl h (fun h => ?_) (fun h => ?_)))
                  · exact ch_FT.wk (ch_wS (ch_wN (ch_wN (ch_wS (ch_wN ch_w0))))) (s_X4_sign_155  h hk)
                  · refine ch_iload_n 1 _ dX4_sign_101 rfl (ch_bipush _ 58 dX4_sign_102 rfl (cp_icmp_eq _ _ (tgt := 155) dX4_sign_104 rfl h (fun h => ?_) (fun h => ?_)))
                    · exact ch_FT.wk (ch_wS (ch_wN (ch_wN (ch_wS (ch_wN ch_w0))))) (s_X4_sign_155  h hk)
                    · refine ch_iload_n 1 _ dX4_sign_107 rfl (ch_bipush _ 61 dX4_sign_108 rfl (cp_icmp_eq _ _ (tgt := 155) dX4_sign_110 rfl h (fun h => ?_) (fun h => ?_)))
                      · exact ch_FT.wk (ch_wS (ch_wN (ch_wN (ch_wS (ch_wN ch_w0))))) (s_X4_sign_155  h hk)
                      · refine ch_iload_n 1 _ dX4_sign_113 rfl (ch_bipush _ 60 dX4_sign_114 rfl (cp_icmp_eq _ _ (tgt := 155) dX4_sign_116 rfl h (fun h => ?_) (fun h => ?_)))
                        · exact ch_FT.wk (ch_wS (ch_wN (ch_wN (ch_wS (ch_wN ch_w0))))) (s_X4_sign_155  h hk)
                        · refine ch_iload_n 1 _ dX4_sign_119 rfl (ch_bipush _ 43 dX4_sign_120 rfl (cp_icmp_eq _ _ (tgt := 155) dX4_sign_122 rfl h (fun h => ?_) (fun h => ?_)))
                          · exact ch_FT.wk (ch_wS (ch_wN (ch_wN (ch_wS (ch_wN ch_w0))))) (s_X4_sign_155  h hk)
                          · refine ch_iload_n 1 _ dX4_sign_125 rfl (ch_bipush _ 45 dX4_sign_126 rfl (cp_icmp_eq _ _ (tgt := 155) dX4_sign_128 rfl h (fun h => ?_) (fun h => ?_)))
                            · exact ch_FT.wk (ch_wS (ch_wN (ch_wN (ch_wS (ch_wN ch_w0))))) (s_X4_sign_155  h hk)
                            · refine ch_iload_n 1 _ dX4_sign_131 rfl (ch_bipush _ 42 dX4_sign_132 rfl (cp_icmp_eq _ _ (tgt := 155) dX4_sign_134 rfl h (fun h => ?_) (fun h => ?_)))
                              · exact ch_FT.wk (ch_wS (ch_wN (ch_wN (ch_wS (ch_wN ch_w0))))) (s_X4_sign_155  h hk)
                              · refine ch_iload_n 1 _ dX4_sign_137 rfl (ch_bipush _ 47 dX4_sign_138 rfl (cp_icmp_eq _ _ (tgt := 155) dX4_sign_140 rfl h (fun h => ?_) (fun h => ?_)))
                                · exact ch_FT.wk (ch_wS (ch_wN (ch_wN (ch_wS (ch_wN ch_w0))))) (s_X4_sign_155  h hk)
                                · refine ch_iload_n 1 _ dX4_sign_143 rfl (ch_bipush _ 37 dX4_sign_144 rfl (cp_icmp_eq _ _ (tgt := 155) dX4_sign_146 rfl h (fun h => ?_) (fun h => ?_)))
                                  · exact ch_FT.wk (ch_wS (ch_wN (ch_wN (ch_wS (ch_wN ch_w0))))) (s_X4_sign_155  h hk)
                                  · refine ch_iload_n 1 _ dX4_sign_149 rfl (ch_bipush _ 33 dX4_sign_150 rfl (cp_icmp_ne _ _ (tgt := 159) dX4_sign_152 rfl h (fun h => ?_) (fun h => ?_)))
                                    · exact ch_iconst _ 0 dX4_sign_159 rfl (ch_FT.wk (ch_wS (ch_wN (ch_wN (ch_wS (ch_wN ch_w0))))) (s_X4_sign_160  h hk))
                                    · exact ch_FT.wk (ch_wS (ch_wN (ch_wN (ch_wS (ch_wN ch_w0))))) (s_X4_sign_155  h hk)

def c_X4_sign_45 (g : State) (t0 : Nat) (x1 : Int32)  (w : ch_W) : Option (Except Nat Unit × ch_W) := c_X4_sign_46 g t0 x1 0 w
theorem s_X4_sign_45 {g : State} {t0 : Nat} {x1 : Int32} {w : ch_W} {res : Except Nat Unit × ch_W} {Q : Outcome → ch_W → Prop} (h : c_X4_sign_45 g t0 x1 w = some res) (hk : (ch_xV Q) res) : ch_FT g true mX4_sign 8 45 [some (va_rf (some t0)), some (.int x1), none, none, none] [] (w) Q := by
  unfold c_X4_sign_45 at h
  exact ch_iconst _ 0 dX4_sign_45 rfl (ch_FT.wk (ch_wS (ch_wS (ch_wN (ch_wN (ch_wN ch_w0))))) (s_X4_sign_46  h hk))

def c_X4_sign_41 (g : State) (t0 : Nat) (x1 : Int32)  (w : ch_W) : Option (Except Nat Unit × ch_W) := c_X4_sign_46 g t0 x1 1 w
theorem s_X4_sign_41 {g : State} {t0 : Nat} {x1 : Int32} {w : ch_W} {res : Except Nat Unit × ch_W} {Q : Outcome → ch_W → Prop} (h : c_X4_sign_41 g t0 x1 w = some res) (hk : (ch_xV Q) res) : ch_FT g true mX4_sign 8 41 [some (va_rf (some t0)), some (.int x1), none, none, none] [] (w) Q := by
  unfold c_X4_sign_41 at h
  exact ch_iconst _ 1 dX4_sign_41 rfl (ch_goto 46 dX4_sign_42 rfl (ch_FT.wk (ch_wS (ch_wS (ch_wN (ch_wN (ch_wN ch_w0))))) (s_X4_sign_46  h hk)))

def c_X4_sign_24 (g : State) (t0 : Nat) (x1 : Int32) (x2 : Int32)  (w : ch_W) : Option (Except Nat Unit × ch_W) := if x1 = x2 then (if x1 = 38 then (c_X4_sign_41 g t0 x1 w) else (if x1 = 124 then (c_X4_sign_41 g t0 x1 w) else (c_X4_sign_45 g t0 x1 w))) else (c_X4_sign_45 g t0 x1 w)
theorem s_X4_sign_24 {g : State} {t0 : Nat} {x1 : Int32} {x2 : Int32} {w : ch_W} {res : Except Nat Unit × ch_W} {Q : Outcome → ch_W → Prop} (h : c_X4_sign_24 g t0 x1 x2 w = some res) (hk : (ch_xV Q) res) : ch_FT g true mX4_sign 8 24 [some (va_rf (some t0)), some (.int x1), some (.int x2), none, none] [] (w) Q := by
  unfold c_X4_sign_24 at h
  refine ch_iload_n 1 _ dX4_sign_24 rfl (ch_iload_n 2 _ dX4_sign_25 rfl (cp_icmp_ne _ _ (tgt := 45) dX4_sign_26 rfl h (fun h => ?_) (fun h => ?_)))
  · exact ch_FT.wk (ch_wS (ch_wS (ch_wN (ch_wN (ch_wN ch_w0))))) (s_X4_sign_45  h hk)
  · refine ch_iload_n 1 _ dX4_sign_29 rfl (ch_bipush _ 38 dX4_sign_30 rfl (cp_icmp_eq _ _ (tgt := 41) dX4_sign_32 rfl h (fun h => ?_) (fun h => ?_)))
    · exact ch_FT.wk (ch_wS (ch_wS (ch_wN (ch_wN (ch_wN ch_w0))))) (s_X4_sign_41  h hk)
    · refine ch_iload_n 1 _ dX4_sign_35 rfl (ch_bipush _ 124 dX4_sign_36 rfl (cp_icmp_ne _ _ (tgt := 45) dX4_sign_38 rfl h (fun h => ?_) (fun h => ?_)))
      · exact ch_FT.wk (ch_wS (ch_wS (ch_wN (ch_wN (ch_wN ch_w0))))) (s_X4_sign_45  h hk)
      · exact ch_FT.wk (ch_wS (ch_wS (ch_wN (ch_wN (ch_wN ch_w0))))) (s_X4_sign_41  h hk)

def c_X4_sign (g : State) (t0 : Nat) (x1 : Int32) (x2 : Int32) (w : ch_W) : Option (Except Nat Unit × ch_W) := if x2 = 61 then (if x1 = 61 then (c_X4_sign_41 g t0 x1 w) else (if x1 = 33 then (c_X4_sign_41 g t0 x1 w) else (if x1 = 60 then (c_X4_sign_41 g t0 x1 w) else (c_X4_sign_24 g t0 x1 x2 w)))) else (c_X4_sign_24 g t0 x1 x2 w)
theorem s_X4_sign {g : State} {t0 : Nat} {x1 : Int32} {x2 : Int32} {w : ch_W} {res : Except Nat Unit × ch_W} {Q : Outcome → ch_W → Prop} (h : c_X4_sign g t0 x1 x2 w = some res) (hk : (ch_xV Q) res) : ch_CT g true yX4_sign 8 [.ref t0, .int x1, .int x2] (w) Q := by
  unfold c_X4_sign at h
  refine ch_ctL mX4_sign (ls := [some (va_rf (some t0)), some (.int x1), some (.int x2), none, none]) q587 rfl (ch_lyr (r := some t0) (ch_lyi (ch_lyi ch_ly0))) (Nat.le_of_ble_eq_true rfl) rfl ?_
  refine ch_iload_n 2 _ dX4_sign_0 rfl (ch_bipush _ 61 dX4_sign_1 rfl (cp_icmp_ne _ _ (tgt := 24) dX4_sign_3 rfl h (fun h => ?_) (fun h => ?_)))
  · exact ch_FT.wk (ch_wS (ch_wS (ch_wS (ch_wN (ch_wN ch_w0))))) (s_X4_sign_24  h hk)
  · refine ch_iload_n 1 _ dX4_sign_6 rfl (ch_bipush _ 61 dX4_sign_7 rfl (cp_icmp_eq _ _ (tgt := 41) dX4_sign_9 rfl h (fun h => ?_) (fun h => ?_)))
    · exact ch_FT.wk (ch_wS (ch_wS (ch_wN (ch_wN (ch_wN ch_w0))))) (s_X4_sign_41  h hk)
    · refine ch_iload_n 1 _ dX4_sign_12 rfl (ch_bipush _ 33 dX4_sign_13 rfl (cp_icmp_eq _ _ (tgt := 41) dX4_sign_15 rfl h (fun h => ?_) (fun h => ?_)))
      · exact ch_FT.wk (ch_wS (ch_wS (ch_wN (ch_wN (ch_wN ch_w0))))) (s_X4_sign_41  h hk)
      · refine ch_iload_n 1 _ dX4_sign_18 rfl (ch_bipush _ 60 dX4_sign_19 rfl (cp_icmp_eq _ _ (tgt := 41) dX4_sign_21 rfl h (fun h => ?_) (fun h => ?_)))
        · exact ch_FT.wk (ch_wS (ch_wS (ch_wN (ch_wN (ch_wN ch_w0))))) (s_X4_sign_41  h hk)
        · exact ch_FT.wk (ch_wS (ch_wS (ch_wS (ch_wN (ch_wN ch_w0))))) (s_X4_sign_24  h hk)

theorem bX4_next_0 : ch_ck cX4_next 0 [42, 42, 180, 0, 37, 181, 0, 31, 42, 180, 0, 31, 42, 180, 0, 25] := ch_ckof (by decide +kernel)
theorem bX4_next_1 : ch_ck cX4_next 16 [162, 0, 44, 42, 180, 0, 21, 42, 180, 0, 31, 51, 16, 32, 159, 0] := ch_ckof (by decide +kernel)
theorem bX4_next_2 : ch_ck cX4_next 32 [17, 42, 180, 0, 21, 42, 180, 0, 31, 51, 16, 10, 160, 0, 16, 42] := ch_ckof (by decide +kernel)
theorem bX4_next_3 : ch_ck cX4_next 48 [89, 180, 0, 31, 4, 96, 181, 0, 31, 167, 255, 207, 42, 42, 180, 0] := ch_ckof (by decide +kernel)
theorem bX4_next_4 : ch_ck cX4_next 64 [31, 181, 0, 37, 42, 180, 0, 31, 42, 180, 0, 25, 160, 0, 9, 42] := ch_ckof (by decide +kernel)
theorem bX4_next_5 : ch_ck cX4_next 80 [3, 181, 0, 40, 177, 42, 180, 0, 21, 42, 180, 0, 31, 51, 60, 27] := ch_ckof (by decide +kernel)
theorem bX4_next_6 : ch_ck cX4_next 96 [184, 0, 43, 153, 0, 110, 42, 180, 0, 37, 42, 180, 0, 25, 162, 0] := ch_ckof (by decide +kernel)
theorem bX4_next_7 : ch_ck cX4_next 112 [46, 42, 180, 0, 21, 42, 180, 0, 37, 51, 184, 0, 43, 154, 0, 18] := ch_ckof (by decide +kernel)
theorem bX4_next_8 : ch_ck cX4_next 128 [42, 180, 0, 21, 42, 180, 0, 37, 51, 184, 0, 47, 153, 0, 16, 42] := ch_ckof (by decide +kernel)
theorem bX4_next_9 : ch_ck cX4_next 144 [89, 180, 0, 37, 4, 96, 181, 0, 37, 167, 255, 205, 42, 4, 181, 0] := ch_ckof (by decide +kernel)
theorem bX4_next_10 : ch_ck cX4_next 160 [40, 3, 61, 28, 178, 0, 50, 190, 162, 0, 38, 42, 180, 0, 40, 4] := ch_ckof (by decide +kernel)
theorem bX4_next_11 : ch_ck cX4_next 176 [160, 0, 30, 42, 42, 178, 0, 50, 28, 50, 182, 0, 54, 153, 0, 7] := ch_ckof (by decide +kernel)
theorem bX4_next_12 : ch_ck cX4_next 192 [6, 167, 0, 4, 4, 181, 0, 40, 132, 2, 1, 167, 255, 216, 167, 0] := ch_ckof (by decide +kernel)
theorem bX4_next_13 : ch_ck cX4_next 208 [113, 27, 184, 0, 47, 153, 0, 73, 42, 180, 0, 37, 42, 180, 0, 25] := ch_ckof (by decide +kernel)
theorem bX4_next_14 : ch_ck cX4_next 224 [162, 0, 31, 42, 180, 0, 21, 42, 180, 0, 37, 51, 184, 0, 47, 153] := ch_ckof (by decide +kernel)
theorem bX4_next_15 : ch_ck cX4_next 240 [0, 16, 42, 89, 180, 0, 37, 4, 96, 181, 0, 37, 167, 255, 220, 42] := ch_ckof (by decide +kernel)
theorem bX4_next_16 : ch_ck cX4_next 256 [42, 180, 0, 37, 42, 180, 0, 31, 100, 16, 9, 163, 0, 7, 4, 167] := ch_ckof (by decide +kernel)
theorem bX4_next_17 : ch_ck cX4_next 272 [0, 4, 3, 182, 0, 58, 42, 5, 181, 0, 40, 167, 0, 36, 42, 27] := ch_ckof (by decide +kernel)
theorem bX4_next_18 : ch_ck cX4_next 288 [42, 180, 0, 31, 4, 96, 42, 180, 0, 25, 162, 0, 17, 42, 180, 0] := ch_ckof (by decide +kernel)
theorem bX4_next_19 : ch_ck cX4_next 304 [21, 42, 180, 0, 31, 4, 96, 51, 167, 0, 4, 3, 182, 0, 62, 177] := ch_ckof (by decide +kernel)
theorem dX4_next_0 : decode cX4_next 0 = .ok (.aload_n 0, 1) := dz_42 (bX4_next_0 0 _ rfl)
theorem dX4_next_1 : decode cX4_next 1 = .ok (.aload_n 0, 1) := dz_42 (bX4_next_0 1 _ rfl)
theorem dX4_next_2 : decode cX4_next 2 = .ok (.getfield 37, 3) := dz_180 (bX4_next_0 2 _ rfl) (bX4_next_0 3 _ rfl) (bX4_next_0 4 _ rfl)
theorem dX4_next_5 : decode cX4_next 5 = .ok (.putfield 31, 3) := dz_181 (bX4_next_0 5 _ rfl) (bX4_next_0 6 _ rfl) (bX4_next_0 7 _ rfl)
theorem dX4_next_8 : decode cX4_next 8 = .ok (.aload_n 0, 1) := dz_42 (bX4_next_0 8 _ rfl)
theorem dX4_next_9 : decode cX4_next 9 = .ok (.getfield 31, 3) := dz_180 (bX4_next_0 9 _ rfl) (bX4_next_0 10 _ rfl) (bX4_next_0 11 _ rfl)
theorem dX4_next_12 : decode cX4_next 12 = .ok (.aload_n 0, 1) := dz_42 (bX4_next_0 12 _ rfl)
theorem dX4_next_13 : decode cX4_next 13 = .ok (.getfield 25, 3) := dz_180 (bX4_next_0 13 _ rfl) (bX4_next_0 14 _ rfl) (bX4_next_0 15 _ rfl)
theorem dX4_next_16 : decode cX4_next 16 = .ok (.if_icmp .ge 44, 3) := dz_162 (bX4_next_1 0 _ rfl) (bX4_next_1 1 _ rfl) (bX4_next_1 2 _ rfl)
theorem dX4_next_19 : decode cX4_next 19 = .ok (.aload_n 0, 1) := dz_42 (bX4_next_1 3 _ rfl)
theorem dX4_next_20 : decode cX4_next 20 = .ok (.getfield 21, 3) := dz_180 (bX4_next_1 4 _ rfl) (bX4_next_1 5 _ rfl) (bX4_next_1 6 _ rfl)
theorem dX4_next_23 : decode cX4_next 23 = .ok (.aload_n 0, 1) := dz_42 (bX4_next_1 7 _ rfl)
theorem dX4_next_24 : decode cX4_next 24 = .ok (.getfield 31, 3) := dz_180 (bX4_next_1 8 _ rfl) (bX4_next_1 9 _ rfl) (bX4_next_1 10 _ rfl)
theorem dX4_next_27 : decode cX4_next 27 = .ok (.baload, 1) := dz_51 (bX4_next_1 11 _ rfl)
theorem dX4_next_28 : decode cX4_next 28 = .ok (.bipush 32, 2) := dz_16 (bX4_next_1 12 _ rfl) (bX4_next_1 13 _ rfl)
theorem dX4_next_30 : decode cX4_next 30 = .ok (.if_icmp .eq 17, 3) := dz_159 (bX4_next_1 14 _ rfl) (bX4_next_1 15 _ rfl) (bX4_next_2 0 _ rfl)
theorem dX4_next_33 : decode cX4_next 33 = .ok (.aload_n 0, 1) := dz_42 (bX4_next_2 1 _ rfl)
theorem dX4_next_34 : decode cX4_next 34 = .ok (.getfield 21, 3) := dz_180 (bX4_next_2 2 _ rfl) (bX4_next_2 3 _ rfl) (bX4_next_2 4 _ rfl)
theorem dX4_next_37 : decode cX4_next 37 = .ok (.aload_n 0, 1) := dz_42 (bX4_next_2 5 _ rfl)
theorem dX4_next_38 : decode cX4_next 38 = .ok (.getfield 31, 3) := dz_180 (bX4_next_2 6 _ rfl) (bX4_next_2 7 _ rfl) (bX4_next_2 8 _ rfl)
theorem dX4_next_41 : decode cX4_next 41 = .ok (.baload, 1) := dz_51 (bX4_next_2 9 _ rfl)
theorem dX4_next_42 : decode cX4_next 42 = .ok (.bipush 10, 2) := dz_16 (bX4_next_2 10 _ rfl) (bX4_next_2 11 _ rfl)
theorem dX4_next_44 : decode cX4_next 44 = .ok (.if_icmp .ne 16, 3) := dz_160 (bX4_next_2 12 _ rfl) (bX4_next_2 13 _ rfl) (bX4_next_2 14 _ rfl)
theorem dX4_next_47 : decode cX4_next 47 = .ok (.aload_n 0, 1) := dz_42 (bX4_next_2 15 _ rfl)
theorem dX4_next_48 : decode cX4_next 48 = .ok (.dup, 1) := dz_89 (bX4_next_3 0 _ rfl)
theorem dX4_next_49 : decode cX4_next 49 = .ok (.getfield 31, 3) := dz_180 (bX4_next_3 1 _ rfl) (bX4_next_3 2 _ rfl) (bX4_next_3 3 _ rfl)
theorem dX4_next_52 : decode cX4_next 52 = .ok (.iconst 1, 1) := dz_4 (bX4_next_3 4 _ rfl)
theorem dX4_next_53 : decode cX4_next 53 = .ok (.iadd, 1) := dz_96 (bX4_next_3 5 _ rfl)
theorem dX4_next_54 : decode cX4_next 54 = .ok (.putfield 31, 3) := dz_181 (bX4_next_3 6 _ rfl) (bX4_next_3 7 _ rfl) (bX4_next_3 8 _ rfl)
theorem dX4_next_57 : decode cX4_next 57 = .ok (.goto (-49), 3) := dz_167 (bX4_next_3 9 _ rfl) (bX4_next_3 10 _ rfl) (bX4_next_3 11 _ rfl)
theorem dX4_next_60 : decode cX4_next 60 = .ok (.aload_n 0, 1) := dz_42 (bX4_next_3 12 _ rfl)
theorem dX4_next_61 : decode cX4_next 61 = .ok (.aload_n 0, 1) := dz_42 (bX4_next_3 13 _ rfl)
theorem dX4_next_62 : decode cX4_next 62 = .ok (.getfield 31, 3) := dz_180 (bX4_next_3 14 _ rfl) (bX4_next_3 15 _ rfl) (bX4_next_4 0 _ rfl)
theorem dX4_next_65 : decode cX4_next 65 = .ok (.putfield 37, 3) := dz_181 (bX4_next_4 1 _ rfl) (bX4_next_4 2 _ rfl) (bX4_next_4 3 _ rfl)
theorem dX4_next_68 : decode cX4_next 68 = .ok (.aload_n 0, 1) := dz_42 (bX4_next_4 4 _ rfl)
theorem dX4_next_69 : decode cX4_next 69 = .ok (.getfield 31, 3) := dz_180 (bX4_next_4 5 _ rfl) (bX4_next_4 6 _ rfl) (bX4_next_4 7 _ rfl)
theorem dX4_next_72 : decode cX4_next 72 = .ok (.aload_n 0, 1) := dz_42 (bX4_next_4 8 _ rfl)
theorem dX4_next_73 : decode cX4_next 73 = .ok (.getfield 25, 3) := dz_180 (bX4_next_4 9 _ rfl) (bX4_next_4 10 _ rfl) (bX4_next_4 11 _ rfl)
theorem dX4_next_76 : decode cX4_next 76 = .ok (.if_icmp .ne 9, 3) := dz_160 (bX4_next_4 12 _ rfl) (bX4_next_4 13 _ rfl) (bX4_next_4 14 _ rfl)
theorem dX4_next_79 : decode cX4_next 79 = .ok (.aload_n 0, 1) := dz_42 (bX4_next_4 15 _ rfl)
theorem dX4_next_80 : decode cX4_next 80 = .ok (.iconst 0, 1) := dz_3 (bX4_next_5 0 _ rfl)
theorem dX4_next_81 : decode cX4_next 81 = .ok (.putfield 40, 3) := dz_181 (bX4_next_5 1 _ rfl) (bX4_next_5 2 _ rfl) (bX4_next_5 3 _ rfl)
theorem dX4_next_84 : decode cX4_next 84 = .ok (.return_, 1) := dz_177 (bX4_next_5 4 _ rfl)
theorem dX4_next_85 : decode cX4_next 85 = .ok (.aload_n 0, 1) := dz_42 (bX4_next_5 5 _ rfl)
theorem dX4_next_86 : decode cX4_next 86 = .ok (.getfield 21, 3) := dz_180 (bX4_next_5 6 _ rfl) (bX4_next_5 7 _ rfl) (bX4_next_5 8 _ rfl)
theorem dX4_next_89 : decode cX4_next 89 = .ok (.aload_n 0, 1) := dz_42 (bX4_next_5 9 _ rfl)
theorem dX4_next_90 : decode cX4_next 90 = .ok (.getfield 31, 3) := dz_180 (bX4_next_5 10 _ rfl) (bX4_next_5 11 _ rfl) (bX4_next_5 12 _ rfl)
theorem dX4_next_93 : decode cX4_next 93 = .ok (.baload, 1) := dz_51 (bX4_next_5 13 _ rfl)
theorem dX4_next_94 : decode cX4_next 94 = .ok (.istore_n 1, 1) := dz_60 (bX4_next_5 14 _ rfl)
theorem dX4_next_95 : decode cX4_next 95 = .ok (.iload_n 1, 1) := dz_27 (bX4_next_5 15 _ rfl)
theorem dX4_next_96 : decode cX4_next 96 = .ok (.invokestatic 43, 3) := dz_184 (bX4_next_6 0 _ rfl) (bX4_next_6 1 _ rfl) (bX4_next_6 2 _ rfl)
theorem dX4_next_99 : decode cX4_next 99 = .ok (.ifCond .eq 110, 3) := dz_153 (bX4_next_6 3 _ rfl) (bX4_next_6 4 _ rfl) (bX4_next_6 5 _ rfl)
theorem dX4_next_102 : decode cX4_next 102 = .ok (.aload_n 0, 1) := dz_42 (bX4_next_6 6 _ rfl)
theorem dX4_next_103 : decode cX4_next 103 = .ok (.getfield 37, 3) := dz_180 (bX4_next_6 7 _ rfl) (bX4_next_6 8 _ rfl) (bX4_next_6 9 _ rfl)
theorem dX4_next_106 : decode cX4_next 106 = .ok (.aload_n 0, 1) := dz_42 (bX4_next_6 10 _ rfl)
theorem dX4_next_107 : decode cX4_next 107 = .ok (.getfield 25, 3) := dz_180 (bX4_next_6 11 _ rfl) (bX4_next_6 12 _ rfl) (bX4_next_6 13 _ rfl)
theorem dX4_next_110 : decode cX4_next 110 = .ok (.if_icmp .ge 46, 3) := dz_162 (bX4_next_6 14 _ rfl) (bX4_next_6 15 _ rfl) (bX4_next_7 0 _ rfl)
theorem dX4_next_113 : decode cX4_next 113 = .ok (.aload_n 0, 1) := dz_42 (bX4_next_7 1 _ rfl)
theorem dX4_next_114 : decode cX4_next 114 = .ok (.getfield 21, 3) := dz_180 (bX4_next_7 2 _ rfl) (bX4_next_7 3 _ rfl) (bX4_next_7 4 _ rfl)
theorem dX4_next_117 : decode cX4_next 117 = .ok (.aload_n 0, 1) := dz_42 (bX4_next_7 5 _ rfl)
theorem dX4_next_118 : decode cX4_next 118 = .ok (.getfield 37, 3) := dz_180 (bX4_next_7 6 _ rfl) (bX4_next_7 7 _ rfl) (bX4_next_7 8 _ rfl)
theorem dX4_next_121 : decode cX4_next 121 = .ok (.baload, 1) := dz_51 (bX4_next_7 9 _ rfl)
theorem dX4_next_122 : decode cX4_next 122 = .ok (.invokestatic 43, 3) := dz_184 (bX4_next_7 10 _ rfl) (bX4_next_7 11 _ rfl) (bX4_next_7 12 _ rfl)
theorem dX4_next_125 : decode cX4_next 125 = .ok (.ifCond .ne 18, 3) := dz_154 (bX4_next_7 13 _ rfl) (bX4_next_7 14 _ rfl) (bX4_next_7 15 _ rfl)
theorem dX4_next_128 : decode cX4_next 128 = .ok (.aload_n 0, 1) := dz_42 (bX4_next_8 0 _ rfl)
theorem dX4_next_129 : decode cX4_next 129 = .ok (.getfield 21, 3) := dz_180 (bX4_next_8 1 _ rfl) (bX4_next_8 2 _ rfl) (bX4_next_8 3 _ rfl)
theorem dX4_next_132 : decode cX4_next 132 = .ok (.aload_n 0, 1) := dz_42 (bX4_next_8 4 _ rfl)
theorem dX4_next_133 : decode cX4_next 133 = .ok (.getfield 37, 3) := dz_180 (bX4_next_8 5 _ rfl) (bX4_next_8 6 _ rfl) (bX4_next_8 7 _ rfl)
theorem dX4_next_136 : decode cX4_next 136 = .ok (.baload, 1) := dz_51 (bX4_next_8 8 _ rfl)
theorem dX4_next_137 : decode cX4_next 137 = .ok (.invokestatic 47, 3) := dz_184 (bX4_next_8 9 _ rfl) (bX4_next_8 10 _ rfl) (bX4_next_8 11 _ rfl)
theorem dX4_next_140 : decode cX4_next 140 = .ok (.ifCond .eq 16, 3) := dz_153 (bX4_next_8 12 _ rfl) (bX4_next_8 13 _ rfl) (bX4_next_8 14 _ rfl)
theorem dX4_next_143 : decode cX4_next 143 = .ok (.aload_n 0, 1) := dz_42 (bX4_next_8 15 _ rfl)
theorem dX4_next_144 : decode cX4_next 144 = .ok (.dup, 1) := dz_89 (bX4_next_9 0 _ rfl)
theorem dX4_next_145 : decode cX4_next 145 = .ok (.getfield 37, 3) := dz_180 (bX4_next_9 1 _ rfl) (bX4_next_9 2 _ rfl) (bX4_next_9 3 _ rfl)
theorem dX4_next_148 : decode cX4_next 148 = .ok (.iconst 1, 1) := dz_4 (bX4_next_9 4 _ rfl)
theorem dX4_next_149 : decode cX4_next 149 = .ok (.iadd, 1) := dz_96 (bX4_next_9 5 _ rfl)
theorem dX4_next_150 : decode cX4_next 150 = .ok (.putfield 37, 3) := dz_181 (bX4_next_9 6 _ rfl) (bX4_next_9 7 _ rfl) (bX4_next_9 8 _ rfl)
theorem dX4_next_153 : decode cX4_next 153 = .ok (.goto (-51), 3) := dz_167 (bX4_next_9 9 _ rfl) (bX4_next_9 10 _ rfl) (bX4_next_9 11 _ rfl)
theorem dX4_next_156 : decode cX4_next 156 = .ok (.aload_n 0, 1) := dz_42 (bX4_next_9 12 _ rfl)
theorem dX4_next_157 : decode cX4_next 157 = .ok (.iconst 1, 1) := dz_4 (bX4_next_9 13 _ rfl)
theorem dX4_next_158 : decode cX4_next 158 = .ok (.putfield 40, 3) := dz_181 (bX4_next_9 14 _ rfl) (bX4_next_9 15 _ rfl) (bX4_next_10 0 _ rfl)
theorem dX4_next_161 : decode cX4_next 161 = .ok (.iconst 0, 1) := dz_3 (bX4_next_10 1 _ rfl)
theorem dX4_next_162 : decode cX4_next 162 = .ok (.istore_n 2, 1) := dz_61 (bX4_next_10 2 _ rfl)
theorem dX4_next_163 : decode cX4_next 163 = .ok (.iload_n 2, 1) := dz_28 (bX4_next_10 3 _ rfl)
theorem dX4_next_164 : decode cX4_next 164 = .ok (.getstatic 50, 3) := dz_178 (bX4_next_10 4 _ rfl) (bX4_next_10 5 _ rfl) (bX4_next_10 6 _ rfl)
theorem dX4_next_167 : decode cX4_next 167 = .ok (.arraylength, 1) := dz_190 (bX4_next_10 7 _ rfl)
theorem dX4_next_168 : decode cX4_next 168 = .ok (.if_icmp .ge 38, 3) := dz_162 (bX4_next_10 8 _ rfl) (bX4_next_10 9 _ rfl) (bX4_next_10 10 _ rfl)
theorem dX4_next_171 : decode cX4_next 171 = .ok (.aload_n 0, 1) := dz_42 (bX4_next_10 11 _ rfl)
theorem dX4_next_172 : decode cX4_next 172 = .ok (.getfield 40, 3) := dz_180 (bX4_next_10 12 _ rfl) (bX4_next_10 13 _ rfl) (bX4_next_10 14 _ rfl)
theorem dX4_next_175 : decode cX4_next 175 = .ok (.iconst 1, 1) := dz_4 (bX4_next_10 15 _ rfl)
theorem dX4_next_176 : decode cX4_next 176 = .ok (.if_icmp .ne 30, 3) := dz_160 (bX4_next_11 0 _ rfl) (bX4_next_11 1 _ rfl) (bX4_next_11 2 _ rfl)
theorem dX4_next_179 : decode cX4_next 179 = .ok (.aload_n 0, 1) := dz_42 (bX4_next_11 3 _ rfl)
theorem dX4_next_180 : decode cX4_next 180 = .ok (.aload_n 0, 1) := dz_42 (bX4_next_11 4 _ rfl)
theorem dX4_next_181 : decode cX4_next 181 = .ok (.getstatic 50, 3) := dz_178 (bX4_next_11 5 _ rfl) (bX4_next_11 6 _ rfl) (bX4_next_11 7 _ rfl)
theorem dX4_next_184 : decode cX4_next 184 = .ok (.iload_n 2, 1) := dz_28 (bX4_next_11 8 _ rfl)
theorem dX4_next_185 : decode cX4_next 185 = .ok (.aaload, 1) := dz_50 (bX4_next_11 9 _ rfl)
theorem dX4_next_186 : decode cX4_next 186 = .ok (.invokevirtual 54, 3) := dz_182 (bX4_next_11 10 _ rfl) (bX4_next_11 11 _ rfl) (bX4_next_11 12 _ rfl)
theorem dX4_next_189 : decode cX4_next 189 = .ok (.ifCond .eq 7, 3) := dz_153 (bX4_next_11 13 _ rfl) (bX4_next_11 14 _ rfl) (bX4_next_11 15 _ rfl)
theorem dX4_next_192 : decode cX4_next 192 = .ok (.iconst 3, 1) := dz_6 (bX4_next_12 0 _ rfl)
theorem dX4_next_193 : decode cX4_next 193 = .ok (.goto 4, 3) := dz_167 (bX4_next_12 1 _ rfl) (bX4_next_12 2 _ rfl) (bX4_next_12 3 _ rfl)
theorem dX4_next_196 : decode cX4_next 196 = .ok (.iconst 1, 1) := dz_4 (bX4_next_12 4 _ rfl)
theorem dX4_next_197 : decode cX4_next 197 = .ok (.putfield 40, 3) := dz_181 (bX4_next_12 5 _ rfl) (bX4_next_12 6 _ rfl) (bX4_next_12 7 _ rfl)
theorem dX4_next_200 : decode cX4_next 200 = .ok (.iinc 2 1, 3) := dz_132 (bX4_next_12 8 _ rfl) (bX4_next_12 9 _ rfl) (bX4_next_12 10 _ rfl)
theorem dX4_next_203 : decode cX4_next 203 = .ok (.goto (-40), 3) := dz_167 (bX4_next_12 11 _ rfl) (bX4_next_12 12 _ rfl) (bX4_next_12 13 _ rfl)
theorem dX4_next_206 : decode cX4_next 206 = .ok (.goto 113, 3) := dz_167 (bX4_next_12 14 _ rfl) (bX4_next_12 15 _ rfl) (bX4_next_13 0 _ rfl)
theorem dX4_next_209 : decode cX4_next 209 = .ok (.iload_n 1, 1) := dz_27 (bX4_next_13 1 _ rfl)
theorem dX4_next_210 : decode cX4_next 210 = .ok (.invokestatic 47, 3) := dz_184 (bX4_next_13 2 _ rfl) (bX4_next_13 3 _ rfl) (bX4_next_13 4 _ rfl)
theorem dX4_next_213 : decode cX4_next 213 = .ok (.ifCond .eq 73, 3) := dz_153 (bX4_next_13 5 _ rfl) (bX4_next_13 6 _ rfl) (bX4_next_13 7 _ rfl)
theorem dX4_next_216 : decode cX4_next 216 = .ok (.aload_n 0, 1) := dz_42 (bX4_next_13 8 _ rfl)
theorem dX4_next_217 : decode cX4_next 217 = .ok (.getfield 37, 3) := dz_180 (bX4_next_13 9 _ rfl) (bX4_next_13 10 _ rfl) (bX4_next_13 11 _ rfl)
theorem dX4_next_220 : decode cX4_next 220 = .ok (.aload_n 0, 1) := dz_42 (bX4_next_13 12 _ rfl)
theorem dX4_next_221 : decode cX4_next 221 = .ok (.getfield 25, 3) := dz_180 (bX4_next_13 13 _ rfl) (bX4_next_13 14 _ rfl) (bX4_next_13 15 _ rfl)
theorem dX4_next_224 : decode cX4_next 224 = .ok (.if_icmp .ge 31, 3) := dz_162 (bX4_next_14 0 _ rfl) (bX4_next_14 1 _ rfl) (bX4_next_14 2 _ rfl)
theorem dX4_next_227 : decode cX4_next 227 = .ok (.aload_n 0, 1) := dz_42 (bX4_next_14 3 _ rfl)
theorem dX4_next_228 : decode cX4_next 228 = .ok (.getfield 21, 3) := dz_180 (bX4_next_14 4 _ rfl) (bX4_next_14 5 _ rfl) (bX4_next_14 6 _ rfl)
theorem dX4_next_231 : decode cX4_next 231 = .ok (.aload_n 0, 1) := dz_42 (bX4_next_14 7 _ rfl)
theorem dX4_next_232 : decode cX4_next 232 = .ok (.getfield 37, 3) := dz_180 (bX4_next_14 8 _ rfl) (bX4_next_14 9 _ rfl) (bX4_next_14 10 _ rfl)
theorem dX4_next_235 : decode cX4_next 235 = .ok (.baload, 1) := dz_51 (bX4_next_14 11 _ rfl)
theorem dX4_next_236 : decode cX4_next 236 = .ok (.invokestatic 47, 3) := dz_184 (bX4_next_14 12 _ rfl) (bX4_next_14 13 _ rfl) (bX4_next_14 14 _ rfl)
theorem dX4_next_239 : decode cX4_next 239 = .ok (.ifCond .eq 16, 3) := dz_153 (bX4_next_14 15 _ rfl) (bX4_next_15 0 _ rfl) (bX4_next_15 1 _ rfl)
theorem dX4_next_242 : decode cX4_next 242 = .ok (.aload_n 0, 1) := dz_42 (bX4_next_15 2 _ rfl)
theorem dX4_next_243 : decode cX4_next 243 = .ok (.dup, 1) := dz_89 (bX4_next_15 3 _ rfl)
theorem dX4_next_244 : decode cX4_next 244 = .ok (.getfield 37, 3) := dz_180 (bX4_next_15 4 _ rfl) (bX4_next_15 5 _ rfl) (bX4_next_15 6 _ rfl)
theorem dX4_next_247 : decode cX4_next 247 = .ok (.iconst 1, 1) := dz_4 (bX4_next_15 7 _ rfl)
theorem dX4_next_248 : decode cX4_next 248 = .ok (.iadd, 1) := dz_96 (bX4_next_15 8 _ rfl)
theorem dX4_next_249 : decode cX4_next 249 = .ok (.putfield 37, 3) := dz_181 (bX4_next_15 9 _ rfl) (bX4_next_15 10 _ rfl) (bX4_next_15 11 _ rfl)
theorem dX4_next_252 : decode cX4_next 252 = .ok (.goto (-36), 3) := dz_167 (bX4_next_15 12 _ rfl) (bX4_next_15 13 _ rfl) (bX4_next_15 14 _ rfl)
theorem dX4_next_255 : decode cX4_next 255 = .ok (.aload_n 0, 1) := dz_42 (bX4_next_15 15 _ rfl)
theorem dX4_next_256 : decode cX4_next 256 = .ok (.aload_n 0, 1) := dz_42 (bX4_next_16 0 _ rfl)
theorem dX4_next_257 : decode cX4_next 257 = .ok (.getfield 37, 3) := dz_180 (bX4_next_16 1 _ rfl) (bX4_next_16 2 _ rfl) (bX4_next_16 3 _ rfl)
theorem dX4_next_260 : decode cX4_next 260 = .ok (.aload_n 0, 1) := dz_42 (bX4_next_16 4 _ rfl)
theorem dX4_next_261 : decode cX4_next 261 = .ok (.getfield 31, 3) := dz_180 (bX4_next_16 5 _ rfl) (bX4_next_16 6 _ rfl) (bX4_next_16 7 _ rfl)
theorem dX4_next_264 : decode cX4_next 264 = .ok (.isub, 1) := dz_100 (bX4_next_16 8 _ rfl)
theorem dX4_next_265 : decode cX4_next 265 = .ok (.bipush 9, 2) := dz_16 (bX4_next_16 9 _ rfl) (bX4_next_16 10 _ rfl)
theorem dX4_next_267 : decode cX4_next 267 = .ok (.if_icmp .gt 7, 3) := dz_163 (bX4_next_16 11 _ rfl) (bX4_next_16 12 _ rfl) (bX4_next_16 13 _ rfl)
theorem dX4_next_270 : decode cX4_next 270 = .ok (.iconst 1, 1) := dz_4 (bX4_next_16 14 _ rfl)
theorem dX4_next_271 : decode cX4_next 271 = .ok (.goto 4, 3) := dz_167 (bX4_next_16 15 _ rfl) (bX4_next_17 0 _ rfl) (bX4_next_17 1 _ rfl)
theorem dX4_next_274 : decode cX4_next 274 = .ok (.iconst 0, 1) := dz_3 (bX4_next_17 2 _ rfl)
theorem dX4_next_275 : decode cX4_next 275 = .ok (.invokevirtual 58, 3) := dz_182 (bX4_next_17 3 _ rfl) (bX4_next_17 4 _ rfl) (bX4_next_17 5 _ rfl)
theorem dX4_next_278 : decode cX4_next 278 = .ok (.aload_n 0, 1) := dz_42 (bX4_next_17 6 _ rfl)
theorem dX4_next_279 : decode cX4_next 279 = .ok (.iconst 2, 1) := dz_5 (bX4_next_17 7 _ rfl)
theorem dX4_next_280 : decode cX4_next 280 = .ok (.putfield 40, 3) := dz_181 (bX4_next_17 8 _ rfl) (bX4_next_17 9 _ rfl) (bX4_next_17 10 _ rfl)
theorem dX4_next_283 : decode cX4_next 283 = .ok (.goto 36, 3) := dz_167 (bX4_next_17 11 _ rfl) (bX4_next_17 12 _ rfl) (bX4_next_17 13 _ rfl)
theorem dX4_next_286 : decode cX4_next 286 = .ok (.aload_n 0, 1) := dz_42 (bX4_next_17 14 _ rfl)
theorem dX4_next_287 : decode cX4_next 287 = .ok (.iload_n 1, 1) := dz_27 (bX4_next_17 15 _ rfl)
theorem dX4_next_288 : decode cX4_next 288 = .ok (.aload_n 0, 1) := dz_42 (bX4_next_18 0 _ rfl)
theorem dX4_next_289 : decode cX4_next 289 = .ok (.getfield 31, 3) := dz_180 (bX4_next_18 1 _ rfl) (bX4_next_18 2 _ rfl) (bX4_next_18 3 _ rfl)
theorem dX4_next_292 : decode cX4_next 292 = .ok (.iconst 1, 1) := dz_4 (bX4_next_18 4 _ rfl)
theorem dX4_next_293 : decode cX4_next 293 = .ok (.iadd, 1) := dz_96 (bX4_next_18 5 _ rfl)
theorem dX4_next_294 : decode cX4_next 294 = .ok (.aload_n 0, 1) := dz_42 (bX4_next_18 6 _ rfl)
theorem dX4_next_295 : decode cX4_next 295 = .ok (.getfield 25, 3) := dz_180 (bX4_next_18 7 _ rfl) (bX4_next_18 8 _ rfl) (bX4_next_18 9 _ rfl)
theorem dX4_next_298 : decode cX4_next 298 = .ok (.if_icmp .ge 17, 3) := dz_162 (bX4_next_18 10 _ rfl) (bX4_next_18 11 _ rfl) (bX4_next_18 12 _ rfl)
theorem dX4_next_301 : decode cX4_next 301 = .ok (.aload_n 0, 1) := dz_42 (bX4_next_18 13 _ rfl)
theorem dX4_next_302 : decode cX4_next 302 = .ok (.getfield 21, 3) := dz_180 (bX4_next_18 14 _ rfl) (bX4_next_18 15 _ rfl) (bX4_next_19 0 _ rfl)
theorem dX4_next_305 : decode cX4_next 305 = .ok (.aload_n 0, 1) := dz_42 (bX4_next_19 1 _ rfl)
theorem dX4_next_306 : decode cX4_next 306 = .ok (.getfield 31, 3) := dz_180 (bX4_next_19 2 _ rfl) (bX4_next_19 3 _ rfl) (bX4_next_19 4 _ rfl)
theorem dX4_next_309 : decode cX4_next 309 = .ok (.iconst 1, 1) := dz_4 (bX4_next_19 5 _ rfl)
theorem dX4_next_310 : decode cX4_next 310 = .ok (.iadd, 1) := dz_96 (bX4_next_19 6 _ rfl)
theorem dX4_next_311 : decode cX4_next 311 = .ok (.baload, 1) := dz_51 (bX4_next_19 7 _ rfl)
theorem dX4_next_312 : decode cX4_next 312 = .ok (.goto 4, 3) := dz_167 (bX4_next_19 8 _ rfl) (bX4_next_19 9 _ rfl) (bX4_next_19 10 _ rfl)
theorem dX4_next_315 : decode cX4_next 315 = .ok (.iconst 0, 1) := dz_3 (bX4_next_19 11 _ rfl)
theorem dX4_next_316 : decode cX4_next 316 = .ok (.invokevirtual 62, 3) := dz_182 (bX4_next_19 12 _ rfl) (bX4_next_19 13 _ rfl) (bX4_next_19 14 _ rfl)
theorem dX4_next_319 : decode cX4_next 319 = .ok (.return_, 1) := dz_177 (bX4_next_19 15 _ rfl)
def c_X4_next_316 (g : State) (t0 : Nat)  (y0 : Int32) (y1 : Int32) (y2 : Nat) (w : ch_W) : Option (Except Nat Unit × ch_W) := (ch_rc w (some y2) 5).bind fun _ => ch_tb (c_X4_sign g y2 y1 y0 w) (fun a w => (.error a, w)) fun _ w3 => some ((.ok (), w3))
theorem s_X4_next_316 {g : State} {t0 : Nat} {y0 : Int32} {y1 : Int32} {y2 : Nat} {w : ch_W} {res : Except Nat Unit × ch_W} {Q : Outcome → ch_W → Prop} (h : c_X4_next_316 g t0 y0 y1 y2 w = some res) (hk : (ch_xV Q) res) : ch_FT g true mX4_next 9 316 [none, none, none] [.int y0, .int y1, va_rf (some y2)] (w) Q := by
  unfold c_X4_next_316 at h
  obtain ⟨_, hb1, h⟩ := ch_bd h
  refine ch_iv yX4_sign prog_7_method_6_code 5 none (ci := 4) (q := (RX4, TX4, 9)) (b := y2) (d' := 8) (av := [.int y1, .int y0]) (rest := []) rfl dX4_next_316 q584 q586 rfl qs5 q587 can_X4_sign (Nat.le_of_ble_eq_true rfl) (Nat.le_of_ble_eq_true rfl) (ch_rts hb1) (cp_tV h (fun p hp Q' hq => s_X4_sign hp hq) (fun w3 h => ?_) (fun a w1 h => ?_))
  · obtain rfl := Option.some.inj h
    exact ch_return dX4_next_319 rfl hk
  · subst h
    exact ch_th rfl hk

def c_X4_next_275 (g : State) (t0 : Nat)  (y0 : Int32) (y1 : Nat) (w : ch_W) : Option (Except Nat Unit × ch_W) := (ch_rc w (some y1) 5).bind fun _ => ch_tb (c_X4_must g y1 y0 w) (fun a w => (.error a, w)) fun _ w3 => (ch_pI w3 (some t0) 5 fX4_kind 2).bind fun w4 => some ((.ok (), w4))
theorem s_X4_next_275 {g : State} {t0 : Nat} {y0 : Int32} {y1 : Nat} {w : ch_W} {res : Except Nat Unit × ch_W} {Q : Outcome → ch_W → Prop} (h : c_X4_next_275 g t0 y0 y1 w = some res) (hk : (ch_xV Q) res) : ch_FT g true mX4_next 9 275 [some (va_rf (some t0)), none, none] [.int y0, va_rf (some y1)] (w) Q := by
  unfold c_X4_next_275 at h
  obtain ⟨_, hb1, h⟩ := ch_bd h
  refine ch_iv yX4_must prog_7_method_2_code 2 none (ci := 4) (q := (RX4, TX4, 9)) (b := y1) (d' := 7) (av := [.int y0]) (rest := []) rfl dX4_next_275 q561 q563 rfl qs4 q564 can_X4_must (Nat.le_of_ble_eq_true rfl) (Nat.le_of_ble_eq_true rfl) (ch_rts hb1) (cp_tV h (fun p hp Q' hq => s_X4_must hp hq) (fun w3 h => ?_) (fun a w1 h => ?_))
  · refine ch_aload_n 0 (some t0) dX4_next_278 rfl (ch_iconst _ 2 dX4_next_279 rfl (cp_pI (ci := 4) (k := 2) dX4_next_280 fl_X4_40 rfl rfl rfl h (fun w4 h => ?_)))
    obtain rfl := Option.some.inj h
    exact ch_goto 319 dX4_next_283 rfl (ch_return dX4_next_319 rfl hk)
  · subst h
    exact ch_th rfl hk

def c_X4_next_255 (g : State) (t0 : Nat)   (w : ch_W) : Option (Except Nat Unit × ch_W) := (ch_gI w (some t0) 5 fX4_to).bind fun v1 => (ch_gI w (some t0) 5 fX4_from).bind fun v2 => if 9 < (v1 - v2) then (c_X4_next_275 g t0 0 t0 w) else (c_X4_next_275 g t0 1 t0 w)
theorem s_X4_next_255 {g : State} {t0 : Nat} {w : ch_W} {res : Except Nat Unit × ch_W} {Q : Outcome → ch_W → Prop} (h : c_X4_next_255 g t0 w = some res) (hk : (ch_xV Q) res) : ch_FT g true mX4_next 9 255 [some (va_rf (some t0)), none, none] [] (w) Q := by
  unfold c_X4_next_255 at h
  refine ch_aload_n 0 (some t0) dX4_next_255 rfl (ch_aload_n 0 (some t0) dX4_next_256 rfl (cp_gI (ci := 4) (k := 4) dX4_next_257 fl_X4_37 rfl h (fun v1 h => ?_)))
  refine ch_aload_n 0 (some t0) dX4_next_260 rfl (cp_gI (ci := 4) (k := 3) dX4_next_261 fl_X4_31 rfl h (fun v2 h => ?_))
  refine ch_isub _ _ dX4_next_264 (ch_bipush _ 9 dX4_next_265 rfl (cp_icmp_gt _ _ (tgt := 274) dX4_next_267 rfl h (fun h => ?_) (fun h => ?_)))
  · exact ch_iconst _ 0 dX4_next_274 rfl (ch_FT.wk (ch_wS (ch_wN (ch_wN ch_w0))) (s_X4_next_275  h hk))
  · exact ch_iconst _ 1 dX4_next_270 rfl (ch_goto 275 dX4_next_271 rfl (ch_FT.wk (ch_wS (ch_wN (ch_wN ch_w0))) (s_X4_next_275  h hk)))

def c_X4_next_216 (g : State) (t0 : Nat)   (w : ch_W) : Option (ch_W ⊕ (Except Nat Unit × ch_W)) := (ch_gI w (some t0) 5 fX4_to).bind fun v1 => (ch_gI w (some t0) 5 fX4_end).bind fun v2 => if v1 < v2 then ((ch_gR w (some t0) 5 fX4_s).bind fun v3 => (ch_gI w (some t0) 5 fX4_to).bind fun v4 => (ch_lI w v3 22 v4).bind fun v5 => (c_X4_isDigit v5 w).bind fun v6 => if v6 = 0 then ((c_X4_next_255 g t0 w).bind fun r => some (.inr (r))) else ((ch_gI w (some t0) 5 fX4_to).bind fun v8 => (ch_pI w (some t0) 5 fX4_to (v8 + 1)).bind fun w9 => some (.inl (w9)))) else ((c_X4_next_255 g t0 w).bind fun r => some (.inr (r)))
theorem s_X4_next_216 {g : State} {t0 : Nat} {w : ch_W} {res : ch_W ⊕ (Except Nat Unit × ch_W)} {Q : Outcome → ch_W → Prop} (h : c_X4_next_216 g t0 w = some res) (hk : (ch_sm (fun s => ch_FT g true mX4_next 9 216 [some (va_rf (some t0)), none, none] [] (s) Q) (ch_xV Q)) res) : ch_FT g true mX4_next 9 216 [some (va_rf (some t0)), none, none] [] (w) Q := by
  unfold c_X4_next_216 at h
  refine ch_aload_n 0 (some t0) dX4_next_216 rfl (cp_gI (ci := 4) (k := 4) dX4_next_217 fl_X4_37 rfl h (fun v1 h => ?_))
  refine ch_aload_n 0 (some t0) dX4_next_220 rfl (cp_gI (ci := 4) (k := 1) dX4_next_221 fl_X4_25 rfl h (fun v2 h => ?_))
  refine cp_icmp_ge _ _ (tgt := 255) dX4_next_224 rfl h (fun h => ?_) (fun h => ?_)
  · obtain ⟨r, hr, h⟩ := ch_bd h
    obtain rfl := Option.some.inj h
    exact ch_FT.wk (ch_wS (ch_wN (ch_wN ch_w0))) (s_X4_next_255  hr hk)
  · refine ch_aload_n 0 (some t0) dX4_next_227 rfl (cp_gR (ci := 4) (k := 0) dX4_next_228 fl_X4_21 rfl h (fun v3 h => ?_))
    refine ch_aload_n 0 (some t0) dX4_next_231 rfl (cp_gI (ci := 4) (k := 4) dX4_next_232 fl_X4_37 rfl h (fun v4 h => ?_))
    refine cp_bald (t := 22) dX4_next_235 rfl rfl h (fun v5 h => ?_)
    obtain ⟨v6, hp7, h⟩ := ch_bd h
    refine ch_is yX4_isDigit prog_7_method_4_code 1 (some .boolean) (d' := 2) (av := [.int v5]) (rest := []) rfl dX4_next_236 q504 q505 q207 q506 can_X4_isDigit (Nat.le_of_ble_eq_true rfl) (Nat.le_of_ble_eq_true rfl) (cp_kI (v := v6) (w1 := w) (fun Q' hq => s_X4_isDigit hp7 hq) ?_)
    refine cp_if_eq _ (tgt := 255) dX4_next_239 rfl h (fun h => ?_) (fun h => ?_)
    · obtain ⟨r, hr, h⟩ := ch_bd h
      obtain rfl := Option.some.inj h
      exact ch_FT.wk (ch_wS (ch_wN (ch_wN ch_w0))) (s_X4_next_255  hr hk)
    · refine ch_aload_n 0 (some t0) dX4_next_242 rfl (ch_dup dX4_next_243 (ch_cat _) (cp_gI (ci := 4) (k := 4) dX4_next_244 fl_X4_37 rfl h (fun v8 h => ?_)))
      refine ch_iconst _ 1 dX4_next_247 rfl (ch_iadd _ _ dX4_next_248 (cp_pI (ci := 4) (k := 4) dX4_next_249 fl_X4_37 rfl rfl rfl h (fun w9 h => ?_)))
      refine ch_goto 216 dX4_next_252 rfl (ch_FT.wk (ch_wS (ch_wN (ch_wN ch_w0))) ?_)
      obtain rfl := Option.some.inj h
      exact hk
theorem sl_X4_next_216 {g : State} {t0 : Nat} {a : ch_W} {res : Except Nat Unit × ch_W} {Q : Outcome → ch_W → Prop} (h : ch_loop (fun (s : ch_W) => c_X4_next_216 g t0 s) a = some res) (hk : (ch_xV Q) res) : ch_FT g true mX4_next 9 216 [some (va_rf (some t0)), none, none] [] (a) Q := by
  refine ch_loop_ind (fun (a : ch_W) (r : Except Nat Unit × ch_W) => (ch_xV Q) r → ch_FT g true mX4_next 9 216 [some (va_rf (some t0)), none, none] [] (a) Q) ?_ ?_ a res h hk
  · intro a a2 b h1 ih hk
    exact s_X4_next_216  h1 (ih hk)
  · intro a b h1 hk
    exact s_X4_next_216  h1 hk

def c_X4_next_163 (g : State) (t0 : Nat) (x2 : Int32)  (w : ch_W) : Option ((Int32 × ch_W) ⊕ (Except Nat Unit × ch_W)) := (ch_le w (ch_stW g) 30).bind fun v1 => if x2 < v1 then ((ch_gI w (some t0) 5 fX4_kind).bind fun v2 => if v2 = 1 then ((ch_lR w (ch_stW g) 30 x2).bind fun v3 => (ch_rc w (some t0) 5).bind fun _ => (c_X4_is g t0 v3 w).bind fun v5 => if v5 = 0 then ((ch_pI w (some t0) 5 fX4_kind 1).bind fun w7 => some (.inl (x2 + 1, w7))) else ((ch_pI w (some t0) 5 fX4_kind 3).bind fun w8 => some (.inl (x2 + 1, w8)))) else (some (.inr ((.ok (), w))))) else (some (.inr ((.ok (), w))))
theorem s_X4_next_163 {g : State} {t0 : Nat} {x2 : Int32} {w : ch_W} {res : (Int32 × ch_W) ⊕ (Except Nat Unit × ch_W)} {Q : Outcome → ch_W → Prop} (h : c_X4_next_163 g t0 x2 w = some res) (hk : (ch_sm (fun s => ch_FT g true mX4_next 9 163 [some (va_rf (some t0)), none, some (.int s.1)] [] (s.2) Q) (ch_xV Q)) res) : ch_FT g true mX4_next 9 163 [some (va_rf (some t0)), none, some (.int x2)] [] (w) Q := by
  unfold c_X4_next_163 at h
  refine ch_iload_n 2 _ dX4_next_163 rfl (ch_getsW dX4_next_164 q507 (cp_alen (t := 30) dX4_next_167 rfl rfl h (fun v1 h => ?_)))
  refine cp_icmp_ge _ _ (tgt := 206) dX4_next_168 rfl h (fun h => ?_) (fun h => ?_)
  · obtain rfl := Option.some.inj h
    exact ch_goto 319 dX4_next_206 rfl (ch_return dX4_next_319 rfl hk)
  · refine ch_aload_n 0 (some t0) dX4_next_171 rfl (cp_gI (ci := 4) (k := 2) dX4_next_172 fl_X4_40 rfl h (fun v2 h => ?_))
    refine ch_iconst _ 1 dX4_next_175 rfl (cp_icmp_ne _ _ (tgt := 206) dX4_next_176 rfl h (fun h => ?_) (fun h => ?_))
    · obtain rfl := Option.some.inj h
      exact ch_goto 319 dX4_next_206 rfl (ch_return dX4_next_319 rfl hk)
    · refine ch_aload_n 0 (some t0) dX4_next_179 rfl (ch_aload_n 0 (some t0) dX4_next_180 rfl (ch_getsW dX4_next_181 q507 (ch_iload_n 2 _ dX4_next_184 rfl (cp_aald (t := 30) dX4_next_185 rfl rfl h (fun v3 h => ?_)))))
      obtain ⟨_, hb4, h⟩ := ch_bd h
      obtain ⟨v5, hp6, h⟩ := ch_bd h
      refine ch_iv yX4_is prog_7_method_7_code 4 (some .boolean) (ci := 4) (q := (RX4, TX4, 9)) (b := t0) (d' := 6) (av := [va_rf v3]) (rest := [va_rf (some t0)]) rfl dX4_next_186 q509 q511 rfl qs3 q512 can_X4_is (Nat.le_of_ble_eq_true rfl) (ch_hw (Nat.le_of_ble_eq_true rfl)) (ch_rts hb4) (cp_kI (v := v5) (w1 := w) (fun Q' hq => s_X4_is hp6 hq) ?_)
      refine cp_if_eq _ (tgt := 196) dX4_next_189 rfl h (fun h => ?_) (fun h => ?_)
      · refine ch_iconst _ 1 dX4_next_196 rfl (cp_pI (ci := 4) (k := 2) dX4_next_197 fl_X4_40 rfl rfl rfl h (fun w7 h => ?_))
        refine ch_iinc 2 _ _ (x2 + 1) (ls1 := [some (va_rf (some t0)), none, some (.int (x2 + 1))]) dX4_next_200 rfl rfl (Nat.le_of_ble_eq_true rfl) rfl (ch_goto 163 dX4_next_203 rfl (ch_FT.wk (ch_wS (ch_wN (ch_wS ch_w0))) ?_))
        obtain rfl := Option.some.inj h
        exact hk
      · refine ch_iconst _ 3 dX4_next_192 rfl (ch_goto 197 dX4_next_193 rfl (cp_pI (ci := 4) (k := 2) dX4_next_197 fl_X4_40 rfl rfl rfl h (fun w8 h => ?_)))
        refine ch_iinc 2 _ _ (x2 + 1) (ls1 := [some (va_rf (some t0)), none, some (.int (x2 + 1))]) dX4_next_200 rfl rfl (Nat.le_of_ble_eq_true rfl) rfl (ch_goto 163 dX4_next_203 rfl (ch_FT.wk (ch_wS (ch_wN (ch_wS ch_w0))) ?_))
        obtain rfl := Option.some.inj h
        exact hk
theorem sl_X4_next_163 {g : State} {t0 : Nat} {a : Int32 × ch_W} {res : Except Nat Unit × ch_W} {Q : Outcome → ch_W → Prop} (h : ch_loop (fun (s : Int32 × ch_W) => c_X4_next_163 g t0 s.1 s.2) a = some res) (hk : (ch_xV Q) res) : ch_FT g true mX4_next 9 163 [some (va_rf (some t0)), none, some (.int a.1)] [] (a.2) Q := by
  refine ch_loop_ind (fun (a : Int32 × ch_W) (r : Except Nat Unit × ch_W) => (ch_xV Q) r → ch_FT g true mX4_next 9 163 [some (va_rf (some t0)), none, some (.int a.1)] [] (a.2) Q) ?_ ?_ a res h hk
  · intro a a2 b h1 ih hk
    exact s_X4_next_163  h1 (ih hk)
  · intro a b h1 hk
    exact s_X4_next_163  h1 hk

def c_X4_next_143 (g : State) (t0 : Nat)   (w : ch_W) : Option (ch_W ⊕ (Except Nat Unit × ch_W)) := (ch_gI w (some t0) 5 fX4_to).bind fun v1 => (ch_pI w (some t0) 5 fX4_to (v1 + 1)).bind fun w2 => some (.inl (w2))
theorem s_X4_next_143 {g : State} {t0 : Nat} {w : ch_W} {res : ch_W ⊕ (Except Nat Unit × ch_W)} {Q : Outcome → ch_W → Prop} (h : c_X4_next_143 g t0 w = some res) (hk : (ch_sm (fun s => ch_FT g true mX4_next 9 102 [some (va_rf (some t0)), none, none] [] (s) Q) (ch_xV Q)) res) : ch_FT g true mX4_next 9 143 [some (va_rf (some t0)), none, none] [] (w) Q := by
  unfold c_X4_next_143 at h
  refine ch_aload_n 0 (some t0) dX4_next_143 rfl (ch_dup dX4_next_144 (ch_cat _) (cp_gI (ci := 4) (k := 4) dX4_next_145 fl_X4_37 rfl h (fun v1 h => ?_)))
  refine ch_iconst _ 1 dX4_next_148 rfl (ch_iadd _ _ dX4_next_149 (cp_pI (ci := 4) (k := 4) dX4_next_150 fl_X4_37 rfl rfl rfl h (fun w2 h => ?_)))
  refine ch_goto 102 dX4_next_153 rfl (ch_FT.wk (ch_wS (ch_wN (ch_wN ch_w0))) ?_)
  obtain rfl := Option.some.inj h
  exact hk

def c_X4_next_102 (g : State) (t0 : Nat)   (w : ch_W) : Option (ch_W ⊕ (Except Nat Unit × ch_W)) := (ch_gI w (some t0) 5 fX4_to).bind fun v1 => (ch_gI w (some t0) 5 fX4_end).bind fun v2 => if v1 < v2 then ((ch_gR w (some t0) 5 fX4_s).bind fun v4 => (ch_gI w (some t0) 5 fX4_to).bind fun v5 => (ch_lI w v4 22 v5).bind fun v6 => (c_X4_isLetter v6 w).bind fun v7 => if v7 = 0 then ((ch_gR w (some t0) 5 fX4_s).bind fun v9 => (ch_gI w (some t0) 5 fX4_to).bind fun v10 => (ch_lI w v9 22 v10).bind fun v11 => (c_X4_isDigit v11 w).bind fun v12 => if v12 = 0 then ((ch_pI w (some t0) 5 fX4_kind 1).bind fun w14 => (ch_loop (fun (s : Int32 × ch_W) => c_X4_next_163 g t0 s.1 s.2) (0, w14)).bind fun r => some (.inr (r))) else (c_X4_next_143 g t0 w)) else (c_X4_next_143 g t0 w)) else ((ch_pI w (some t0) 5 fX4_kind 1).bind fun w3 => (ch_loop (fun (s : Int32 × ch_W) => c_X4_next_163 g t0 s.1 s.2) (0, w3)).bind fun r => some (.inr (r)))
theorem s_X4_next_102 {g : State} {t0 : Nat} {w : ch_W} {res : ch_W ⊕ (Except Nat Unit × ch_W)} {Q : Outcome → ch_W → Prop} (h : c_X4_next_102 g t0 w = some res) (hk : (ch_sm (fun s => ch_FT g true mX4_next 9 102 [some (va_rf (some t0)), none, none] [] (s) Q) (ch_xV Q)) res) : ch_FT g true mX4_next 9 102 [some (va_rf (some t0)), none, none] [] (w) Q := by
  unfold c_X4_next_102 at h
  refine ch_aload_n 0 (some t0) dX4_next_102 rfl (cp_gI (ci := 4) (k := 4) dX4_next_103 fl_X4_37 rfl h (fun v1 h => ?_))
  refine ch_aload_n 0 (some t0) dX4_next_106 rfl (cp_gI (ci := 4) (k := 1) dX4_next_107 fl_X4_25 rfl h (fun v2 h => ?_))
  refine cp_icmp_ge _ _ (tgt := 156) dX4_next_110 rfl h (fun h => ?_) (fun h => ?_)
  · refine ch_aload_n 0 (some t0) dX4_next_156 rfl (ch_iconst _ 1 dX4_next_157 rfl (cp_pI (ci := 4) (k := 2) dX4_next_158 fl_X4_40 rfl rfl rfl h (fun w3 h => ?_)))
    obtain ⟨r, hr, h⟩ := ch_bd h
    obtain rfl := Option.some.inj h
    exact ch_iconst _ 0 dX4_next_161 rfl (ch_istore_n 2 _ (ls1 := [some (va_rf (some t0)), none, some (.int 0)]) dX4_next_162 (Nat.le_of_ble_eq_true rfl) rfl (ch_FT.wk (ch_wS (ch_wN (ch_wS ch_w0))) (sl_X4_next_163  hr hk)))
  · refine ch_aload_n 0 (some t0) dX4_next_113 rfl (cp_gR (ci := 4) (k := 0) dX4_next_114 fl_X4_21 rfl h (fun v4 h => ?_))
    refine ch_aload_n 0 (some t0) dX4_next_117 rfl (cp_gI (ci := 4) (k := 4) dX4_next_118 fl_X4_37 rfl h (fun v5 h => ?_))
    refine cp_bald (t := 22) dX4_next_121 rfl rfl h (fun v6 h => ?_)
    obtain ⟨v7, hp8, h⟩ := ch_bd h
    refine ch_is yX4_isLetter prog_7_method_3_code 1 (some .boolean) (d' := 2) (av := [.int v6]) (rest := []) rfl dX4_next_122 q501 q502 q207 q503 can_X4_isLetter (Nat.le_of_ble_eq_true rfl) (Nat.le_of_ble_eq_true rfl) (cp_kI (v := v7) (w1 := w) (fun Q' hq => s_X4_isLetter hp8 hq) ?_)
    refine cp_if_ne _ (tgt := 143) dX4_next_125 rfl h (fun h => ?_) (fun h => ?_)
    · exact ch_FT.wk (ch_wS (ch_wN (ch_wN ch_w0))) (s_X4_next_143  h hk)
    · refine ch_aload_n 0 (some t0) dX4_next_128 rfl (cp_gR (ci := 4) (k := 0) dX4_next_129 fl_X4_21 rfl h (fun v9 h => ?_))
      refine ch_aload_n 0 (some t0) dX4_next_132 rfl (cp_gI (ci := 4) (k := 4) dX4_next_133 fl_X4_37 rfl h (fun v10 h => ?_))
      refine cp_bald (t := 22) dX4_next_136 rfl rfl h (fun v11 h => ?_)
      obtain ⟨v12, hp13, h⟩ := ch_bd h
      refine ch_is yX4_isDigit prog_7_method_4_code 1 (some .boolean) (d' := 2) (av := [.int v11]) (rest := []) rfl dX4_next_137 q504 q505 q207 q506 can_X4_isDigit (Nat.le_of_ble_eq_true rfl) (Nat.le_of_ble_eq_true rfl) (cp_kI (v := v12) (w1 := w) (fun Q' hq => s_X4_isDigit hp13 hq) ?_)
      refine cp_if_eq _ (tgt := 156) dX4_next_140 rfl h (fun h => ?_) (fun h => ?_)
      · refine ch_aload_n 0 (some t0) dX4_next_156 rfl (ch_iconst _ 1 dX4_next_157 rfl (cp_pI (ci := 4) (k := 2) dX4_next_158 fl_X4_40 rfl rfl rfl h (fun w14 h => ?_)))
        obtain ⟨r, hr, h⟩ := ch_bd h
        obtain rfl := Option.some.inj h
        exact ch_iconst _ 0 dX4_next_161 rfl (ch_istore_n 2 _ (ls1 := [some (va_rf (some t0)), none, some (.int 0)]) dX4_next_162 (Nat.le_of_ble_eq_true rfl) rfl (ch_FT.wk (ch_wS (ch_wN (ch_wS ch_w0))) (sl_X4_next_163  hr hk)))
      · exact ch_FT.wk (ch_wS (ch_wN (ch_wN ch_w0))) (s_X4_next_143  h hk)
theorem sl_X4_next_102 {g : State} {t0 : Nat} {a : ch_W} {res : Except Nat Unit × ch_W} {Q : Outcome → ch_W → Prop} (h : ch_loop (fun (s : ch_W) => c_X4_next_102 g t0 s) a = some res) (hk : (ch_xV Q) res) : ch_FT g true mX4_next 9 102 [some (va_rf (some t0)), none, none] [] (a) Q := by
  refine ch_loop_ind (fun (a : ch_W) (r : Except Nat Unit × ch_W) => (ch_xV Q) r → ch_FT g true mX4_next 9 102 [some (va_rf (some t0)), none, none] [] (a) Q) ?_ ?_ a res h hk
  · intro a a2 b h1 ih hk
    exact s_X4_next_102  h1 (ih hk)
  · intro a b h1 hk
    exact s_X4_next_102  h1 hk

def c_X4_next_60 (g : State) (t0 : Nat)   (w : ch_W) : Option (Except Nat Unit × ch_W) := (ch_gI w (some t0) 5 fX4_from).bind fun v1 => (ch_pI w (some t0) 5 fX4_to v1).bind fun w2 => (ch_gI w2 (some t0) 5 fX4_from).bind fun v3 => (ch_gI w2 (some t0) 5 fX4_end).bind fun v4 => if v3 = v4 then ((ch_pI w2 (some t0) 5 fX4_kind 0).bind fun w17 => some ((.ok (), w17))) else ((ch_gR w2 (some t0) 5 fX4_s).bind fun v5 => (ch_gI w2 (some t0) 5 fX4_from).bind fun v6 => (ch_lI w2 v5 22 v6).bind fun v7 => (c_X4_isLetter v7 w2).bind fun v8 => if v8 = 0 then ((c_X4_isDigit v7 w2).bind fun v10 => if v10 = 0 then ((ch_gI w2 (some t0) 5 fX4_from).bind fun v12 => (ch_gI w2 (some t0) 5 fX4_end).bind fun v13 => if (v12 + 1) < v13 then ((ch_gR w2 (some t0) 5 fX4_s).bind fun v14 => (ch_gI w2 (some t0) 5 fX4_from).bind fun v15 => (ch_lI w2 v14 22 (v15 + 1)).bind fun v16 => c_X4_next_316 g t0 v16 v7 t0 w2) else (c_X4_next_316 g t0 0 v7 t0 w2)) else (ch_loop (fun (s : ch_W) => c_X4_next_216 g t0 s) (w2))) else (ch_loop (fun (s : ch_W) => c_X4_next_102 g t0 s) (w2)))
theorem s_X4_next_60 {g : State} {t0 : Nat} {w : ch_W} {res : Except Nat Unit × ch_W} {Q : Outcome → ch_W → Prop} (h : c_X4_next_60 g t0 w = some res) (hk : (ch_xV Q) res) : ch_FT g true mX4_next 9 60 [some (va_rf (some t0)), none, none] [] (w) Q := by
  unfold c_X4_next_60 at h
  refine ch_aload_n 0 (some t0) dX4_next_60 rfl (ch_aload_n 0 (some t0) dX4_next_61 rfl (cp_gI (ci := 4) (k := 3) dX4_next_62 fl_X4_31 rfl h (fun v1 h => ?_)))
  refine cp_pI (ci := 4) (k := 4) dX4_next_65 fl_X4_37 rfl rfl rfl h (fun w2 h => ?_)
  refine ch_aload_n 0 (some t0) dX4_next_68 rfl (cp_gI (ci := 4) (k := 3) dX4_next_69 fl_X4_31 rfl h (fun v3 h => ?_))
  refine ch_aload_n 0 (some t0) dX4_next_72 rfl (cp_gI (ci := 4) (k := 1) dX4_next_73 fl_X4_25 rfl h (fun v4 h => ?_))
  refine cp_icmp_ne _ _ (tgt := 85) dX4_next_76 rfl h (fun h => ?_) (fun h => ?_)
  · refine ch_aload_n 0 (some t0) dX4_next_85 rfl (cp_gR (ci := 4) (k := 0) dX4_next_86 fl_X4_21 rfl h (fun v5 h => ?_))
    refine ch_aload_n 0 (some t0) dX4_next_89 rfl (cp_gI (ci := 4) (k := 3) dX4_next_90 fl_X4_31 rfl h (fun v6 h => ?_))
    refine cp_bald (t := 22) dX4_next_93 rfl rfl h (fun v7 h => ?_)
    obtain ⟨v8, hp9, h⟩ := ch_bd h
    refine ch_istore_n 1 _ (ls1 := [some (va_rf (some t0)), some (.int v7), none]) dX4_next_94 (Nat.le_of_ble_eq_true rfl) rfl (ch_iload_n 1 _ dX4_next_95 rfl (ch_is yX4_isLetter prog_7_method_3_code 1 (some .boolean) (d' := 2) (av := [.int v7]) (rest := []) rfl dX4_next_96 q501 q502 q207 q503 can_X4_isLetter (Nat.le_of_ble_eq_true rfl) (Nat.le_of_ble_eq_true rfl) (cp_kI (v := v8) (w1 := w2) (fun Q' hq => s_X4_isLetter hp9 hq) ?_)))
    refine cp_if_eq _ (tgt := 209) dX4_next_99 rfl h (fun h => ?_) (fun h => ?_)
    · obtain ⟨v10, hp11, h⟩ := ch_bd h
      refine ch_iload_n 1 _ dX4_next_209 rfl (ch_is yX4_isDigit prog_7_method_4_code 1 (some .boolean) (d' := 2) (av := [.int v7]) (rest := []) rfl dX4_next_210 q504 q505 q207 q506 can_X4_isDigit (Nat.le_of_ble_eq_true rfl) (Nat.le_of_ble_eq_true rfl) (cp_kI (v := v10) (w1 := w2) (fun Q' hq => s_X4_isDigit hp11 hq) ?_))
      refine cp_if_eq _ (tgt := 286) dX4_next_213 rfl h (fun h => ?_) (fun h => ?_)
      · refine ch_aload_n 0 (some t0) dX4_next_286 rfl (ch_iload_n 1 _ dX4_next_287 rfl (ch_aload_n 0 (some t0) dX4_next_288 rfl (cp_gI (ci := 4) (k := 3) dX4_next_289 fl_X4_31 rfl h (fun v12 h => ?_))))
        refine ch_iconst _ 1 dX4_next_292 rfl (ch_iadd _ _ dX4_next_293 (ch_aload_n 0 (some t0) dX4_next_294 rfl (cp_gI (ci := 4) (k := 1) dX4_next_295 fl_X4_25 rfl h (fun v13 h => ?_))))
        refine cp_icmp_ge _ _ (tgt := 315) dX4_next_298 rfl h (fun h => ?_) (fun h => ?_)
        · exact ch_iconst _ 0 dX4_next_315 rfl (ch_FT.wk (ch_wN (ch_wN (ch_wN ch_w0))) (s_X4_next_316  h hk))
        · refine ch_aload_n 0 (some t0) dX4_next_301 rfl (cp_gR (ci := 4) (k := 0) dX4_next_302 fl_X4_21 rfl h (fun v14 h => ?_))
          refine ch_aload_n 0 (some t0) dX4_next_305 rfl (cp_gI (ci := 4) (k := 3) dX4_next_306 fl_X4_31 rfl h (fun v15 h => ?_))
          refine ch_iconst _ 1 dX4_next_309 rfl (ch_iadd _ _ dX4_next_310 (cp_bald (t := 22) dX4_next_311 rfl rfl h (fun v16 h => ?_)))
          exact ch_goto 316 dX4_next_312 rfl (ch_FT.wk (ch_wN (ch_wN (ch_wN ch_w0))) (s_X4_next_316  h hk))
      · exact ch_FT.wk (ch_wS (ch_wN (ch_wN ch_w0))) (sl_X4_next_216  h hk)
    · exact ch_FT.wk (ch_wS (ch_wN (ch_wN ch_w0))) (sl_X4_next_102  h hk)
  · refine ch_aload_n 0 (some t0) dX4_next_79 rfl (ch_iconst _ 0 dX4_next_80 rfl (cp_pI (ci := 4) (k := 2) dX4_next_81 fl_X4_40 rfl rfl rfl h (fun w17 h => ?_)))
    obtain rfl := Option.some.inj h
    exact ch_return dX4_next_84 rfl hk

def c_X4_next_47 (g : State) (t0 : Nat)   (w : ch_W) : Option (ch_W ⊕ (Except Nat Unit × ch_W)) := (ch_gI w (some t0) 5 fX4_from).bind fun v1 => (ch_pI w (some t0) 5 fX4_from (v1 + 1)).bind fun w2 => some (.inl (w2))
theorem s_X4_next_47 {g : State} {t0 : Nat} {w : ch_W} {res : ch_W ⊕ (Except Nat Unit × ch_W)} {Q : Outcome → ch_W → Prop} (h : c_X4_next_47 g t0 w = some res) (hk : (ch_sm (fun s => ch_FT g true mX4_next 9 8 [some (va_rf (some t0)), none, none] [] (s) Q) (ch_xV Q)) res) : ch_FT g true mX4_next 9 47 [some (va_rf (some t0)), none, none] [] (w) Q := by
  unfold c_X4_next_47 at h
  refine ch_aload_n 0 (some t0) dX4_next_47 rfl (ch_dup dX4_next_48 (ch_cat _) (cp_gI (ci := 4) (k := 3) dX4_next_49 fl_X4_31 rfl h (fun v1 h => ?_)))
  refine ch_iconst _ 1 dX4_next_52 rfl (ch_iadd _ _ dX4_next_53 (cp_pI (ci := 4) (k := 3) dX4_next_54 fl_X4_31 rfl rfl rfl h (fun w2 h => ?_)))
  refine ch_goto 8 dX4_next_57 rfl (ch_FT.wk (ch_wS (ch_wN (ch_wN ch_w0))) ?_)
  obtain rfl := Option.some.inj h
  exact hk

def c_X4_next_8 (g : State) (t0 : Nat)   (w : ch_W) : Option (ch_W ⊕ (Except Nat Unit × ch_W)) := (ch_gI w (some t0) 5 fX4_from).bind fun v1 => (ch_gI w (some t0) 5 fX4_end).bind fun v2 => if v1 < v2 then ((ch_gR w (some t0) 5 fX4_s).bind fun v3 => (ch_gI w (some t0) 5 fX4_from).bind fun v4 => (ch_lI w v3 22 v4).bind fun v5 => if v5 = 32 then (c_X4_next_47 g t0 w) else ((ch_gR w (some t0) 5 fX4_s).bind fun v6 => (ch_gI w (some t0) 5 fX4_from).bind fun v7 => (ch_lI w v6 22 v7).bind fun v8 => if v8 = 10 then (c_X4_next_47 g t0 w) else ((c_X4_next_60 g t0 w).bind fun r => some (.inr (r))))) else ((c_X4_next_60 g t0 w).bind fun r => some (.inr (r)))
theorem s_X4_next_8 {g : State} {t0 : Nat} {w : ch_W} {res : ch_W ⊕ (Except Nat Unit × ch_W)} {Q : Outcome → ch_W → Prop} (h : c_X4_next_8 g t0 w = some res) (hk : (ch_sm (fun s => ch_FT g true mX4_next 9 8 [some (va_rf (some t0)), none, none] [] (s) Q) (ch_xV Q)) res) : ch_FT g true mX4_next 9 8 [some (va_rf (some t0)), none, none] [] (w) Q := by
  unfold c_X4_next_8 at h
  refine ch_aload_n 0 (some t0) dX4_next_8 rfl (cp_gI (ci := 4) (k := 3) dX4_next_9 fl_X4_31 rfl h (fun v1 h => ?_))
  refine ch_aload_n 0 (some t0) dX4_next_12 rfl (cp_gI (ci := 4) (k := 1) dX4_next_13 fl_X4_25 rfl h (fun v2 h => ?_))
  refine cp_icmp_ge _ _ (tgt := 60) dX4_next_16 rfl h (fun h => ?_) (fun h => ?_)
  · obtain ⟨r, hr, h⟩ := ch_bd h
    obtain rfl := Option.some.inj h
    exact ch_FT.wk (ch_wS (ch_wN (ch_wN ch_w0))) (s_X4_next_60  hr hk)
  · refine ch_aload_n 0 (some t0) dX4_next_19 rfl (cp_gR (ci := 4) (k := 0) dX4_next_20 fl_X4_21 rfl h (fun v3 h => ?_))
    refine ch_aload_n 0 (some t0) dX4_next_23 rfl (cp_gI (ci := 4) (k := 3) dX4_next_24 fl_X4_31 rfl h (fun v4 h => ?_))
    refine cp_bald (t := 22) dX4_next_27 rfl rfl h (fun v5 h => ?_)
    refine ch_bipush _ 32 dX4_next_28 rfl (cp_icmp_eq _ _ (tgt := 47) dX4_next_30 rfl h (fun h => ?_) (fun h => ?_))
    · exact ch_FT.wk (ch_wS (ch_wN (ch_wN ch_w0))) (s_X4_next_47  h hk)
    · refine ch_aload_n 0 (some t0) dX4_next_33 rfl (cp_gR (ci := 4) (k := 0) dX4_next_34 fl_X4_21 rfl h (fun v6 h => ?_))
      refine ch_aload_n 0 (some t0) dX4_next_37 rfl (cp_gI (ci := 4) (k := 3) dX4_next_38 fl_X4_31 rfl h (fun v7 h => ?_))
      refine cp_bald (t := 22) dX4_next_41 rfl rfl h (fun v8 h => ?_)
      refine ch_bipush _ 10 dX4_next_42 rfl (cp_icmp_ne _ _ (tgt := 60) dX4_next_44 rfl h (fun h => ?_) (fun h => ?_))
      · obtain ⟨r, hr, h⟩ := ch_bd h
        obtain rfl := Option.some.inj h
        exact ch_FT.wk (ch_wS (ch_wN (ch_wN ch_w0))) (s_X4_next_60  hr hk)
      · exact ch_FT.wk (ch_wS (ch_wN (ch_wN ch_w0))) (s_X4_next_47  h hk)
theorem sl_X4_next_8 {g : State} {t0 : Nat} {a : ch_W} {res : Except Nat Unit × ch_W} {Q : Outcome → ch_W → Prop} (h : ch_loop (fun (s : ch_W) => c_X4_next_8 g t0 s) a = some res) (hk : (ch_xV Q) res) : ch_FT g true mX4_next 9 8 [some (va_rf (some t0)), none, none] [] (a) Q := by
  refine ch_loop_ind (fun (a : ch_W) (r : Except Nat Unit × ch_W) => (ch_xV Q) r → ch_FT g true mX4_next 9 8 [some (va_rf (some t0)), none, none] [] (a) Q) ?_ ?_ a res h hk
  · intro a a2 b h1 ih hk
    exact s_X4_next_8  h1 (ih hk)
  · intro a b h1 hk
    exact s_X4_next_8  h1 hk

def c_X4_next (g : State) (t0 : Nat)  (w : ch_W) : Option (Except Nat Unit × ch_W) := (ch_gI w (some t0) 5 fX4_to).bind fun v1 => (ch_pI w (some t0) 5 fX4_from v1).bind fun w2 => ch_loop (fun (s : ch_W) => c_X4_next_8 g t0 s) (w2)
theorem s_X4_next {g : State} {t0 : Nat} {w : ch_W} {res : Except Nat Unit × ch_W} {Q : Outcome → ch_W → Prop} (h : c_X4_next g t0 w = some res) (hk : (ch_xV Q) res) : ch_CT g true yX4_next 9 [.ref t0] (w) Q := by
  unfold c_X4_next at h
  refine ch_ctL mX4_next (ls := [some (va_rf (some t0)), none, none]) q500 rfl (ch_lyr (r := some t0) ch_ly0) (Nat.le_of_ble_eq_true rfl) rfl ?_
  refine ch_aload_n 0 (some t0) dX4_next_0 rfl (ch_aload_n 0 (some t0) dX4_next_1 rfl (cp_gI (ci := 4) (k := 4) dX4_next_2 fl_X4_37 rfl h (fun v1 h => ?_)))
  refine cp_pI (ci := 4) (k := 3) dX4_next_5 fl_X4_31 rfl rfl rfl h (fun w2 h => ?_)
  exact ch_FT.wk (ch_wS (ch_wN (ch_wN ch_w0))) (sl_X4_next_8  h hk)

theorem bX4_isThe_0 : ch_ck cX4_isThe 0 [42, 180, 0, 40, 6, 160, 0, 15, 42, 43, 182, 0, 54, 153, 0, 7] := ch_ckof (by decide +kernel)
theorem bX4_isThe_1 : ch_ck cX4_isThe 16 [4, 167, 0, 4, 3, 172] := ch_ckof (by decide +kernel)
theorem dX4_isThe_0 : decode cX4_isThe 0 = .ok (.aload_n 0, 1) := dz_42 (bX4_isThe_0 0 _ rfl)
theorem dX4_isThe_1 : decode cX4_isThe 1 = .ok (.getfield 40, 3) := dz_180 (bX4_isThe_0 1 _ rfl) (bX4_isThe_0 2 _ rfl) (bX4_isThe_0 3 _ rfl)
theorem dX4_isThe_4 : decode cX4_isThe 4 = .ok (.iconst 3, 1) := dz_6 (bX4_isThe_0 4 _ rfl)
theorem dX4_isThe_5 : decode cX4_isThe 5 = .ok (.if_icmp .ne 15, 3) := dz_160 (bX4_isThe_0 5 _ rfl) (bX4_isThe_0 6 _ rfl) (bX4_isThe_0 7 _ rfl)
theorem dX4_isThe_8 : decode cX4_isThe 8 = .ok (.aload_n 0, 1) := dz_42 (bX4_isThe_0 8 _ rfl)
theorem dX4_isThe_9 : decode cX4_isThe 9 = .ok (.aload_n 1, 1) := dz_43 (bX4_isThe_0 9 _ rfl)
theorem dX4_isThe_10 : decode cX4_isThe 10 = .ok (.invokevirtual 54, 3) := dz_182 (bX4_isThe_0 10 _ rfl) (bX4_isThe_0 11 _ rfl) (bX4_isThe_0 12 _ rfl)
theorem dX4_isThe_13 : decode cX4_isThe 13 = .ok (.ifCond .eq 7, 3) := dz_153 (bX4_isThe_0 13 _ rfl) (bX4_isThe_0 14 _ rfl) (bX4_isThe_0 15 _ rfl)
theorem dX4_isThe_16 : decode cX4_isThe 16 = .ok (.iconst 1, 1) := dz_4 (bX4_isThe_1 0 _ rfl)
theorem dX4_isThe_17 : decode cX4_isThe 17 = .ok (.goto 4, 3) := dz_167 (bX4_isThe_1 1 _ rfl) (bX4_isThe_1 2 _ rfl) (bX4_isThe_1 3 _ rfl)
theorem dX4_isThe_20 : decode cX4_isThe 20 = .ok (.iconst 0, 1) := dz_3 (bX4_isThe_1 4 _ rfl)
theorem dX4_isThe_21 : decode cX4_isThe 21 = .ok (.ireturn, 1) := dz_172 (bX4_isThe_1 5 _ rfl)
def c_X4_isThe (g : State) (t0 : Nat) (x1 : Option Nat) (w : ch_W) : Option (Int32) := (ch_gI w (some t0) 5 fX4_kind).bind fun v1 => if v1 = 3 then ((ch_rc w (some t0) 5).bind fun _ => (c_X4_is g t0 x1 w).bind fun v3 => if v3 = 0 then (some (0)) else (some (1))) else (some (0))
theorem s_X4_isThe {g : State} {kb : Bool} {t0 : Nat} {x1 : Option Nat} {w : ch_W} {res : Int32} {Q : Outcome → ch_W → Prop} (h : c_X4_isThe g t0 x1 w = some res) (hk : (fun r => ch_eI Q (r, w)) res) : ch_CT g kb yX4_isThe 7 [.ref t0, va_rf x1] (w) Q := by
  unfold c_X4_isThe at h
  refine ch_ctL mX4_isThe (ls := [some (va_rf (some t0)), some (va_rf x1)]) q596 rfl (ch_lyr (r := some t0) (ch_lyr (r := x1) ch_ly0)) (Nat.le_of_ble_eq_true rfl) rfl ?_
  refine ch_aload_n 0 (some t0) dX4_isThe_0 rfl (cp_gI (ci := 4) (k := 2) dX4_isThe_1 fl_X4_40 rfl h (fun v1 h => ?_))
  refine ch_iconst _ 3 dX4_isThe_4 rfl (cp_icmp_ne _ _ (tgt := 20) dX4_isThe_5 rfl h (fun h => ?_) (fun h => ?_))
  · obtain rfl := Option.some.inj h
    exact ch_iconst _ 0 dX4_isThe_20 rfl (ch_ireturn _ dX4_isThe_21 rfl rfl hk)
  · obtain ⟨_, hb2, h⟩ := ch_bd h
    obtain ⟨v3, hp4, h⟩ := ch_bd h
    refine ch_aload_n 0 (some t0) dX4_isThe_8 rfl (ch_aload_n 1 x1 dX4_isThe_9 rfl (ch_iv yX4_is prog_7_method_7_code 4 (some .boolean) (ci := 4) (q := (RX4, TX4, 9)) (b := t0) (d' := 6) (av := [va_rf x1]) (rest := []) rfl dX4_isThe_10 q509 q511 rfl qs3 q512 can_X4_is (Nat.le_of_ble_eq_true rfl) (Nat.le_of_ble_eq_true rfl) (ch_rts hb2) (cp_kI (v := v3) (w1 := w) (fun Q' hq => s_X4_is hp4 hq) ?_)))
    refine cp_if_eq _ (tgt := 20) dX4_isThe_13 rfl h (fun h => ?_) (fun h => ?_)
    · obtain rfl := Option.some.inj h
      exact ch_iconst _ 0 dX4_isThe_20 rfl (ch_ireturn _ dX4_isThe_21 rfl rfl hk)
    · obtain rfl := Option.some.inj h
      exact ch_iconst _ 1 dX4_isThe_16 rfl (ch_goto 21 dX4_isThe_17 rfl (ch_ireturn _ dX4_isThe_21 rfl rfl hk))

theorem bX4_want_0 : ch_ck cX4_want 0 [42, 42, 43, 182, 0, 76, 182, 0, 58, 42, 182, 0, 79, 177] := ch_ckof (by decide +kernel)
theorem dX4_want_0 : decode cX4_want 0 = .ok (.aload_n 0, 1) := dz_42 (bX4_want_0 0 _ rfl)
theorem dX4_want_1 : decode cX4_want 1 = .ok (.aload_n 0, 1) := dz_42 (bX4_want_0 1 _ rfl)
theorem dX4_want_2 : decode cX4_want 2 = .ok (.aload_n 1, 1) := dz_43 (bX4_want_0 2 _ rfl)
theorem dX4_want_3 : decode cX4_want 3 = .ok (.invokevirtual 76, 3) := dz_182 (bX4_want_0 3 _ rfl) (bX4_want_0 4 _ rfl) (bX4_want_0 5 _ rfl)
theorem dX4_want_6 : decode cX4_want 6 = .ok (.invokevirtual 58, 3) := dz_182 (bX4_want_0 6 _ rfl) (bX4_want_0 7 _ rfl) (bX4_want_0 8 _ rfl)
theorem dX4_want_9 : decode cX4_want 9 = .ok (.aload_n 0, 1) := dz_42 (bX4_want_0 9 _ rfl)
theorem dX4_want_10 : decode cX4_want 10 = .ok (.invokevirtual 79, 3) := dz_182 (bX4_want_0 10 _ rfl) (bX4_want_0 11 _ rfl) (bX4_want_0 12 _ rfl)
theorem dX4_want_13 : decode cX4_want 13 = .ok (.return_, 1) := dz_177 (bX4_want_0 13 _ rfl)
def c_X4_want (g : State) (t0 : Nat) (x1 : Option Nat) (w : ch_W) : Option (Except Nat Unit × ch_W) := (ch_rc w (some t0) 5).bind fun _ => (c_X4_isThe g t0 x1 w).bind fun v2 => (ch_rc w (some t0) 5).bind fun _ => ch_tb (c_X4_must g t0 v2 w) (fun a w => (.error a, w)) fun _ w6 => (ch_rc w6 (some t0) 5).bind fun _ => ch_tb (c_X4_next g t0 w6) (fun a w => (.error a, w)) fun _ w9 => some ((.ok (), w9))
theorem s_X4_want {g : State} {t0 : Nat} {x1 : Option Nat} {w : ch_W} {res : Except Nat Unit × ch_W} {Q : Outcome → ch_W → Prop} (h : c_X4_want g t0 x1 w = some res) (hk : (ch_xV Q) res) : ch_CT g true yX4_want 10 [.ref t0, va_rf x1] (w) Q := by
  unfold c_X4_want at h
  refine ch_ctL mX4_want (ls := [some (va_rf (some t0)), some (va_rf x1)]) q592 rfl (ch_lyr (r := some t0) (ch_lyr (r := x1) ch_ly0)) (Nat.le_of_ble_eq_true rfl) rfl ?_
  obtain ⟨_, hb1, h⟩ := ch_bd h
  obtain ⟨v2, hp3, h⟩ := ch_bd h
  refine ch_aload_n 0 (some t0) dX4_want_0 rfl (ch_aload_n 0 (some t0) dX4_want_1 rfl (ch_aload_n 1 x1 dX4_want_2 rfl (ch_iv yX4_isThe prog_7_method_8_code 2 (some .boolean) (ci := 4) (q := (RX4, TX4, 9)) (b := t0) (d' := 7) (av := [va_rf x1]) (rest := [va_rf (some t0)]) rfl dX4_want_3 q593 q595 rfl qs7 q596 can_X4_isThe (Nat.le_of_ble_eq_true rfl) (ch_hw (Nat.le_of_ble_eq_true rfl)) (ch_rts hb1) (cp_kI (v := v2) (w1 := w) (fun Q' hq => s_X4_isThe hp3 hq) ?_))))
  obtain ⟨_, hb4, h⟩ := ch_bd h
  refine ch_iv yX4_must prog_7_method_2_code 2 none (ci := 4) (q := (RX4, TX4, 9)) (b := t0) (d' := 7) (av := [.int v2]) (rest := []) rfl dX4_want_6 q561 q563 rfl qs4 q564 can_X4_must (Nat.le_of_ble_eq_true rfl) (Nat.le_of_ble_eq_true rfl) (ch_rts hb4) (cp_tV h (fun p hp Q' hq => s_X4_must hp hq) (fun w6 h => ?_) (fun a w1 h => ?_))
  · obtain ⟨_, hb7, h⟩ := ch_bd h
    refine ch_aload_n 0 (some t0) dX4_want_9 rfl (ch_iv yX4_next prog_7_method_5_code 3 none (ci := 4) (q := (RX4, TX4, 9)) (b := t0) (d' := 9) (av := []) (rest := []) rfl dX4_want_10 q497 q499 rfl qs2 q500 can_X4_next (Nat.le_of_ble_eq_true rfl) (Nat.le_of_ble_eq_true rfl) (ch_rts hb7) (cp_tV h (fun p hp Q' hq => s_X4_next hp hq) (fun w9 h => ?_) (fun a w1 h => ?_)))
    · obtain rfl := Option.some.inj h
      exact ch_return dX4_want_13 rfl hk
    · subst h
      exact ch_th rfl hk
  · subst h
    exact ch_th rfl hk

theorem bX4_isAt_0 : ch_ck cX4_isAt 0 [42, 190, 29, 28, 100, 160, 0, 7, 4, 167, 0, 4, 3, 54, 4, 3] := ch_ckof (by decide +kernel)
theorem bX4_isAt_1 : ch_ck cX4_isAt 16 [54, 5, 21, 4, 153, 0, 36, 21, 5, 42, 190, 162, 0, 29, 42, 21] := ch_ckof (by decide +kernel)
theorem bX4_isAt_2 : ch_ck cX4_isAt 32 [5, 51, 43, 28, 21, 5, 96, 51, 160, 0, 7, 4, 167, 0, 4, 3] := ch_ckof (by decide +kernel)
theorem bX4_isAt_3 : ch_ck cX4_isAt 48 [54, 4, 132, 5, 1, 167, 255, 221, 21, 4, 172] := ch_ckof (by decide +kernel)
theorem dX4_isAt_0 : decode cX4_isAt 0 = .ok (.aload_n 0, 1) := dz_42 (bX4_isAt_0 0 _ rfl)
theorem dX4_isAt_1 : decode cX4_isAt 1 = .ok (.arraylength, 1) := dz_190 (bX4_isAt_0 1 _ rfl)
theorem dX4_isAt_2 : decode cX4_isAt 2 = .ok (.iload_n 3, 1) := dz_29 (bX4_isAt_0 2 _ rfl)
theorem dX4_isAt_3 : decode cX4_isAt 3 = .ok (.iload_n 2, 1) := dz_28 (bX4_isAt_0 3 _ rfl)
theorem dX4_isAt_4 : decode cX4_isAt 4 = .ok (.isub, 1) := dz_100 (bX4_isAt_0 4 _ rfl)
theorem dX4_isAt_5 : decode cX4_isAt 5 = .ok (.if_icmp .ne 7, 3) := dz_160 (bX4_isAt_0 5 _ rfl) (bX4_isAt_0 6 _ rfl) (bX4_isAt_0 7 _ rfl)
theorem dX4_isAt_8 : decode cX4_isAt 8 = .ok (.iconst 1, 1) := dz_4 (bX4_isAt_0 8 _ rfl)
theorem dX4_isAt_9 : decode cX4_isAt 9 = .ok (.goto 4, 3) := dz_167 (bX4_isAt_0 9 _ rfl) (bX4_isAt_0 10 _ rfl) (bX4_isAt_0 11 _ rfl)
theorem dX4_isAt_12 : decode cX4_isAt 12 = .ok (.iconst 0, 1) := dz_3 (bX4_isAt_0 12 _ rfl)
theorem dX4_isAt_13 : decode cX4_isAt 13 = .ok (.istore 4, 2) := dz_54 (bX4_isAt_0 13 _ rfl) (bX4_isAt_0 14 _ rfl)
theorem dX4_isAt_15 : decode cX4_isAt 15 = .ok (.iconst 0, 1) := dz_3 (bX4_isAt_0 15 _ rfl)
theorem dX4_isAt_16 : decode cX4_isAt 16 = .ok (.istore 5, 2) := dz_54 (bX4_isAt_1 0 _ rfl) (bX4_isAt_1 1 _ rfl)
theorem dX4_isAt_18 : decode cX4_isAt 18 = .ok (.iload 4, 2) := dz_21 (bX4_isAt_1 2 _ rfl) (bX4_isAt_1 3 _ rfl)
theorem dX4_isAt_20 : decode cX4_isAt 20 = .ok (.ifCond .eq 36, 3) := dz_153 (bX4_isAt_1 4 _ rfl) (bX4_isAt_1 5 _ rfl) (bX4_isAt_1 6 _ rfl)
theorem dX4_isAt_23 : decode cX4_isAt 23 = .ok (.iload 5, 2) := dz_21 (bX4_isAt_1 7 _ rfl) (bX4_isAt_1 8 _ rfl)
theorem dX4_isAt_25 : decode cX4_isAt 25 = .ok (.aload_n 0, 1) := dz_42 (bX4_isAt_1 9 _ rfl)
theorem dX4_isAt_26 : decode cX4_isAt 26 = .ok (.arraylength, 1) := dz_190 (bX4_isAt_1 10 _ rfl)
theorem dX4_isAt_27 : decode cX4_isAt 27 = .ok (.if_icmp .ge 29, 3) := dz_162 (bX4_isAt_1 11 _ rfl) (bX4_isAt_1 12 _ rfl) (bX4_isAt_1 13 _ rfl)
theorem dX4_isAt_30 : decode cX4_isAt 30 = .ok (.aload_n 0, 1) := dz_42 (bX4_isAt_1 14 _ rfl)
theorem dX4_isAt_31 : decode cX4_isAt 31 = .ok (.iload 5, 2) := dz_21 (bX4_isAt_1 15 _ rfl) (bX4_isAt_2 0 _ rfl)
theorem dX4_isAt_33 : decode cX4_isAt 33 = .ok (.baload, 1) := dz_51 (bX4_isAt_2 1 _ rfl)
theorem dX4_isAt_34 : decode cX4_isAt 34 = .ok (.aload_n 1, 1) := dz_43 (bX4_isAt_2 2 _ rfl)
theorem dX4_isAt_35 : decode cX4_isAt 35 = .ok (.iload_n 2, 1) := dz_28 (bX4_isAt_2 3 _ rfl)
theorem dX4_isAt_36 : decode cX4_isAt 36 = .ok (.iload 5, 2) := dz_21 (bX4_isAt_2 4 _ rfl) (bX4_isAt_2 5 _ rfl)
theorem dX4_isAt_38 : decode cX4_isAt 38 = .ok (.iadd, 1) := dz_96 (bX4_isAt_2 6 _ rfl)
theorem dX4_isAt_39 : decode cX4_isAt 39 = .ok (.baload, 1) := dz_51 (bX4_isAt_2 7 _ rfl)
theorem dX4_isAt_40 : decode cX4_isAt 40 = .ok (.if_icmp .ne 7, 3) := dz_160 (bX4_isAt_2 8 _ rfl) (bX4_isAt_2 9 _ rfl) (bX4_isAt_2 10 _ rfl)
theorem dX4_isAt_43 : decode cX4_isAt 43 = .ok (.iconst 1, 1) := dz_4 (bX4_isAt_2 11 _ rfl)
theorem dX4_isAt_44 : decode cX4_isAt 44 = .ok (.goto 4, 3) := dz_167 (bX4_isAt_2 12 _ rfl) (bX4_isAt_2 13 _ rfl) (bX4_isAt_2 14 _ rfl)
theorem dX4_isAt_47 : decode cX4_isAt 47 = .ok (.iconst 0, 1) := dz_3 (bX4_isAt_2 15 _ rfl)
theorem dX4_isAt_48 : decode cX4_isAt 48 = .ok (.istore 4, 2) := dz_54 (bX4_isAt_3 0 _ rfl) (bX4_isAt_3 1 _ rfl)
theorem dX4_isAt_50 : decode cX4_isAt 50 = .ok (.iinc 5 1, 3) := dz_132 (bX4_isAt_3 2 _ rfl) (bX4_isAt_3 3 _ rfl) (bX4_isAt_3 4 _ rfl)
theorem dX4_isAt_53 : decode cX4_isAt 53 = .ok (.goto (-35), 3) := dz_167 (bX4_isAt_3 5 _ rfl) (bX4_isAt_3 6 _ rfl) (bX4_isAt_3 7 _ rfl)
theorem dX4_isAt_56 : decode cX4_isAt 56 = .ok (.iload 4, 2) := dz_21 (bX4_isAt_3 8 _ rfl) (bX4_isAt_3 9 _ rfl)
theorem dX4_isAt_58 : decode cX4_isAt 58 = .ok (.ireturn, 1) := dz_172 (bX4_isAt_3 10 _ rfl)
def c_X4_isAt_18 (x0 : Option Nat) (x1 : Option Nat) (x2 : Int32) (x4 : Int32) (x5 : Int32)  (w : ch_W) : Option ((Int32 × Int32) ⊕ (Int32)) := if x4 = 0 then ((ch_bit x4).bind fun v => some (.inr (v))) else ((ch_le w x0 22).bind fun v1 => if x5 < v1 then ((ch_lI w x0 22 x5).bind fun v2 => (ch_lI w x1 22 (x2 + x5)).bind fun v3 => if v2 = v3 then (some (.inl (1, x5 + 1))) else (some (.inl (0, x5 + 1)))) else ((ch_bit x4).bind fun v => some (.inr (v))))
theorem s_X4_isAt_18 {g : State} {kb : Bool} {x0 : Option Nat} {x1 : Option Nat} {x2 : Int32} {x4 : Int32} {x5 : Int32} {w : ch_W} {res : (Int32 × Int32) ⊕ (Int32)} {Q : Outcome → ch_W → Prop} (h : c_X4_isAt_18 x0 x1 x2 x4 x5 w = some res) (hk : (ch_sm (fun s => ch_FT g kb mX4_isAt 2 18 [some (va_rf x0), some (va_rf x1), some (.int x2), none, some (.int s.1), some (.int s.2)] [] (w) Q) (fun r => ch_eI Q (r, w))) res) : ch_FT g kb mX4_isAt 2 18 [some (va_rf x0), some (va_rf x1), some (.int x2), none, some (.int x4), some (.int x5)] [] (w) Q := by
  unfold c_X4_isAt_18 at h
  refine ch_iload 4 _ dX4_isAt_18 rfl (cp_if_eq _ (tgt := 56) dX4_isAt_20 rfl h (fun h => ?_) (fun h => ?_))
  · refine ch_iload 4 _ dX4_isAt_56 rfl (cp_zret _ dX4_isAt_58 rfl h (fun h => ?_))
    obtain rfl := Option.some.inj h
    exact hk
  · refine ch_iload 5 _ dX4_isAt_23 rfl (ch_aload_n 0 x0 dX4_isAt_25 rfl (cp_alen (t := 22) dX4_isAt_26 rfl rfl h (fun v1 h => ?_)))
    refine cp_icmp_ge _ _ (tgt := 56) dX4_isAt_27 rfl h (fun h => ?_) (fun h => ?_)
    · refine ch_iload 4 _ dX4_isAt_56 rfl (cp_zret _ dX4_isAt_58 rfl h (fun h => ?_))
      obtain rfl := Option.some.inj h
      exact hk
    · refine ch_aload_n 0 x0 dX4_isAt_30 rfl (ch_iload 5 _ dX4_isAt_31 rfl (cp_bald (t := 22) dX4_isAt_33 rfl rfl h (fun v2 h => ?_)))
      refine ch_aload_n 1 x1 dX4_isAt_34 rfl (ch_iload_n 2 _ dX4_isAt_35 rfl (ch_iload 5 _ dX4_isAt_36 rfl (ch_iadd _ _ dX4_isAt_38 (cp_bald (t := 22) dX4_isAt_39 rfl rfl h (fun v3 h => ?_)))))
      refine cp_icmp_ne _ _ (tgt := 47) dX4_isAt_40 rfl h (fun h => ?_) (fun h => ?_)
      · refine ch_iconst _ 0 dX4_isAt_47 rfl (ch_istore 4 _ (ls1 := [some (va_rf x0), some (va_rf x1), some (.int x2), none, some (.int 0), some (.int x5)]) dX4_isAt_48 (Nat.le_of_ble_eq_true rfl) rfl (ch_iinc 5 _ _ (x5 + 1) (ls1 := [some (va_rf x0), some (va_rf x1), some (.int x2), none, some (.int 0), some (.int (x5 + 1))]) dX4_isAt_50 rfl rfl (Nat.le_of_ble_eq_true rfl) rfl (ch_goto 18 dX4_isAt_53 rfl (ch_FT.wk (ch_wS (ch_wS (ch_wS (ch_wN (ch_wS (ch_wS ch_w0)))))) ?_))))
        obtain rfl := Option.some.inj h
        exact hk
      · refine ch_iconst _ 1 dX4_isAt_43 rfl (ch_goto 48 dX4_isAt_44 rfl (ch_istore 4 _ (ls1 := [some (va_rf x0), some (va_rf x1), some (.int x2), none, some (.int 1), some (.int x5)]) dX4_isAt_48 (Nat.le_of_ble_eq_true rfl) rfl (ch_iinc 5 _ _ (x5 + 1) (ls1 := [some (va_rf x0), some (va_rf x1), some (.int x2), none, some (.int 1), some (.int (x5 + 1))]) dX4_isAt_50 rfl rfl (Nat.le_of_ble_eq_true rfl) rfl (ch_goto 18 dX4_isAt_53 rfl (ch_FT.wk (ch_wS (ch_wS (ch_wS (ch_wN (ch_wS (ch_wS ch_w0)))))) ?_)))))
        obtain rfl := Option.some.inj h
        exact hk
theorem sl_X4_isAt_18 {g : State} {kb : Bool} {x0 : Option Nat} {x1 : Option Nat} {x2 : Int32} {w : ch_W} {a : Int32 × Int32} {res : Int32} {Q : Outcome → ch_W → Prop} (h : ch_loop (fun (s : Int32 × Int32) => c_X4_isAt_18 x0 x1 x2 s.1 s.2 w) a = some res) (hk : (fun r => ch_eI Q (r, w)) res) : ch_FT g kb mX4_isAt 2 18 [some (va_rf x0), some (va_rf x1), some (.int x2), none, some (.int a.1), some (.int a.2)] [] (w) Q := by
  refine ch_loop_ind (fun (a : Int32 × Int32) (r : Int32) => (fun r => ch_eI Q (r, w)) r → ch_FT g kb mX4_isAt 2 18 [some (va_rf x0), some (va_rf x1), some (.int x2), none, some (.int a.1), some (.int a.2)] [] (w) Q) ?_ ?_ a res h hk
  · intro a a2 b h1 ih hk
    exact s_X4_isAt_18  h1 (ih hk)
  · intro a b h1 hk
    exact s_X4_isAt_18  h1 hk

def c_X4_isAt (x0 : Option Nat) (x1 : Option Nat) (x2 : Int32) (x3 : Int32) (w : ch_W) : Option (Int32) := (ch_le w x0 22).bind fun v1 => if v1 = (x3 - x2) then (ch_loop (fun (s : Int32 × Int32) => c_X4_isAt_18 x0 x1 x2 s.1 s.2 w) (1, 0)) else (ch_loop (fun (s : Int32 × Int32) => c_X4_isAt_18 x0 x1 x2 s.1 s.2 w) (0, 0))
theorem s_X4_isAt {g : State} {kb : Bool} {x0 : Option Nat} {x1 : Option Nat} {x2 : Int32} {x3 : Int32} {w : ch_W} {res : Int32} {Q : Outcome → ch_W → Prop} (h : c_X4_isAt x0 x1 x2 x3 w = some res) (hk : (fun r => ch_eI Q (r, w)) res) : ch_CT g kb yX4_isAt 2 [va_rf x0, va_rf x1, .int x2, .int x3] (w) Q := by
  unfold c_X4_isAt at h
  refine ch_ctL mX4_isAt (ls := [some (va_rf x0), some (va_rf x1), some (.int x2), some (.int x3), none, none]) q626 rfl (ch_lyr (r := x0) (ch_lyr (r := x1) (ch_lyi (ch_lyi ch_ly0)))) (Nat.le_of_ble_eq_true rfl) rfl ?_
  refine ch_aload_n 0 x0 dX4_isAt_0 rfl (cp_alen (t := 22) dX4_isAt_1 rfl rfl h (fun v1 h => ?_))
  refine ch_iload_n 3 _ dX4_isAt_2 rfl (ch_iload_n 2 _ dX4_isAt_3 rfl (ch_isub _ _ dX4_isAt_4 (cp_icmp_ne _ _ (tgt := 12) dX4_isAt_5 rfl h (fun h => ?_) (fun h => ?_))))
  · exact ch_iconst _ 0 dX4_isAt_12 rfl (ch_istore 4 _ (ls1 := [some (va_rf x0), some (va_rf x1), some (.int x2), some (.int x3), some (.int 0), none]) dX4_isAt_13 (Nat.le_of_ble_eq_true rfl) rfl (ch_iconst _ 0 dX4_isAt_15 rfl (ch_istore 5 _ (ls1 := [some (va_rf x0), some (va_rf x1), some (.int x2), some (.int x3), some (.int 0), some (.int 0)]) dX4_isAt_16 (Nat.le_of_ble_eq_true rfl) rfl (ch_FT.wk (ch_wS (ch_wS (ch_wS (ch_wN (ch_wS (ch_wS ch_w0)))))) (sl_X4_isAt_18  h hk)))))
  · exact ch_iconst _ 1 dX4_isAt_8 rfl (ch_goto 13 dX4_isAt_9 rfl (ch_istore 4 _ (ls1 := [some (va_rf x0), some (va_rf x1), some (.int x2), some (.int x3), some (.int 1), none]) dX4_isAt_13 (Nat.le_of_ble_eq_true rfl) rfl (ch_iconst _ 0 dX4_isAt_15 rfl (ch_istore 5 _ (ls1 := [some (va_rf x0), some (va_rf x1), some (.int x2), some (.int x3), some (.int 1), some (.int 0)]) dX4_isAt_16 (Nat.le_of_ble_eq_true rfl) rfl (ch_FT.wk (ch_wS (ch_wS (ch_wS (ch_wN (ch_wS (ch_wS ch_w0)))))) (sl_X4_isAt_18  h hk))))))

theorem bX4_numberOf_0 : ch_ck cX4_numberOf 0 [3, 54, 4, 21, 4, 42, 180, 0, 12, 182, 0, 89, 162, 0, 30, 42] := ch_ckof (by decide +kernel)
theorem bX4_numberOf_1 : ch_ck cX4_numberOf 16 [180, 0, 12, 21, 4, 182, 0, 92, 192, 0, 96, 43, 28, 29, 184, 0] := ch_ckof (by decide +kernel)
theorem bX4_numberOf_2 : ch_ck cX4_numberOf 32 [97, 154, 0, 9, 132, 4, 1, 167, 255, 220, 21, 4, 42, 180, 0, 12] := ch_ckof (by decide +kernel)
theorem bX4_numberOf_3 : ch_ck cX4_numberOf 48 [182, 0, 89, 160, 0, 31, 29, 28, 100, 188, 8, 58, 5, 43, 28, 25] := ch_ckof (by decide +kernel)
theorem bX4_numberOf_4 : ch_ck cX4_numberOf 64 [5, 3, 25, 5, 190, 184, 0, 101, 42, 180, 0, 12, 25, 5, 182, 0] := ch_ckof (by decide +kernel)
theorem bX4_numberOf_5 : ch_ck cX4_numberOf 80 [107, 87, 21, 4, 172] := ch_ckof (by decide +kernel)
theorem dX4_numberOf_0 : decode cX4_numberOf 0 = .ok (.iconst 0, 1) := dz_3 (bX4_numberOf_0 0 _ rfl)
theorem dX4_numberOf_1 : decode cX4_numberOf 1 = .ok (.istore 4, 2) := dz_54 (bX4_numberOf_0 1 _ rfl) (bX4_numberOf_0 2 _ rfl)
theorem dX4_numberOf_3 : decode cX4_numberOf 3 = .ok (.iload 4, 2) := dz_21 (bX4_numberOf_0 3 _ rfl) (bX4_numberOf_0 4 _ rfl)
theorem dX4_numberOf_5 : decode cX4_numberOf 5 = .ok (.aload_n 0, 1) := dz_42 (bX4_numberOf_0 5 _ rfl)
theorem dX4_numberOf_6 : decode cX4_numberOf 6 = .ok (.getfield 12, 3) := dz_180 (bX4_numberOf_0 6 _ rfl) (bX4_numberOf_0 7 _ rfl) (bX4_numberOf_0 8 _ rfl)
theorem dX4_numberOf_9 : decode cX4_numberOf 9 = .ok (.invokevirtual 89, 3) := dz_182 (bX4_numberOf_0 9 _ rfl) (bX4_numberOf_0 10 _ rfl) (bX4_numberOf_0 11 _ rfl)
theorem dX4_numberOf_12 : decode cX4_numberOf 12 = .ok (.if_icmp .ge 30, 3) := dz_162 (bX4_numberOf_0 12 _ rfl) (bX4_numberOf_0 13 _ rfl) (bX4_numberOf_0 14 _ rfl)
theorem dX4_numberOf_15 : decode cX4_numberOf 15 = .ok (.aload_n 0, 1) := dz_42 (bX4_numberOf_0 15 _ rfl)
theorem dX4_numberOf_16 : decode cX4_numberOf 16 = .ok (.getfield 12, 3) := dz_180 (bX4_numberOf_1 0 _ rfl) (bX4_numberOf_1 1 _ rfl) (bX4_numberOf_1 2 _ rfl)
theorem dX4_numberOf_19 : decode cX4_numberOf 19 = .ok (.iload 4, 2) := dz_21 (bX4_numberOf_1 3 _ rfl) (bX4_numberOf_1 4 _ rfl)
theorem dX4_numberOf_21 : decode cX4_numberOf 21 = .ok (.invokevirtual 92, 3) := dz_182 (bX4_numberOf_1 5 _ rfl) (bX4_numberOf_1 6 _ rfl) (bX4_numberOf_1 7 _ rfl)
theorem dX4_numberOf_24 : decode cX4_numberOf 24 = .ok (.checkcast 96, 3) := dz_192 (bX4_numberOf_1 8 _ rfl) (bX4_numberOf_1 9 _ rfl) (bX4_numberOf_1 10 _ rfl)
theorem dX4_numberOf_27 : decode cX4_numberOf 27 = .ok (.aload_n 1, 1) := dz_43 (bX4_numberOf_1 11 _ rfl)
theorem dX4_numberOf_28 : decode cX4_numberOf 28 = .ok (.iload_n 2, 1) := dz_28 (bX4_numberOf_1 12 _ rfl)
theorem dX4_numberOf_29 : decode cX4_numberOf 29 = .ok (.iload_n 3, 1) := dz_29 (bX4_numberOf_1 13 _ rfl)
theorem dX4_numberOf_30 : decode cX4_numberOf 30 = .ok (.invokestatic 97, 3) := dz_184 (bX4_numberOf_1 14 _ rfl) (bX4_numberOf_1 15 _ rfl) (bX4_numberOf_2 0 _ rfl)
theorem dX4_numberOf_33 : decode cX4_numberOf 33 = .ok (.ifCond .ne 9, 3) := dz_154 (bX4_numberOf_2 1 _ rfl) (bX4_numberOf_2 2 _ rfl) (bX4_numberOf_2 3 _ rfl)
theorem dX4_numberOf_36 : decode cX4_numberOf 36 = .ok (.iinc 4 1, 3) := dz_132 (bX4_numberOf_2 4 _ rfl) (bX4_numberOf_2 5 _ rfl) (bX4_numberOf_2 6 _ rfl)
theorem dX4_numberOf_39 : decode cX4_numberOf 39 = .ok (.goto (-36), 3) := dz_167 (bX4_numberOf_2 7 _ rfl) (bX4_numberOf_2 8 _ rfl) (bX4_numberOf_2 9 _ rfl)
theorem dX4_numberOf_42 : decode cX4_numberOf 42 = .ok (.iload 4, 2) := dz_21 (bX4_numberOf_2 10 _ rfl) (bX4_numberOf_2 11 _ rfl)
theorem dX4_numberOf_44 : decode cX4_numberOf 44 = .ok (.aload_n 0, 1) := dz_42 (bX4_numberOf_2 12 _ rfl)
theorem dX4_numberOf_45 : decode cX4_numberOf 45 = .ok (.getfield 12, 3) := dz_180 (bX4_numberOf_2 13 _ rfl) (bX4_numberOf_2 14 _ rfl) (bX4_numberOf_2 15 _ rfl)
theorem dX4_numberOf_48 : decode cX4_numberOf 48 = .ok (.invokevirtual 89, 3) := dz_182 (bX4_numberOf_3 0 _ rfl) (bX4_numberOf_3 1 _ rfl) (bX4_numberOf_3 2 _ rfl)
theorem dX4_numberOf_51 : decode cX4_numberOf 51 = .ok (.if_icmp .ne 31, 3) := dz_160 (bX4_numberOf_3 3 _ rfl) (bX4_numberOf_3 4 _ rfl) (bX4_numberOf_3 5 _ rfl)
theorem dX4_numberOf_54 : decode cX4_numberOf 54 = .ok (.iload_n 3, 1) := dz_29 (bX4_numberOf_3 6 _ rfl)
theorem dX4_numberOf_55 : decode cX4_numberOf 55 = .ok (.iload_n 2, 1) := dz_28 (bX4_numberOf_3 7 _ rfl)
theorem dX4_numberOf_56 : decode cX4_numberOf 56 = .ok (.isub, 1) := dz_100 (bX4_numberOf_3 8 _ rfl)
theorem dX4_numberOf_57 : decode cX4_numberOf 57 = .ok (.newarray .byte, 2) := dz_188_8 (bX4_numberOf_3 9 _ rfl) (bX4_numberOf_3 10 _ rfl)
theorem dX4_numberOf_59 : decode cX4_numberOf 59 = .ok (.astore 5, 2) := dz_58 (bX4_numberOf_3 11 _ rfl) (bX4_numberOf_3 12 _ rfl)
theorem dX4_numberOf_61 : decode cX4_numberOf 61 = .ok (.aload_n 1, 1) := dz_43 (bX4_numberOf_3 13 _ rfl)
theorem dX4_numberOf_62 : decode cX4_numberOf 62 = .ok (.iload_n 2, 1) := dz_28 (bX4_numberOf_3 14 _ rfl)
theorem dX4_numberOf_63 : decode cX4_numberOf 63 = .ok (.aload 5, 2) := dz_25 (bX4_numberOf_3 15 _ rfl) (bX4_numberOf_4 0 _ rfl)
theorem dX4_numberOf_65 : decode cX4_numberOf 65 = .ok (.iconst 0, 1) := dz_3 (bX4_numberOf_4 1 _ rfl)
theorem dX4_numberOf_66 : decode cX4_numberOf 66 = .ok (.aload 5, 2) := dz_25 (bX4_numberOf_4 2 _ rfl) (bX4_numberOf_4 3 _ rfl)
theorem dX4_numberOf_68 : decode cX4_numberOf 68 = .ok (.arraylength, 1) := dz_190 (bX4_numberOf_4 4 _ rfl)
theorem dX4_numberOf_69 : decode cX4_numberOf 69 = .ok (.invokestatic 101, 3) := dz_184 (bX4_numberOf_4 5 _ rfl) (bX4_numberOf_4 6 _ rfl) (bX4_numberOf_4 7 _ rfl)
theorem dX4_numberOf_72 : decode cX4_numberOf 72 = .ok (.aload_n 0, 1) := dz_42 (bX4_numberOf_4 8 _ rfl)
theorem dX4_numberOf_73 : decode cX4_numberOf 73 = .ok (.getfield 12, 3) := dz_180 (bX4_numberOf_4 9 _ rfl) (bX4_numberOf_4 10 _ rfl) (bX4_numberOf_4 11 _ rfl)
theorem dX4_numberOf_76 : decode cX4_numberOf 76 = .ok (.aload 5, 2) := dz_25 (bX4_numberOf_4 12 _ rfl) (bX4_numberOf_4 13 _ rfl)
theorem dX4_numberOf_78 : decode cX4_numberOf 78 = .ok (.invokevirtual 107, 3) := dz_182 (bX4_numberOf_4 14 _ rfl) (bX4_numberOf_4 15 _ rfl) (bX4_numberOf_5 0 _ rfl)
theorem dX4_numberOf_81 : decode cX4_numberOf 81 = .ok (.pop, 1) := dz_87 (bX4_numberOf_5 1 _ rfl)
theorem dX4_numberOf_82 : decode cX4_numberOf 82 = .ok (.iload 4, 2) := dz_21 (bX4_numberOf_5 2 _ rfl) (bX4_numberOf_5 3 _ rfl)
theorem dX4_numberOf_84 : decode cX4_numberOf 84 = .ok (.ireturn, 1) := dz_172 (bX4_numberOf_5 4 _ rfl)
def c_X4_numberOf_42 (g : State) (t0 : Nat) (x1 : Option Nat) (x2 : Int32) (x3 : Int32) (x4 : Int32)  (w : ch_W) : Option (Int32 × ch_W) := (ch_gR w (some t0) 5 fX4_names).bind fun v1 => (ch_rc w v1 14).bind fun b3 => (c_J5_size b3 w).bind fun v4 => if x4 = v4 then ((ch_nA w 22 (x3 - x2)).bind fun w6 => (ch_le w6 (some (ch_nx w)) 22).bind fun v7 => (ch_cp w6 22 x1 x2 (some (ch_nx w)) 0 v7).bind fun w8 => (ch_gR w8 (some t0) 5 fX4_names).bind fun v9 => (ch_rc w8 v9 14).bind fun b11 => (c_J5_add g b11 (some (ch_nx w)) w8).bind fun p12 => some ((x4, p12.2))) else (some ((x4, w)))
theorem s_X4_numberOf_42 {g : State} {t0 : Nat} {x1 : Option Nat} {x2 : Int32} {x3 : Int32} {x4 : Int32} {w : ch_W} {res : Int32 × ch_W} {Q : Outcome → ch_W → Prop} (h : c_X4_numberOf_42 g t0 x1 x2 x3 x4 w = some res) (hk : (ch_eI Q) res) : ch_FT g true mX4_numberOf 9 42 [some (va_rf (some t0)), some (va_rf x1), some (.int x2), some (.int x3), some (.int x4), none] [] (w) Q := by
  unfold c_X4_numberOf_42 at h
  refine ch_iload 4 _ dX4_numberOf_42 rfl (ch_aload_n 0 (some t0) dX4_numberOf_44 rfl (cp_gR (ci := 4) (k := 6) dX4_numberOf_45 fl_X4_12 rfl h (fun v1 h => ?_)))
  obtain ⟨b3, hb2, h⟩ := ch_bd h
  obtain ⟨v4, hp5, h⟩ := ch_bd h
  refine ch_iv yJ5_size prog_32_method_8_code 1 (some .int) (ci := 13) (q := (RJ5, TJ5, 3)) (b := b3) (d' := 2) (av := []) (rest := [.int x4]) (by rw [ch_rs hb2]; rfl) dX4_numberOf_48 q607 q608 rfl q609 q610 can_J5_size (Nat.le_of_ble_eq_true rfl) (ch_hw (Nat.le_of_ble_eq_true rfl)) (ch_rtg hb2) (cp_kI (v := v4) (w1 := w) (fun Q' hq => s_J5_size hp5 hq) ?_)
  refine cp_icmp_ne _ _ (tgt := 82) dX4_numberOf_51 rfl h (fun h => ?_) (fun h => ?_)
  · obtain rfl := Option.some.inj h
    exact ch_iload 4 _ dX4_numberOf_82 rfl (ch_ireturn _ dX4_numberOf_84 rfl rfl hk)
  · refine ch_iload_n 3 _ dX4_numberOf_54 rfl (ch_iload_n 2 _ dX4_numberOf_55 rfl (ch_isub _ _ dX4_numberOf_56 (cp_newA (t := 22) (ty := .byte) dX4_numberOf_57 rfl rfl (Nat.le_of_ble_eq_true rfl) rfl (Nat.le_of_ble_eq_true rfl) q312 h (fun w6 h => ?_))))
    refine ch_astore 5 (some (ch_nx w)) (ls1 := [some (va_rf (some t0)), some (va_rf x1), some (.int x2), some (.int x3), some (.int x4), some (va_rf (some (ch_nx w)))]) dX4_numberOf_59 (Nat.le_of_ble_eq_true rfl) rfl (ch_aload_n 1 x1 dX4_numberOf_61 rfl (ch_iload_n 2 _ dX4_numberOf_62 rfl (ch_aload 5 (some (ch_nx w)) dX4_numberOf_63 rfl (ch_iconst _ 0 dX4_numberOf_65 rfl (ch_aload 5 (some (ch_nx w)) dX4_numberOf_66 rfl (cp_alen (t := 22) dX4_numberOf_68 rfl rfl h (fun v7 h => ?_)))))))
    refine cp_copy (t := 22) dX4_numberOf_69 rfl (Nat.le_of_ble_eq_true rfl) ft_22 rfl rfl q627 (Nat.le_of_ble_eq_true rfl) (Nat.le_of_ble_eq_true rfl) h (fun w8 h => ?_)
    refine ch_aload_n 0 (some t0) dX4_numberOf_72 rfl (cp_gR (ci := 4) (k := 6) dX4_numberOf_73 fl_X4_12 rfl h (fun v9 h => ?_))
    obtain ⟨b11, hb10, h⟩ := ch_bd h
    obtain ⟨p12, hp13, h⟩ := ch_bd h
    refine ch_aload 5 (some (ch_nx w)) dX4_numberOf_76 rfl (ch_iv yJ5_add prog_32_method_25_code 2 (some .boolean) (ci := 13) (q := (RJ5, TJ5, 3)) (b := b11) (d' := 8) (av := [va_rf (some (ch_nx w))]) (rest := []) (by rw [ch_rs hb10]; rfl) dX4_numberOf_78 q630 q631 rfl q632 q633 can_J5_add (Nat.le_of_ble_eq_true rfl) (Nat.le_of_ble_eq_true rfl) (ch_rtg hb10) (cp_kI (v := p12.1) (w1 := p12.2) (fun Q' hq => s_J5_add hp13 hq) ?_))
    obtain rfl := Option.some.inj h
    exact ch_pop dX4_numberOf_81 rfl (ch_iload 4 _ dX4_numberOf_82 rfl (ch_ireturn _ dX4_numberOf_84 rfl rfl hk))

def c_X4_numberOf_3 (g : State) (t0 : Nat) (x1 : Option Nat) (x2 : Int32) (x3 : Int32) (x4 : Int32)  (w : ch_W) : Option (Int32 ⊕ (Int32 × ch_W)) := (ch_gR w (some t0) 5 fX4_names).bind fun v1 => (ch_rc w v1 14).bind fun b3 => (c_J5_size b3 w).bind fun v4 => if x4 < v4 then ((ch_gR w (some t0) 5 fX4_names).bind fun v6 => (ch_rc w v6 14).bind fun b8 => (c_J5_get b8 x4 w).bind fun v9 => (ch_cast w v9 22).bind fun _ => (c_X4_isAt v9 x1 x2 x3 w).bind fun v13 => if v13 = 0 then (some (.inl (x4 + 1))) else ((c_X4_numberOf_42 g t0 x1 x2 x3 x4 w).bind fun r => some (.inr (r)))) else ((c_X4_numberOf_42 g t0 x1 x2 x3 x4 w).bind fun r => some (.inr (r)))
theorem s_X4_numberOf_3 {g : State} {t0 : Nat} {x1 : Option Nat} {x2 : Int32} {x3 : Int32} {x4 : Int32} {w : ch_W} {res : Int32 ⊕ (Int32 × ch_W)} {Q : Outcome → ch_W → Prop} (h : c_X4_numberOf_3 g t0 x1 x2 x3 x4 w = some res) (hk : (ch_sm (fun s => ch_FT g true mX4_numberOf 9 3 [some (va_rf (some t0)), some (va_rf x1), some (.int x2), some (.int x3), some (.int s), none] [] (w) Q) (ch_eI Q)) res) : ch_FT g true mX4_numberOf 9 3 [some (va_rf (some t0)), some (va_rf x1), some (.int x2), some (.int x3), some (.int x4), none] [] (w) Q := by
  unfold c_X4_numberOf_3 at h
  refine ch_iload 4 _ dX4_numberOf_3 rfl (ch_aload_n 0 (some t0) dX4_numberOf_5 rfl (cp_gR (ci := 4) (k := 6) dX4_numberOf_6 fl_X4_12 rfl h (fun v1 h => ?_)))
  obtain ⟨b3, hb2, h⟩ := ch_bd h
  obtain ⟨v4, hp5, h⟩ := ch_bd h
  refine ch_iv yJ5_size prog_32_method_8_code 1 (some .int) (ci := 13) (q := (RJ5, TJ5, 3)) (b := b3) (d' := 2) (av := []) (rest := [.int x4]) (by rw [ch_rs hb2]; rfl) dX4_numberOf_9 q607 q608 rfl q609 q610 can_J5_size (Nat.le_of_ble_eq_true rfl) (ch_hw (Nat.le_of_ble_eq_true rfl)) (ch_rtg hb2) (cp_kI (v := v4) (w1 := w) (fun Q' hq => s_J5_size hp5 hq) ?_)
  refine cp_icmp_ge _ _ (tgt := 42) dX4_numberOf_12 rfl h (fun h => ?_) (fun h => ?_)
  · obtain ⟨r, hr, h⟩ := ch_bd h
    obtain rfl := Option.some.inj h
    exact ch_FT.wk (ch_wS (ch_wS (ch_wS (ch_wS (ch_wS (ch_wN ch_w0)))))) (s_X4_numberOf_42  hr hk)
  · refine ch_aload_n 0 (some t0) dX4_numberOf_15 rfl (cp_gR (ci := 4) (k := 6) dX4_numberOf_16 fl_X4_12 rfl h (fun v6 h => ?_))
    obtain ⟨b8, hb7, h⟩ := ch_bd h
    obtain ⟨v9, hp10, h⟩ := ch_bd h
    refine ch_iload 4 _ dX4_numberOf_19 rfl (ch_iv yJ5_get prog_32_method_20_code 2 (some (.object "java/lang/Object")) (ci := 13) (q := (RJ5, TJ5, 3)) (b := b8) (d' := 4) (av := [.int x4]) (rest := []) (by rw [ch_rs hb7]; rfl) dX4_numberOf_21 q611 q612 rfl q613 q614 can_J5_get (Nat.le_of_ble_eq_true rfl) (Nat.le_of_ble_eq_true rfl) (ch_rtg hb7) (cp_kR (v := v9) (w1 := w) (fun Q' hq => s_J5_get hp10 hq) ?_))
    refine cp_castA (t := 22) dX4_numberOf_24 rfl (Nat.le_of_ble_eq_true rfl) (by decide) q623 h (fun h => ?_)
    obtain ⟨v13, hp14, h⟩ := ch_bd h
    refine ch_aload_n 1 x1 dX4_numberOf_27 rfl (ch_iload_n 2 _ dX4_numberOf_28 rfl (ch_iload_n 3 _ dX4_numberOf_29 rfl (ch_is yX4_isAt prog_7_method_14_code 6 (some .boolean) (d' := 2) (av := [va_rf v9, va_rf x1, .int x2, .int x3]) (rest := []) rfl dX4_numberOf_30 q624 q625 q207 q626 can_X4_isAt (Nat.le_of_ble_eq_true rfl) (Nat.le_of_ble_eq_true rfl) (cp_kI (v := v13) (w1 := w) (fun Q' hq => s_X4_isAt hp14 hq) ?_))))
    refine cp_if_ne _ (tgt := 42) dX4_numberOf_33 rfl h (fun h => ?_) (fun h => ?_)
    · obtain ⟨r, hr, h⟩ := ch_bd h
      obtain rfl := Option.some.inj h
      exact ch_FT.wk (ch_wS (ch_wS (ch_wS (ch_wS (ch_wS (ch_wN ch_w0)))))) (s_X4_numberOf_42  hr hk)
    · refine ch_iinc 4 _ _ (x4 + 1) (ls1 := [some (va_rf (some t0)), some (va_rf x1), some (.int x2), some (.int x3), some (.int (x4 + 1)), none]) dX4_numberOf_36 rfl rfl (Nat.le_of_ble_eq_true rfl) rfl (ch_goto 3 dX4_numberOf_39 rfl (ch_FT.wk (ch_wS (ch_wS (ch_wS (ch_wS (ch_wS (ch_wN ch_w0)))))) ?_))
      obtain rfl := Option.some.inj h
      exact hk
theorem sl_X4_numberOf_3 {g : State} {t0 : Nat} {x1 : Option Nat} {x2 : Int32} {x3 : Int32} {w : ch_W} {a : Int32} {res : Int32 × ch_W} {Q : Outcome → ch_W → Prop} (h : ch_loop (fun (s : Int32) => c_X4_numberOf_3 g t0 x1 x2 x3 s w) a = some res) (hk : (ch_eI Q) res) : ch_FT g true mX4_numberOf 9 3 [some (va_rf (some t0)), some (va_rf x1), some (.int x2), some (.int x3), some (.int a), none] [] (w) Q := by
  refine ch_loop_ind (fun (a : Int32) (r : Int32 × ch_W) => (ch_eI Q) r → ch_FT g true mX4_numberOf 9 3 [some (va_rf (some t0)), some (va_rf x1), some (.int x2), some (.int x3), some (.int a), none] [] (w) Q) ?_ ?_ a res h hk
  · intro a a2 b h1 ih hk
    exact s_X4_numberOf_3  h1 (ih hk)
  · intro a b h1 hk
    exact s_X4_numberOf_3  h1 hk

def c_X4_numberOf (g : State) (t0 : Nat) (x1 : Option Nat) (x2 : Int32) (x3 : Int32) (w : ch_W) : Option (Int32 × ch_W) := ch_loop (fun (s : Int32) => c_X4_numberOf_3 g t0 x1 x2 x3 s w) (0)
theorem s_X4_numberOf {g : State} {t0 : Nat} {x1 : Option Nat} {x2 : Int32} {x3 : Int32} {w : ch_W} {res : Int32 × ch_W} {Q : Outcome → ch_W → Prop} (h : c_X4_numberOf g t0 x1 x2 x3 w = some res) (hk : (ch_eI Q) res) : ch_CT g true yX4_numberOf 9 [.ref t0, va_rf x1, .int x2, .int x3] (w) Q := by
  unfold c_X4_numberOf at h
  refine ch_ctL mX4_numberOf (ls := [some (va_rf (some t0)), some (va_rf x1), some (.int x2), some (.int x3), none, none]) q606 rfl (ch_lyr (r := some t0) (ch_lyr (r := x1) (ch_lyi (ch_lyi ch_ly0)))) (Nat.le_of_ble_eq_true rfl) rfl ?_
  exact ch_iconst _ 0 dX4_numberOf_0 rfl (ch_istore 4 _ (ls1 := [some (va_rf (some t0)), some (va_rf x1), some (.int x2), some (.int x3), some (.int 0), none]) dX4_numberOf_1 (Nat.le_of_ble_eq_true rfl) rfl (ch_FT.wk (ch_wS (ch_wS (ch_wS (ch_wS (ch_wS (ch_wN ch_w0)))))) (sl_X4_numberOf_3  h hk)))

theorem bX4_name_0 : ch_ck cX4_name 0 [42, 42, 180, 0, 40, 4, 160, 0, 7, 4, 167, 0, 4, 3, 182, 0] := ch_ckof (by decide +kernel)
theorem bX4_name_1 : ch_ck cX4_name 16 [58, 42, 42, 180, 0, 21, 42, 180, 0, 31, 42, 180, 0, 37, 182, 0] := ch_ckof (by decide +kernel)
theorem bX4_name_2 : ch_ck cX4_name 32 [85, 172] := ch_ckof (by decide +kernel)
theorem dX4_name_0 : decode cX4_name 0 = .ok (.aload_n 0, 1) := dz_42 (bX4_name_0 0 _ rfl)
theorem dX4_name_1 : decode cX4_name 1 = .ok (.aload_n 0, 1) := dz_42 (bX4_name_0 1 _ rfl)
theorem dX4_name_2 : decode cX4_name 2 = .ok (.getfield 40, 3) := dz_180 (bX4_name_0 2 _ rfl) (bX4_name_0 3 _ rfl) (bX4_name_0 4 _ rfl)
theorem dX4_name_5 : decode cX4_name 5 = .ok (.iconst 1, 1) := dz_4 (bX4_name_0 5 _ rfl)
theorem dX4_name_6 : decode cX4_name 6 = .ok (.if_icmp .ne 7, 3) := dz_160 (bX4_name_0 6 _ rfl) (bX4_name_0 7 _ rfl) (bX4_name_0 8 _ rfl)
theorem dX4_name_9 : decode cX4_name 9 = .ok (.iconst 1, 1) := dz_4 (bX4_name_0 9 _ rfl)
theorem dX4_name_10 : decode cX4_name 10 = .ok (.goto 4, 3) := dz_167 (bX4_name_0 10 _ rfl) (bX4_name_0 11 _ rfl) (bX4_name_0 12 _ rfl)
theorem dX4_name_13 : decode cX4_name 13 = .ok (.iconst 0, 1) := dz_3 (bX4_name_0 13 _ rfl)
theorem dX4_name_14 : decode cX4_name 14 = .ok (.invokevirtual 58, 3) := dz_182 (bX4_name_0 14 _ rfl) (bX4_name_0 15 _ rfl) (bX4_name_1 0 _ rfl)
theorem dX4_name_17 : decode cX4_name 17 = .ok (.aload_n 0, 1) := dz_42 (bX4_name_1 1 _ rfl)
theorem dX4_name_18 : decode cX4_name 18 = .ok (.aload_n 0, 1) := dz_42 (bX4_name_1 2 _ rfl)
theorem dX4_name_19 : decode cX4_name 19 = .ok (.getfield 21, 3) := dz_180 (bX4_name_1 3 _ rfl) (bX4_name_1 4 _ rfl) (bX4_name_1 5 _ rfl)
theorem dX4_name_22 : decode cX4_name 22 = .ok (.aload_n 0, 1) := dz_42 (bX4_name_1 6 _ rfl)
theorem dX4_name_23 : decode cX4_name 23 = .ok (.getfield 31, 3) := dz_180 (bX4_name_1 7 _ rfl) (bX4_name_1 8 _ rfl) (bX4_name_1 9 _ rfl)
theorem dX4_name_26 : decode cX4_name 26 = .ok (.aload_n 0, 1) := dz_42 (bX4_name_1 10 _ rfl)
theorem dX4_name_27 : decode cX4_name 27 = .ok (.getfield 37, 3) := dz_180 (bX4_name_1 11 _ rfl) (bX4_name_1 12 _ rfl) (bX4_name_1 13 _ rfl)
theorem dX4_name_30 : decode cX4_name 30 = .ok (.invokevirtual 85, 3) := dz_182 (bX4_name_1 14 _ rfl) (bX4_name_1 15 _ rfl) (bX4_name_2 0 _ rfl)
theorem dX4_name_33 : decode cX4_name 33 = .ok (.ireturn, 1) := dz_172 (bX4_name_2 1 _ rfl)
def c_X4_name_14 (g : State) (t0 : Nat)  (y0 : Int32) (y1 : Nat) (w : ch_W) : Option (Except Nat Int32 × ch_W) := (ch_rc w (some y1) 5).bind fun _ => ch_tb (c_X4_must g y1 y0 w) (fun a w => (.error a, w)) fun _ w3 => (ch_gR w3 (some t0) 5 fX4_s).bind fun v4 => (ch_gI w3 (some t0) 5 fX4_from).bind fun v5 => (ch_gI w3 (some t0) 5 fX4_to).bind fun v6 => (ch_rc w3 (some t0) 5).bind fun _ => (c_X4_numberOf g t0 v4 v5 v6 w3).bind fun p8 => some ((.ok p8.1, p8.2))
theorem s_X4_name_14 {g : State} {t0 : Nat} {y0 : Int32} {y1 : Nat} {w : ch_W} {res : Except Nat Int32 × ch_W} {Q : Outcome → ch_W → Prop} (h : c_X4_name_14 g t0 y0 y1 w = some res) (hk : (ch_xI Q) res) : ch_FT g true mX4_name 10 14 [some (va_rf (some t0))] [.int y0, va_rf (some y1)] (w) Q := by
  unfold c_X4_name_14 at h
  obtain ⟨_, hb1, h⟩ := ch_bd h
  refine ch_iv yX4_must prog_7_method_2_code 2 none (ci := 4) (q := (RX4, TX4, 9)) (b := y1) (d' := 7) (av := [.int y0]) (rest := []) rfl dX4_name_14 q561 q563 rfl qs4 q564 can_X4_must (Nat.le_of_ble_eq_true rfl) (Nat.le_of_ble_eq_true rfl) (ch_rts hb1) (cp_tV h (fun p hp Q' hq => s_X4_must hp hq) (fun w3 h => ?_) (fun a w1 h => ?_))
  · refine ch_aload_n 0 (some t0) dX4_name_17 rfl (ch_aload_n 0 (some t0) dX4_name_18 rfl (cp_gR (ci := 4) (k := 0) dX4_name_19 fl_X4_21 rfl h (fun v4 h => ?_)))
    refine ch_aload_n 0 (some t0) dX4_name_22 rfl (cp_gI (ci := 4) (k := 3) dX4_name_23 fl_X4_31 rfl h (fun v5 h => ?_))
    refine ch_aload_n 0 (some t0) dX4_name_26 rfl (cp_gI (ci := 4) (k := 4) dX4_name_27 fl_X4_37 rfl h (fun v6 h => ?_))
    obtain ⟨_, hb7, h⟩ := ch_bd h
    obtain ⟨p8, hp9, h⟩ := ch_bd h
    refine ch_iv yX4_numberOf prog_7_method_13_code 6 (some .int) (ci := 4) (q := (RX4, TX4, 9)) (b := t0) (d' := 9) (av := [va_rf v4, .int v5, .int v6]) (rest := []) rfl dX4_name_30 q603 q605 rfl qs9 q606 can_X4_numberOf (Nat.le_of_ble_eq_true rfl) (Nat.le_of_ble_eq_true rfl) (ch_rts hb7) (cp_kI (v := p8.1) (w1 := p8.2) (fun Q' hq => s_X4_numberOf hp9 hq) ?_)
    obtain rfl := Option.some.inj h
    exact ch_ireturn _ dX4_name_33 rfl rfl hk
  · subst h
    exact ch_th rfl hk

def c_X4_name (g : State) (t0 : Nat)  (w : ch_W) : Option (Except Nat Int32 × ch_W) := (ch_gI w (some t0) 5 fX4_kind).bind fun v1 => if v1 = 1 then (c_X4_name_14 g t0 1 t0 w) else (c_X4_name_14 g t0 0 t0 w)
theorem s_X4_name {g : State} {t0 : Nat} {w : ch_W} {res : Except Nat Int32 × ch_W} {Q : Outcome → ch_W → Prop} (h : c_X4_name g t0 w = some res) (hk : (ch_xI Q) res) : ch_CT g true yX4_name 10 [.ref t0] (w) Q := by
  unfold c_X4_name at h
  refine ch_ctL mX4_name (ls := [some (va_rf (some t0))]) q602 rfl (ch_lyr (r := some t0) ch_ly0) (Nat.le_of_ble_eq_true rfl) rfl ?_
  refine ch_aload_n 0 (some t0) dX4_name_0 rfl (ch_aload_n 0 (some t0) dX4_name_1 rfl (cp_gI (ci := 4) (k := 2) dX4_name_2 fl_X4_40 rfl h (fun v1 h => ?_)))
  refine ch_iconst _ 1 dX4_name_5 rfl (cp_icmp_ne _ _ (tgt := 13) dX4_name_6 rfl h (fun h => ?_) (fun h => ?_))
  · exact ch_iconst _ 0 dX4_name_13 rfl (ch_FT.wk (ch_wS ch_w0) (s_X4_name_14  h hk))
  · exact ch_iconst _ 1 dX4_name_9 rfl (ch_goto 14 dX4_name_10 rfl (ch_FT.wk (ch_wS ch_w0) (s_X4_name_14  h hk)))

theorem bX6_init_0 : ch_ck cX6_init 0 [42, 183, 0, 1, 42, 2, 181, 0, 7, 42, 187, 0, 13, 89, 183, 0] := ch_ckof (by decide +kernel)
theorem bX6_init_1 : ch_ck cX6_init 16 [15, 181, 0, 16, 42, 27, 181, 0, 20, 42, 28, 181, 0, 23, 177] := ch_ckof (by decide +kernel)
theorem dX6_init_0 : decode cX6_init 0 = .ok (.aload_n 0, 1) := dz_42 (bX6_init_0 0 _ rfl)
theorem dX6_init_1 : decode cX6_init 1 = .ok (.invokespecial 1, 3) := dz_183 (bX6_init_0 1 _ rfl) (bX6_init_0 2 _ rfl) (bX6_init_0 3 _ rfl)
theorem dX6_init_4 : decode cX6_init 4 = .ok (.aload_n 0, 1) := dz_42 (bX6_init_0 4 _ rfl)
theorem dX6_init_5 : decode cX6_init 5 = .ok (.iconst (-1), 1) := dz_2 (bX6_init_0 5 _ rfl)
theorem dX6_init_6 : decode cX6_init 6 = .ok (.putfield 7, 3) := dz_181 (bX6_init_0 6 _ rfl) (bX6_init_0 7 _ rfl) (bX6_init_0 8 _ rfl)
theorem dX6_init_9 : decode cX6_init 9 = .ok (.aload_n 0, 1) := dz_42 (bX6_init_0 9 _ rfl)
theorem dX6_init_10 : decode cX6_init 10 = .ok (.new 13, 3) := dz_187 (bX6_init_0 10 _ rfl) (bX6_init_0 11 _ rfl) (bX6_init_0 12 _ rfl)
theorem dX6_init_13 : decode cX6_init 13 = .ok (.dup, 1) := dz_89 (bX6_init_0 13 _ rfl)
theorem dX6_init_14 : decode cX6_init 14 = .ok (.invokespecial 15, 3) := dz_183 (bX6_init_0 14 _ rfl) (bX6_init_0 15 _ rfl) (bX6_init_1 0 _ rfl)
theorem dX6_init_17 : decode cX6_init 17 = .ok (.putfield 16, 3) := dz_181 (bX6_init_1 1 _ rfl) (bX6_init_1 2 _ rfl) (bX6_init_1 3 _ rfl)
theorem dX6_init_20 : decode cX6_init 20 = .ok (.aload_n 0, 1) := dz_42 (bX6_init_1 4 _ rfl)
theorem dX6_init_21 : decode cX6_init 21 = .ok (.iload_n 1, 1) := dz_27 (bX6_init_1 5 _ rfl)
theorem dX6_init_22 : decode cX6_init 22 = .ok (.putfield 20, 3) := dz_181 (bX6_init_1 6 _ rfl) (bX6_init_1 7 _ rfl) (bX6_init_1 8 _ rfl)
theorem dX6_init_25 : decode cX6_init 25 = .ok (.aload_n 0, 1) := dz_42 (bX6_init_1 9 _ rfl)
theorem dX6_init_26 : decode cX6_init 26 = .ok (.iload_n 2, 1) := dz_28 (bX6_init_1 10 _ rfl)
theorem dX6_init_27 : decode cX6_init 27 = .ok (.putfield 23, 3) := dz_181 (bX6_init_1 11 _ rfl) (bX6_init_1 12 _ rfl) (bX6_init_1 13 _ rfl)
theorem dX6_init_30 : decode cX6_init 30 = .ok (.return_, 1) := dz_177 (bX6_init_1 14 _ rfl)
def c_X6_init (g : State) (t0 : Nat) (x1 : Int32) (x2 : Int32) (w : ch_W) : Option (ch_W) := (ch_pI w (some t0) 7 fX6_parentName (-1)).bind fun w1 => (ch_nO w1 14 3).bind fun w2 => (c_J5_init g (ch_nx w1) w2).bind fun p3 => (ch_pR p3 (some t0) 7 fX6_members (some (ch_nx w1))).bind fun w5 => (ch_pI w5 (some t0) 7 fX6_name x1).bind fun w6 => (ch_pI w6 (some t0) 7 fX6_place x2).bind fun w7 => some (w7)
theorem s_X6_init {g : State} {t0 : Nat} {x1 : Int32} {x2 : Int32} {w : ch_W} {res : ch_W} {Q : Outcome → ch_W → Prop} (h : c_X6_init g t0 x1 x2 w = some res) (hk : (ch_eV Q) res) : ch_CT g true yX6_init 5 [.ref t0, .int x1, .int x2] (w) Q := by
  unfold c_X6_init at h
  refine ch_ctL mX6_init (ls := [some (va_rf (some t0)), some (.int x1), some (.int x2)]) q691 rfl (ch_lyr (r := some t0) (ch_lyi (ch_lyi ch_ly0))) (Nat.le_of_ble_eq_true rfl) rfl ?_
  refine ch_aload_n 0 (some t0) dX6_init_0 rfl (ch_objInit (some t0) rfl dX6_init_1 q692 q234 q235 (Nat.le_of_ble_eq_true rfl) (Nat.le_of_ble_eq_true rfl) (ch_aload_n 0 (some t0) dX6_init_4 rfl (ch_iconst _ (-1) dX6_init_5 rfl (cp_pI (ci := 6) (k := 2) dX6_init_6 fl_X6_7 rfl rfl rfl h (fun w1 h => ?_)))))
  refine ch_aload_n 0 (some t0) dX6_init_9 rfl (cp_new (ci := 13) (n := 3) (q := (RJ5, TJ5, 3)) dX6_init_10 rfl q693 q439 q210 h (fun w2 h => ?_))
  obtain ⟨p3, hp4, h⟩ := ch_bd h
  refine ch_dup dX6_init_13 (ch_cat _) (ch_ii yJ5_init prog_32_method_2_code 1 (b := (ch_nx w1)) (d' := 4) (av := []) (rest := [va_rf (some (ch_nx w1)), va_rf (some t0)]) rfl dX6_init_14 rfl q694 q441 q442 can_J5_init (Nat.le_of_ble_eq_true rfl) (ch_hw (Nat.le_of_ble_eq_true rfl)) (cp_kV (w1 := p3) (fun Q' hq => s_J5_init hp4 hq) ?_))
  refine cp_pR (ci := 6) (k := 5) dX6_init_17 fl_X6_16 rfl rfl rfl h (fun w5 h => ?_)
  refine ch_aload_n 0 (some t0) dX6_init_20 rfl (ch_iload_n 1 _ dX6_init_21 rfl (cp_pI (ci := 6) (k := 0) dX6_init_22 fl_X6_20 rfl rfl rfl h (fun w6 h => ?_)))
  refine ch_aload_n 0 (some t0) dX6_init_25 rfl (ch_iload_n 2 _ dX6_init_26 rfl (cp_pI (ci := 6) (k := 1) dX6_init_27 fl_X6_23 rfl rfl rfl h (fun w7 h => ?_)))
  obtain rfl := Option.some.inj h
  exact ch_return dX6_init_30 rfl hk

theorem bX4_nextName_0 : ch_ck cX4_nextName 0 [42, 182, 0, 111, 60, 42, 182, 0, 79, 27, 172] := ch_ckof (by decide +kernel)
theorem dX4_nextName_0 : decode cX4_nextName 0 = .ok (.aload_n 0, 1) := dz_42 (bX4_nextName_0 0 _ rfl)
theorem dX4_nextName_1 : decode cX4_nextName 1 = .ok (.invokevirtual 111, 3) := dz_182 (bX4_nextName_0 1 _ rfl) (bX4_nextName_0 2 _ rfl) (bX4_nextName_0 3 _ rfl)
theorem dX4_nextName_4 : decode cX4_nextName 4 = .ok (.istore_n 1, 1) := dz_60 (bX4_nextName_0 4 _ rfl)
theorem dX4_nextName_5 : decode cX4_nextName 5 = .ok (.aload_n 0, 1) := dz_42 (bX4_nextName_0 5 _ rfl)
theorem dX4_nextName_6 : decode cX4_nextName 6 = .ok (.invokevirtual 79, 3) := dz_182 (bX4_nextName_0 6 _ rfl) (bX4_nextName_0 7 _ rfl) (bX4_nextName_0 8 _ rfl)
theorem dX4_nextName_9 : decode cX4_nextName 9 = .ok (.iload_n 1, 1) := dz_27 (bX4_nextName_0 9 _ rfl)
theorem dX4_nextName_10 : decode cX4_nextName 10 = .ok (.ireturn, 1) := dz_172 (bX4_nextName_0 10 _ rfl)
def c_X4_nextName (g : State) (t0 : Nat)  (w : ch_W) : Option (Except Nat Int32 × ch_W) := (ch_rc w (some t0) 5).bind fun _ => ch_tb (c_X4_name g t0 w) (fun a w => (.error a, w)) fun v2 w3 => (ch_rc w3 (some t0) 5).bind fun _ => ch_tb (c_X4_next g t0 w3) (fun a w => (.error a, w)) fun _ w6 => some ((.ok v2, w6))
theorem s_X4_nextName {g : State} {t0 : Nat} {w : ch_W} {res : Except Nat Int32 × ch_W} {Q : Outcome → ch_W → Prop} (h : c_X4_nextName g t0 w = some res) (hk : (ch_xI Q) res) : ch_CT g true yX4_nextName 11 [.ref t0] (w) Q := by
  unfold c_X4_nextName at h
  refine ch_ctL mX4_nextName (ls := [some (va_rf (some t0)), none]) q737 rfl (ch_lyr (r := some t0) ch_ly0) (Nat.le_of_ble_eq_true rfl) rfl ?_
  obtain ⟨_, hb1, h⟩ := ch_bd h
  refine ch_aload_n 0 (some t0) dX4_nextName_0 rfl (ch_iv yX4_name prog_7_method_15_code 1 (some .int) (ci := 4) (q := (RX4, TX4, 9)) (b := t0) (d' := 10) (av := []) (rest := []) rfl dX4_nextName_1 q599 q601 rfl qs8 q602 can_X4_name (Nat.le_of_ble_eq_true rfl) (Nat.le_of_ble_eq_true rfl) (ch_rts hb1) (cp_tI h (fun p hp Q' hq => s_X4_name hp hq) (fun v2 w3 h => ?_) (fun a w1 h => ?_)))
  · obtain ⟨_, hb4, h⟩ := ch_bd h
    refine ch_istore_n 1 _ (ls1 := [some (va_rf (some t0)), some (.int v2)]) dX4_nextName_4 (Nat.le_of_ble_eq_true rfl) rfl (ch_aload_n 0 (some t0) dX4_nextName_5 rfl (ch_iv yX4_next prog_7_method_5_code 3 none (ci := 4) (q := (RX4, TX4, 9)) (b := t0) (d' := 9) (av := []) (rest := []) rfl dX4_nextName_6 q497 q499 rfl qs2 q500 can_X4_next (Nat.le_of_ble_eq_true rfl) (Nat.le_of_ble_eq_true rfl) (ch_rts hb4) (cp_tV h (fun p hp Q' hq => s_X4_next hp hq) (fun w6 h => ?_) (fun a w1 h => ?_))))
    · obtain rfl := Option.some.inj h
      exact ch_iload_n 1 _ dX4_nextName_9 rfl (ch_ireturn _ dX4_nextName_10 rfl rfl hk)
    · subst h
      exact ch_th rfl hk
  · subst h
    exact ch_th rfl hk

theorem bX4_opens_0 : ch_ck cX4_opens 0 [42, 42, 43, 182, 0, 76, 153, 0, 16, 42, 180, 0, 82, 16, 30, 162] := ch_ckof (by decide +kernel)
theorem bX4_opens_1 : ch_ck cX4_opens 16 [0, 7, 4, 167, 0, 4, 3, 182, 0, 58, 42, 89, 180, 0, 82, 4] := ch_ckof (by decide +kernel)
theorem bX4_opens_2 : ch_ck cX4_opens 32 [96, 181, 0, 82, 42, 182, 0, 79, 177] := ch_ckof (by decide +kernel)
theorem dX4_opens_0 : decode cX4_opens 0 = .ok (.aload_n 0, 1) := dz_42 (bX4_opens_0 0 _ rfl)
theorem dX4_opens_1 : decode cX4_opens 1 = .ok (.aload_n 0, 1) := dz_42 (bX4_opens_0 1 _ rfl)
theorem dX4_opens_2 : decode cX4_opens 2 = .ok (.aload_n 1, 1) := dz_43 (bX4_opens_0 2 _ rfl)
theorem dX4_opens_3 : decode cX4_opens 3 = .ok (.invokevirtual 76, 3) := dz_182 (bX4_opens_0 3 _ rfl) (bX4_opens_0 4 _ rfl) (bX4_opens_0 5 _ rfl)
theorem dX4_opens_6 : decode cX4_opens 6 = .ok (.ifCond .eq 16, 3) := dz_153 (bX4_opens_0 6 _ rfl) (bX4_opens_0 7 _ rfl) (bX4_opens_0 8 _ rfl)
theorem dX4_opens_9 : decode cX4_opens 9 = .ok (.aload_n 0, 1) := dz_42 (bX4_opens_0 9 _ rfl)
theorem dX4_opens_10 : decode cX4_opens 10 = .ok (.getfield 82, 3) := dz_180 (bX4_opens_0 10 _ rfl) (bX4_opens_0 11 _ rfl) (bX4_opens_0 12 _ rfl)
theorem dX4_opens_13 : decode cX4_opens 13 = .ok (.bipush 30, 2) := dz_16 (bX4_opens_0 13 _ rfl) (bX4_opens_0 14 _ rfl)
theorem dX4_opens_15 : decode cX4_opens 15 = .ok (.if_icmp .ge 7, 3) := dz_162 (bX4_opens_0 15 _ rfl) (bX4_opens_1 0 _ rfl) (bX4_opens_1 1 _ rfl)
theorem dX4_opens_18 : decode cX4_opens 18 = .ok (.iconst 1, 1) := dz_4 (bX4_opens_1 2 _ rfl)
theorem dX4_opens_19 : decode cX4_opens 19 = .ok (.goto 4, 3) := dz_167 (bX4_opens_1 3 _ rfl) (bX4_opens_1 4 _ rfl) (bX4_opens_1 5 _ rfl)
theorem dX4_opens_22 : decode cX4_opens 22 = .ok (.iconst 0, 1) := dz_3 (bX4_opens_1 6 _ rfl)
theorem dX4_opens_23 : decode cX4_opens 23 = .ok (.invokevirtual 58, 3) := dz_182 (bX4_opens_1 7 _ rfl) (bX4_opens_1 8 _ rfl) (bX4_opens_1 9 _ rfl)
theorem dX4_opens_26 : decode cX4_opens 26 = .ok (.aload_n 0, 1) := dz_42 (bX4_opens_1 10 _ rfl)
theorem dX4_opens_27 : decode cX4_opens 27 = .ok (.dup, 1) := dz_89 (bX4_opens_1 11 _ rfl)
theorem dX4_opens_28 : decode cX4_opens 28 = .ok (.getfield 82, 3) := dz_180 (bX4_opens_1 12 _ rfl) (bX4_opens_1 13 _ rfl) (bX4_opens_1 14 _ rfl)
theorem dX4_opens_31 : decode cX4_opens 31 = .ok (.iconst 1, 1) := dz_4 (bX4_opens_1 15 _ rfl)
theorem dX4_opens_32 : decode cX4_opens 32 = .ok (.iadd, 1) := dz_96 (bX4_opens_2 0 _ rfl)
theorem dX4_opens_33 : decode cX4_opens 33 = .ok (.putfield 82, 3) := dz_181 (bX4_opens_2 1 _ rfl) (bX4_opens_2 2 _ rfl) (bX4_opens_2 3 _ rfl)
theorem dX4_opens_36 : decode cX4_opens 36 = .ok (.aload_n 0, 1) := dz_42 (bX4_opens_2 4 _ rfl)
theorem dX4_opens_37 : decode cX4_opens 37 = .ok (.invokevirtual 79, 3) := dz_182 (bX4_opens_2 5 _ rfl) (bX4_opens_2 6 _ rfl) (bX4_opens_2 7 _ rfl)
theorem dX4_opens_40 : decode cX4_opens 40 = .ok (.return_, 1) := dz_177 (bX4_opens_2 8 _ rfl)
def c_X4_opens_23 (g : State) (t0 : Nat)  (y0 : Int32) (y1 : Nat) (w : ch_W) : Option (Except Nat Unit × ch_W) := (ch_rc w (some y1) 5).bind fun _ => ch_tb (c_X4_must g y1 y0 w) (fun a w => (.error a, w)) fun _ w3 => (ch_gI w3 (some t0) 5 fX4_open).bind fun v4 => (ch_pI w3 (some t0) 5 fX4_open (v4 + 1)).bind fun w5 => (ch_rc w5 (some t0) 5).bind fun _ => ch_tb (c_X4_next g t0 w5) (fun a w => (.error a, w)) fun _ w8 => some ((.ok (), w8))
theorem s_X4_opens_23 {g : State} {t0 : Nat} {y0 : Int32} {y1 : Nat} {w : ch_W} {res : Except Nat Unit × ch_W} {Q : Outcome → ch_W → Prop} (h : c_X4_opens_23 g t0 y0 y1 w = some res) (hk : (ch_xV Q) res) : ch_FT g true mX4_opens 10 23 [some (va_rf (some t0)), none] [.int y0, va_rf (some y1)] (w) Q := by
  unfold c_X4_opens_23 at h
  obtain ⟨_, hb1, h⟩ := ch_bd h
  refine ch_iv yX4_must prog_7_method_2_code 2 none (ci := 4) (q := (RX4, TX4, 9)) (b := y1) (d' := 7) (av := [.int y0]) (rest := []) rfl dX4_opens_23 q561 q563 rfl qs4 q564 can_X4_must (Nat.le_of_ble_eq_true rfl) (Nat.le_of_ble_eq_true rfl) (ch_rts hb1) (cp_tV h (fun p hp Q' hq => s_X4_must hp hq) (fun w3 h => ?_) (fun a w1 h => ?_))
  · refine ch_aload_n 0 (some t0) dX4_opens_26 rfl (ch_dup dX4_opens_27 (ch_cat _) (cp_gI (ci := 4) (k := 5) dX4_opens_28 fl_X4_82 rfl h (fun v4 h => ?_)))
    refine ch_iconst _ 1 dX4_opens_31 rfl (ch_iadd _ _ dX4_opens_32 (cp_pI (ci := 4) (k := 5) dX4_opens_33 fl_X4_82 rfl rfl rfl h (fun w5 h => ?_)))
    obtain ⟨_, hb6, h⟩ := ch_bd h
    refine ch_aload_n 0 (some t0) dX4_opens_36 rfl (ch_iv yX4_next prog_7_method_5_code 3 none (ci := 4) (q := (RX4, TX4, 9)) (b := t0) (d' := 9) (av := []) (rest := []) rfl dX4_opens_37 q497 q499 rfl qs2 q500 can_X4_next (Nat.le_of_ble_eq_true rfl) (Nat.le_of_ble_eq_true rfl) (ch_rts hb6) (cp_tV h (fun p hp Q' hq => s_X4_next hp hq) (fun w8 h => ?_) (fun a w1 h => ?_)))
    · obtain rfl := Option.some.inj h
      exact ch_return dX4_opens_40 rfl hk
    · subst h
      exact ch_th rfl hk
  · subst h
    exact ch_th rfl hk

def c_X4_opens_22 (g : State) (t0 : Nat)  (y0 : Nat) (w : ch_W) : Option (Except Nat Unit × ch_W) := c_X4_opens_23 g t0 0 y0 w
theorem s_X4_opens_22 {g : State} {t0 : Nat} {y0 : Nat} {w : ch_W} {res : Except Nat Unit × ch_W} {Q : Outcome → ch_W → Prop} (h : c_X4_opens_22 g t0 y0 w = some res) (hk : (ch_xV Q) res) : ch_FT g true mX4_opens 10 22 [some (va_rf (some t0)), none] [va_rf (some y0)] (w) Q := by
  unfold c_X4_opens_22 at h
  exact ch_iconst _ 0 dX4_opens_22 rfl (ch_FT.wk (ch_wS (ch_wN ch_w0)) (s_X4_opens_23  h hk))

def c_X4_opens (g : State) (t0 : Nat) (x1 : Option Nat) (w : ch_W) : Option (Except Nat Unit × ch_W) := (ch_rc w (some t0) 5).bind fun _ => (c_X4_isThe g t0 x1 w).bind fun v2 => if v2 = 0 then (c_X4_opens_22 g t0 t0 w) else ((ch_gI w (some t0) 5 fX4_open).bind fun v4 => if v4 < 30 then (c_X4_opens_23 g t0 1 t0 w) else (c_X4_opens_22 g t0 t0 w))
theorem s_X4_opens {g : State} {t0 : Nat} {x1 : Option Nat} {w : ch_W} {res : Except Nat Unit × ch_W} {Q : Outcome → ch_W → Prop} (h : c_X4_opens g t0 x1 w = some res) (hk : (ch_xV Q) res) : ch_CT g true yX4_opens 10 [.ref t0, va_rf x1] (w) Q := by
  unfold c_X4_opens at h
  refine ch_ctL mX4_opens (ls := [some (va_rf (some t0)), some (va_rf x1)]) q742 rfl (ch_lyr (r := some t0) (ch_lyr (r := x1) ch_ly0)) (Nat.le_of_ble_eq_true rfl) rfl ?_
  obtain ⟨_, hb1, h⟩ := ch_bd h
  obtain ⟨v2, hp3, h⟩ := ch_bd h
  refine ch_aload_n 0 (some t0) dX4_opens_0 rfl (ch_aload_n 0 (some t0) dX4_opens_1 rfl (ch_aload_n 1 x1 dX4_opens_2 rfl (ch_iv yX4_isThe prog_7_method_8_code 2 (some .boolean) (ci := 4) (q := (RX4, TX4, 9)) (b := t0) (d' := 7) (av := [va_rf x1]) (rest := [va_rf (some t0)]) rfl dX4_opens_3 q593 q595 rfl qs7 q596 can_X4_isThe (Nat.le_of_ble_eq_true rfl) (ch_hw (Nat.le_of_ble_eq_true rfl)) (ch_rts hb1) (cp_kI (v := v2) (w1 := w) (fun Q' hq => s_X4_isThe hp3 hq) ?_))))
  refine cp_if_eq _ (tgt := 22) dX4_opens_6 rfl h (fun h => ?_) (fun h => ?_)
  · exact ch_FT.wk (ch_wS (ch_wN ch_w0)) (s_X4_opens_22  h hk)
  · refine ch_aload_n 0 (some t0) dX4_opens_9 rfl (cp_gI (ci := 4) (k := 5) dX4_opens_10 fl_X4_82 rfl h (fun v4 h => ?_))
    refine ch_bipush _ 30 dX4_opens_13 rfl (cp_icmp_ge _ _ (tgt := 22) dX4_opens_15 rfl h (fun h => ?_) (fun h => ?_))
    · exact ch_FT.wk (ch_wS (ch_wN ch_w0)) (s_X4_opens_22  h hk)
    · exact ch_iconst _ 1 dX4_opens_18 rfl (ch_goto 23 dX4_opens_19 rfl (ch_FT.wk (ch_wS (ch_wN ch_w0)) (s_X4_opens_23  h hk)))

theorem bX4_isType_0 : ch_ck cX4_isType 0 [42, 18, 149, 182, 0, 76, 154, 0, 29, 42, 18, 151, 182, 0, 76, 154] := ch_ckof (by decide +kernel)
theorem bX4_isType_1 : ch_ck cX4_isType 16 [0, 20, 42, 18, 153, 182, 0, 76, 154, 0, 11, 42, 180, 0, 40, 4] := ch_ckof (by decide +kernel)
theorem bX4_isType_2 : ch_ck cX4_isType 32 [160, 0, 7, 4, 167, 0, 4, 3, 172] := ch_ckof (by decide +kernel)
theorem dX4_isType_0 : decode cX4_isType 0 = .ok (.aload_n 0, 1) := dz_42 (bX4_isType_0 0 _ rfl)
theorem dX4_isType_1 : decode cX4_isType 1 = .ok (.ldc 149, 2) := dz_18 (bX4_isType_0 1 _ rfl) (bX4_isType_0 2 _ rfl)
theorem dX4_isType_3 : decode cX4_isType 3 = .ok (.invokevirtual 76, 3) := dz_182 (bX4_isType_0 3 _ rfl) (bX4_isType_0 4 _ rfl) (bX4_isType_0 5 _ rfl)
theorem dX4_isType_6 : decode cX4_isType 6 = .ok (.ifCond .ne 29, 3) := dz_154 (bX4_isType_0 6 _ rfl) (bX4_isType_0 7 _ rfl) (bX4_isType_0 8 _ rfl)
theorem dX4_isType_9 : decode cX4_isType 9 = .ok (.aload_n 0, 1) := dz_42 (bX4_isType_0 9 _ rfl)
theorem dX4_isType_10 : decode cX4_isType 10 = .ok (.ldc 151, 2) := dz_18 (bX4_isType_0 10 _ rfl) (bX4_isType_0 11 _ rfl)
theorem dX4_isType_12 : decode cX4_isType 12 = .ok (.invokevirtual 76, 3) := dz_182 (bX4_isType_0 12 _ rfl) (bX4_isType_0 13 _ rfl) (bX4_isType_0 14 _ rfl)
theorem dX4_isType_15 : decode cX4_isType 15 = .ok (.ifCond .ne 20, 3) := dz_154 (bX4_isType_0 15 _ rfl) (bX4_isType_1 0 _ rfl) (bX4_isType_1 1 _ rfl)
theorem dX4_isType_18 : decode cX4_isType 18 = .ok (.aload_n 0, 1) := dz_42 (bX4_isType_1 2 _ rfl)
theorem dX4_isType_19 : decode cX4_isType 19 = .ok (.ldc 153, 2) := dz_18 (bX4_isType_1 3 _ rfl) (bX4_isType_1 4 _ rfl)
theorem dX4_isType_21 : decode cX4_isType 21 = .ok (.invokevirtual 76, 3) := dz_182 (bX4_isType_1 5 _ rfl) (bX4_isType_1 6 _ rfl) (bX4_isType_1 7 _ rfl)
theorem dX4_isType_24 : decode cX4_isType 24 = .ok (.ifCond .ne 11, 3) := dz_154 (bX4_isType_1 8 _ rfl) (bX4_isType_1 9 _ rfl) (bX4_isType_1 10 _ rfl)
theorem dX4_isType_27 : decode cX4_isType 27 = .ok (.aload_n 0, 1) := dz_42 (bX4_isType_1 11 _ rfl)
theorem dX4_isType_28 : decode cX4_isType 28 = .ok (.getfield 40, 3) := dz_180 (bX4_isType_1 12 _ rfl) (bX4_isType_1 13 _ rfl) (bX4_isType_1 14 _ rfl)
theorem dX4_isType_31 : decode cX4_isType 31 = .ok (.iconst 1, 1) := dz_4 (bX4_isType_1 15 _ rfl)
theorem dX4_isType_32 : decode cX4_isType 32 = .ok (.if_icmp .ne 7, 3) := dz_160 (bX4_isType_2 0 _ rfl) (bX4_isType_2 1 _ rfl) (bX4_isType_2 2 _ rfl)
theorem dX4_isType_35 : decode cX4_isType 35 = .ok (.iconst 1, 1) := dz_4 (bX4_isType_2 3 _ rfl)
theorem dX4_isType_36 : decode cX4_isType 36 = .ok (.goto 4, 3) := dz_167 (bX4_isType_2 4 _ rfl) (bX4_isType_2 5 _ rfl) (bX4_isType_2 6 _ rfl)
theorem dX4_isType_39 : decode cX4_isType 39 = .ok (.iconst 0, 1) := dz_3 (bX4_isType_2 7 _ rfl)
theorem dX4_isType_40 : decode cX4_isType 40 = .ok (.ireturn, 1) := dz_172 (bX4_isType_2 8 _ rfl)
def c_X4_isType (g : State) (t0 : Nat)  (w : ch_W) : Option (Int32) := (ch_rc w (some t0) 5).bind fun _ => (c_X4_isThe g t0 (some (ch_sa g RX4 149)) w).bind fun v2 => if v2 = 0 then ((ch_rc w (some t0) 5).bind fun _ => (c_X4_isThe g t0 (some (ch_sa g RX4 151)) w).bind fun v5 => if v5 = 0 then ((ch_rc w (some t0) 5).bind fun _ => (c_X4_isThe g t0 (some (ch_sa g RX4 153)) w).bind fun v8 => if v8 = 0 then ((ch_gI w (some t0) 5 fX4_kind).bind fun v10 => if v10 = 1 then (some (1)) else (some (0))) else (some (1))) else (some (1))) else (some (1))
theorem s_X4_isType {g : State} {kb : Bool} {t0 : Nat} {w : ch_W} {res : Int32} {Q : Outcome → ch_W → Prop} (h : c_X4_isType g t0 w = some res) (hk : (fun r => ch_eI Q (r, w)) res) : ch_CT g kb yX4_isType 8 [.ref t0] (w) Q := by
  unfold c_X4_isType at h
  refine ch_ctL mX4_isType (ls := [some (va_rf (some t0))]) q756 rfl (ch_lyr (r := some t0) ch_ly0) (Nat.le_of_ble_eq_true rfl) rfl ?_
  obtain ⟨_, hb1, h⟩ := ch_bd h
  obtain ⟨v2, hp3, h⟩ := ch_bd h
  refine ch_aload_n 0 (some t0) dX4_isType_0 rfl (ch_ldcS q757 dX4_isType_1 (ch_iv yX4_isThe prog_7_method_8_code 2 (some .boolean) (ci := 4) (q := (RX4, TX4, 9)) (b := t0) (d' := 7) (av := [va_rf (some (ch_sa g RX4 149))]) (rest := []) rfl dX4_isType_3 q593 q595 rfl qs7 q596 can_X4_isThe (Nat.le_of_ble_eq_true rfl) (Nat.le_of_ble_eq_true rfl) (ch_rts hb1) (cp_kI (v := v2) (w1 := w) (fun Q' hq => s_X4_isThe hp3 hq) ?_)))
  refine cp_if_ne _ (tgt := 35) dX4_isType_6 rfl h (fun h => ?_) (fun h => ?_)
  · obtain rfl := Option.some.inj h
    exact ch_iconst _ 1 dX4_isType_35 rfl (ch_goto 40 dX4_isType_36 rfl (ch_ireturn _ dX4_isType_40 rfl rfl hk))
  · obtain ⟨_, hb4, h⟩ := ch_bd h
    obtain ⟨v5, hp6, h⟩ := ch_bd h
    refine ch_aload_n 0 (some t0) dX4_isType_9 rfl (ch_ldcS q758 dX4_isType_10 (ch_iv yX4_isThe prog_7_method_8_code 2 (some .boolean) (ci := 4) (q := (RX4, TX4, 9)) (b := t0) (d' := 7) (av := [va_rf (some (ch_sa g RX4 151))]) (rest := []) rfl dX4_isType_12 q593 q595 rfl qs7 q596 can_X4_isThe (Nat.le_of_ble_eq_true rfl) (Nat.le_of_ble_eq_true rfl) (ch_rts hb4) (cp_kI (v := v5) (w1 := w) (fun Q' hq => s_X4_isThe hp6 hq) ?_)))
    refine cp_if_ne _ (tgt := 35) dX4_isType_15 rfl h (fun h => ?_) (fun h => ?_)
    · obtain rfl := Option.some.inj h
      exact ch_iconst _ 1 dX4_isType_35 rfl (ch_goto 40 dX4_isType_36 rfl (ch_ireturn _ dX4_isType_40 rfl rfl hk))
    · obtain ⟨_, hb7, h⟩ := ch_bd h
      obtain ⟨v8, hp9, h⟩ := ch_bd h
      refine ch_aload_n 0 (some t0) dX4_isType_18 rfl (ch_ldcS q759 dX4_isType_19 (ch_iv yX4_isThe prog_7_method_8_code 2 (some .boolean) (ci := 4) (q := (RX4, TX4, 9)) (b := t0) (d' := 7) (av := [va_rf (some (ch_sa g RX4 153))]) (rest := []) rfl dX4_isType_21 q593 q595 rfl qs7 q596 can_X4_isThe (Nat.le_of_ble_eq_true rfl) (Nat.le_of_ble_eq_true rfl) (ch_rts hb7) (cp_kI (v := v8) (w1 := w) (fun Q' hq => s_X4_isThe hp9 hq) ?_)))
      refine cp_if_ne _ (tgt := 35) dX4_isType_24 rfl h (fun h => ?_) (fun h => ?_)
      · obtain rfl := Option.some.inj h
        exact ch_iconst _ 1 dX4_isType_35 rfl (ch_goto 40 dX4_isType_36 rfl (ch_ireturn _ dX4_isType_40 rfl rfl hk))
      · refine ch_aload_n 0 (some t0) dX4_isType_27 rfl (cp_gI (ci := 4) (k := 2) dX4_isType_28 fl_X4_40 rfl h (fun v10 h => ?_))
        refine ch_iconst _ 1 dX4_isType_31 rfl (cp_icmp_ne _ _ (tgt := 39) dX4_isType_32 rfl h (fun h => ?_) (fun h => ?_))
        · obtain rfl := Option.some.inj h
          exact ch_iconst _ 0 dX4_isType_39 rfl (ch_ireturn _ dX4_isType_40 rfl rfl hk)
        · obtain rfl := Option.some.inj h
          exact ch_iconst _ 1 dX4_isType_35 rfl (ch_goto 40 dX4_isType_36 rfl (ch_ireturn _ dX4_isType_40 rfl rfl hk))

theorem bX4_type_0 : ch_ck cX4_type 0 [42, 42, 182, 0, 155, 182, 0, 58, 42, 18, 149, 182, 0, 76, 153, 0] := ch_ckof (by decide +kernel)
theorem bX4_type_1 : ch_ck cX4_type 16 [7, 2, 167, 0, 35, 42, 18, 151, 182, 0, 76, 153, 0, 8, 16, 254] := ch_ckof (by decide +kernel)
theorem bX4_type_2 : ch_ck cX4_type 32 [167, 0, 21, 42, 18, 153, 182, 0, 76, 153, 0, 8, 16, 253, 167, 0] := ch_ckof (by decide +kernel)
theorem bX4_type_3 : ch_ck cX4_type 48 [7, 42, 182, 0, 111, 60, 42, 182, 0, 79, 27, 172] := ch_ckof (by decide +kernel)
theorem dX4_type_0 : decode cX4_type 0 = .ok (.aload_n 0, 1) := dz_42 (bX4_type_0 0 _ rfl)
theorem dX4_type_1 : decode cX4_type 1 = .ok (.aload_n 0, 1) := dz_42 (bX4_type_0 1 _ rfl)
theorem dX4_type_2 : decode cX4_type 2 = .ok (.invokevirtual 155, 3) := dz_182 (bX4_type_0 2 _ rfl) (bX4_type_0 3 _ rfl) (bX4_type_0 4 _ rfl)
theorem dX4_type_5 : decode cX4_type 5 = .ok (.invokevirtual 58, 3) := dz_182 (bX4_type_0 5 _ rfl) (bX4_type_0 6 _ rfl) (bX4_type_0 7 _ rfl)
theorem dX4_type_8 : decode cX4_type 8 = .ok (.aload_n 0, 1) := dz_42 (bX4_type_0 8 _ rfl)
theorem dX4_type_9 : decode cX4_type 9 = .ok (.ldc 149, 2) := dz_18 (bX4_type_0 9 _ rfl) (bX4_type_0 10 _ rfl)
theorem dX4_type_11 : decode cX4_type 11 = .ok (.invokevirtual 76, 3) := dz_182 (bX4_type_0 11 _ rfl) (bX4_type_0 12 _ rfl) (bX4_type_0 13 _ rfl)
theorem dX4_type_14 : decode cX4_type 14 = .ok (.ifCond .eq 7, 3) := dz_153 (bX4_type_0 14 _ rfl) (bX4_type_0 15 _ rfl) (bX4_type_1 0 _ rfl)
theorem dX4_type_17 : decode cX4_type 17 = .ok (.iconst (-1), 1) := dz_2 (bX4_type_1 1 _ rfl)
theorem dX4_type_18 : decode cX4_type 18 = .ok (.goto 35, 3) := dz_167 (bX4_type_1 2 _ rfl) (bX4_type_1 3 _ rfl) (bX4_type_1 4 _ rfl)
theorem dX4_type_21 : decode cX4_type 21 = .ok (.aload_n 0, 1) := dz_42 (bX4_type_1 5 _ rfl)
theorem dX4_type_22 : decode cX4_type 22 = .ok (.ldc 151, 2) := dz_18 (bX4_type_1 6 _ rfl) (bX4_type_1 7 _ rfl)
theorem dX4_type_24 : decode cX4_type 24 = .ok (.invokevirtual 76, 3) := dz_182 (bX4_type_1 8 _ rfl) (bX4_type_1 9 _ rfl) (bX4_type_1 10 _ rfl)
theorem dX4_type_27 : decode cX4_type 27 = .ok (.ifCond .eq 8, 3) := dz_153 (bX4_type_1 11 _ rfl) (bX4_type_1 12 _ rfl) (bX4_type_1 13 _ rfl)
theorem dX4_type_30 : decode cX4_type 30 = .ok (.bipush (-2), 2) := dz_16 (bX4_type_1 14 _ rfl) (bX4_type_1 15 _ rfl)
theorem dX4_type_32 : decode cX4_type 32 = .ok (.goto 21, 3) := dz_167 (bX4_type_2 0 _ rfl) (bX4_type_2 1 _ rfl) (bX4_type_2 2 _ rfl)
theorem dX4_type_35 : decode cX4_type 35 = .ok (.aload_n 0, 1) := dz_42 (bX4_type_2 3 _ rfl)
theorem dX4_type_36 : decode cX4_type 36 = .ok (.ldc 153, 2) := dz_18 (bX4_type_2 4 _ rfl) (bX4_type_2 5 _ rfl)
theorem dX4_type_38 : decode cX4_type 38 = .ok (.invokevirtual 76, 3) := dz_182 (bX4_type_2 6 _ rfl) (bX4_type_2 7 _ rfl) (bX4_type_2 8 _ rfl)
theorem dX4_type_41 : decode cX4_type 41 = .ok (.ifCond .eq 8, 3) := dz_153 (bX4_type_2 9 _ rfl) (bX4_type_2 10 _ rfl) (bX4_type_2 11 _ rfl)
theorem dX4_type_44 : decode cX4_type 44 = .ok (.bipush (-3), 2) := dz_16 (bX4_type_2 12 _ rfl) (bX4_type_2 13 _ rfl)
theorem dX4_type_46 : decode cX4_type 46 = .ok (.goto 7, 3) := dz_167 (bX4_type_2 14 _ rfl) (bX4_type_2 15 _ rfl) (bX4_type_3 0 _ rfl)
theorem dX4_type_49 : decode cX4_type 49 = .ok (.aload_n 0, 1) := dz_42 (bX4_type_3 1 _ rfl)
theorem dX4_type_50 : decode cX4_type 50 = .ok (.invokevirtual 111, 3) := dz_182 (bX4_type_3 2 _ rfl) (bX4_type_3 3 _ rfl) (bX4_type_3 4 _ rfl)
theorem dX4_type_53 : decode cX4_type 53 = .ok (.istore_n 1, 1) := dz_60 (bX4_type_3 5 _ rfl)
theorem dX4_type_54 : decode cX4_type 54 = .ok (.aload_n 0, 1) := dz_42 (bX4_type_3 6 _ rfl)
theorem dX4_type_55 : decode cX4_type 55 = .ok (.invokevirtual 79, 3) := dz_182 (bX4_type_3 7 _ rfl) (bX4_type_3 8 _ rfl) (bX4_type_3 9 _ rfl)
theorem dX4_type_58 : decode cX4_type 58 = .ok (.iload_n 1, 1) := dz_27 (bX4_type_3 10 _ rfl)
theorem dX4_type_59 : decode cX4_type 59 = .ok (.ireturn, 1) := dz_172 (bX4_type_3 11 _ rfl)
def c_X4_type_53 (g : State) (t0 : Nat)  (y0 : Int32) (w : ch_W) : Option (Except Nat Int32 × ch_W) := (ch_rc w (some t0) 5).bind fun _ => ch_tb (c_X4_next g t0 w) (fun a w => (.error a, w)) fun _ w3 => some ((.ok y0, w3))
theorem s_X4_type_53 {g : State} {t0 : Nat} {y0 : Int32} {w : ch_W} {res : Except Nat Int32 × ch_W} {Q : Outcome → ch_W → Prop} (h : c_X4_type_53 g t0 y0 w = some res) (hk : (ch_xI Q) res) : ch_FT g true mX4_type 11 53 [some (va_rf (some t0)), none] [.int y0] (w) Q := by
  unfold c_X4_type_53 at h
  obtain ⟨_, hb1, h⟩ := ch_bd h
  refine ch_istore_n 1 _ (ls1 := [some (va_rf (some t0)), some (.int y0)]) dX4_type_53 (Nat.le_of_ble_eq_true rfl) rfl (ch_aload_n 0 (some t0) dX4_type_54 rfl (ch_iv yX4_next prog_7_method_5_code 3 none (ci := 4) (q := (RX4, TX4, 9)) (b := t0) (d' := 9) (av := []) (rest := []) rfl dX4_type_55 q497 q499 rfl qs2 q500 can_X4_next (Nat.le_of_ble_eq_true rfl) (Nat.le_of_ble_eq_true rfl) (ch_rts hb1) (cp_tV h (fun p hp Q' hq => s_X4_next hp hq) (fun w3 h => ?_) (fun a w1 h => ?_))))
  · obtain rfl := Option.some.inj h
    exact ch_iload_n 1 _ dX4_type_58 rfl (ch_ireturn _ dX4_type_59 rfl rfl hk)
  · subst h
    exact ch_th rfl hk

def c_X4_type (g : State) (t0 : Nat)  (w : ch_W) : Option (Except Nat Int32 × ch_W) := (ch_rc w (some t0) 5).bind fun _ => (c_X4_isType g t0 w).bind fun v2 => (ch_rc w (some t0) 5).bind fun _ => ch_tb (c_X4_must g t0 v2 w) (fun a w => (.error a, w)) fun _ w6 => (ch_rc w6 (some t0) 5).bind fun _ => (c_X4_isThe g t0 (some (ch_sa g RX4 149)) w6).bind fun v8 => if v8 = 0 then ((ch_rc w6 (some t0) 5).bind fun _ => (c_X4_isThe g t0 (some (ch_sa g RX4 151)) w6).bind fun v11 => if v11 = 0 then ((ch_rc w6 (some t0) 5).bind fun _ => (c_X4_isThe g t0 (some (ch_sa g RX4 153)) w6).bind fun v14 => if v14 = 0 then ((ch_rc w6 (some t0) 5).bind fun _ => ch_tb (c_X4_name g t0 w6) (fun a w => (.error a, w)) fun v17 w18 => c_X4_type_53 g t0 v17 w18) else (c_X4_type_53 g t0 (-3) w6)) else (c_X4_type_53 g t0 (-2) w6)) else (c_X4_type_53 g t0 (-1) w6)
theorem s_X4_type {g : State} {t0 : Nat} {w : ch_W} {res : Except Nat Int32 × ch_W} {Q : Outcome → ch_W → Prop} (h : c_X4_type g t0 w = some res) (hk : (ch_xI Q) res) : ch_CT g true yX4_type 11 [.ref t0] (w) Q := by
  unfold c_X4_type at h
  refine ch_ctL mX4_type (ls := [some (va_rf (some t0)), none]) q752 rfl (ch_lyr (r := some t0) ch_ly0) (Nat.le_of_ble_eq_true rfl) rfl ?_
  obtain ⟨_, hb1, h⟩ := ch_bd h
  obtain ⟨v2, hp3, h⟩ := ch_bd h
  refine ch_aload_n 0 (some t0) dX4_type_0 rfl (ch_aload_n 0 (some t0) dX4_type_1 rfl (ch_iv yX4_isType prog_7_method_18_code 1 (some .boolean) (ci := 4) (q := (RX4, TX4, 9)) (b := t0) (d' := 8) (av := []) (rest := [va_rf (some t0)]) rfl dX4_type_2 q753 q755 rfl qs17 q756 can_X4_isType (Nat.le_of_ble_eq_true rfl) (ch_hw (Nat.le_of_ble_eq_true rfl)) (ch_rts hb1) (cp_kI (v := v2) (w1 := w) (fun Q' hq => s_X4_isType hp3 hq) ?_)))
  obtain ⟨_, hb4, h⟩ := ch_bd h
  refine ch_iv yX4_must prog_7_method_2_code 2 none (ci := 4) (q := (RX4, TX4, 9)) (b := t0) (d' := 7) (av := [.int v2]) (rest := []) rfl dX4_type_5 q561 q563 rfl qs4 q564 can_X4_must (Nat.le_of_ble_eq_true rfl) (Nat.le_of_ble_eq_true rfl) (ch_rts hb4) (cp_tV h (fun p hp Q' hq => s_X4_must hp hq) (fun w6 h => ?_) (fun a w1 h => ?_))
  · obtain ⟨_, hb7, h⟩ := ch_bd h
    obtain ⟨v8, hp9, h⟩ := ch_bd h
    refine ch_aload_n 0 (some t0) dX4_type_8 rfl (ch_ldcS q757 dX4_type_9 (ch_iv yX4_isThe prog_7_method_8_code 2 (some .boolean) (ci := 4) (q := (RX4, TX4, 9)) (b := t0) (d' := 7) (av := [va_rf (some (ch_sa g RX4 149))]) (rest := []) rfl dX4_type_11 q593 q595 rfl qs7 q596 can_X4_isThe (Nat.le_of_ble_eq_true rfl) (Nat.le_of_ble_eq_true rfl) (ch_rts hb7) (cp_kI (v := v8) (w1 := w6) (fun Q' hq => s_X4_isThe hp9 hq) ?_)))
    refine cp_if_eq _ (tgt := 21) dX4_type_14 rfl h (fun h => ?_) (fun h => ?_)
    · obtain ⟨_, hb10, h⟩ := ch_bd h
      obtain ⟨v11, hp12, h⟩ := ch_bd h
      refine ch_aload_n 0 (some t0) dX4_type_21 rfl (ch_ldcS q758 dX4_type_22 (ch_iv yX4_isThe prog_7_method_8_code 2 (some .boolean) (ci := 4) (q := (RX4, TX4, 9)) (b := t0) (d' := 7) (av := [va_rf (some (ch_sa g RX4 151))]) (rest := []) rfl dX4_type_24 q593 q595 rfl qs7 q596 can_X4_isThe (Nat.le_of_ble_eq_true rfl) (Nat.le_of_ble_eq_true rfl) (ch_rts hb10) (cp_kI (v := v11) (w1 := w6) (fun Q' hq => s_X4_isThe hp12 hq) ?_)))
      refine cp_if_eq _ (tgt := 35) dX4_type_27 rfl h (fun h => ?_) (fun h => ?_)
      · obtain ⟨_, hb13, h⟩ := ch_bd h
        obtain ⟨v14, hp15, h⟩ := ch_bd h
        refine ch_aload_n 0 (some t0) dX4_type_35 rfl (ch_ldcS q759 dX4_type_36 (ch_iv yX4_isThe prog_7_method_8_code 2 (some .boolean) (ci := 4) (q := (RX4, TX4, 9)) (b := t0) (d' := 7) (av := [va_rf (some (ch_sa g RX4 153))]) (rest := []) rfl dX4_type_38 q593 q595 rfl qs7 q596 can_X4_isThe (Nat.le_of_ble_eq_true rfl) (Nat.le_of_ble_eq_true rfl) (ch_rts hb13) (cp_kI (v := v14) (w1 := w6) (fun Q' hq => s_X4_isThe hp15 hq) ?_)))
        refine cp_if_eq _ (tgt := 49) dX4_type_41 rfl h (fun h => ?_) (fun h => ?_)
        · obtain ⟨_, hb16, h⟩ := ch_bd h
          refine ch_aload_n 0 (some t0) dX4_type_49 rfl (ch_iv yX4_name prog_7_method_15_code 1 (some .int) (ci := 4) (q := (RX4, TX4, 9)) (b := t0) (d' := 10) (av := []) (rest := []) rfl dX4_type_50 q599 q601 rfl qs8 q602 can_X4_name (Nat.le_of_ble_eq_true rfl) (Nat.le_of_ble_eq_true rfl) (ch_rts hb16) (cp_tI h (fun p hp Q' hq => s_X4_name hp hq) (fun v17 w18 h => ?_) (fun a w1 h => ?_)))
          · exact ch_FT.wk (ch_wS (ch_wN ch_w0)) (s_X4_type_53  h hk)
          · subst h
            exact ch_th rfl hk
        · exact ch_bipush _ (-3) dX4_type_44 rfl (ch_goto 53 dX4_type_46 rfl (ch_FT.wk (ch_wS (ch_wN ch_w0)) (s_X4_type_53  h hk)))
      · exact ch_bipush _ (-2) dX4_type_30 rfl (ch_goto 53 dX4_type_32 rfl (ch_FT.wk (ch_wS (ch_wN ch_w0)) (s_X4_type_53  h hk)))
    · exact ch_iconst _ (-1) dX4_type_17 rfl (ch_goto 53 dX4_type_18 rfl (ch_FT.wk (ch_wS (ch_wN ch_w0)) (s_X4_type_53  h hk)))
  · subst h
    exact ch_th rfl hk

theorem bX8_init_0 : ch_ck cX8_init 0 [42, 183, 0, 1, 42, 16, 8, 188, 10, 181, 0, 7, 177] := ch_ckof (by decide +kernel)
theorem dX8_init_0 : decode cX8_init 0 = .ok (.aload_n 0, 1) := dz_42 (bX8_init_0 0 _ rfl)
theorem dX8_init_1 : decode cX8_init 1 = .ok (.invokespecial 1, 3) := dz_183 (bX8_init_0 1 _ rfl) (bX8_init_0 2 _ rfl) (bX8_init_0 3 _ rfl)
theorem dX8_init_4 : decode cX8_init 4 = .ok (.aload_n 0, 1) := dz_42 (bX8_init_0 4 _ rfl)
theorem dX8_init_5 : decode cX8_init 5 = .ok (.bipush 8, 2) := dz_16 (bX8_init_0 5 _ rfl) (bX8_init_0 6 _ rfl)
theorem dX8_init_7 : decode cX8_init 7 = .ok (.newarray .int, 2) := dz_188_10 (bX8_init_0 7 _ rfl) (bX8_init_0 8 _ rfl)
theorem dX8_init_9 : decode cX8_init 9 = .ok (.putfield 7, 3) := dz_181 (bX8_init_0 9 _ rfl) (bX8_init_0 10 _ rfl) (bX8_init_0 11 _ rfl)
theorem dX8_init_12 : decode cX8_init 12 = .ok (.return_, 1) := dz_177 (bX8_init_0 12 _ rfl)
def c_X8_init (t0 : Nat)  (w : ch_W) : Option (ch_W) := (ch_nA w 21 8).bind fun w1 => (ch_pR w1 (some t0) 9 fX8_all (some (ch_nx w))).bind fun w2 => some (w2)
theorem s_X8_init {g : State} {t0 : Nat} {w : ch_W} {res : ch_W} {Q : Outcome → ch_W → Prop} (h : c_X8_init t0 w = some res) (hk : (ch_eV Q) res) : ch_CT g true yX8_init 2 [.ref t0] (w) Q := by
  unfold c_X8_init at h
  refine ch_ctL mX8_init (ls := [some (va_rf (some t0))]) q771 rfl (ch_lyr (r := some t0) ch_ly0) (Nat.le_of_ble_eq_true rfl) rfl ?_
  refine ch_aload_n 0 (some t0) dX8_init_0 rfl (ch_objInit (some t0) rfl dX8_init_1 q772 q234 q235 (Nat.le_of_ble_eq_true rfl) (Nat.le_of_ble_eq_true rfl) (ch_aload_n 0 (some t0) dX8_init_4 rfl (ch_bipush _ 8 dX8_init_5 rfl (cp_newA (t := 21) (ty := .int) dX8_init_7 rfl rfl (Nat.le_of_ble_eq_true rfl) rfl (Nat.le_of_ble_eq_true rfl) q314 h (fun w1 h => ?_)))))
  refine cp_pR (ci := 8) (k := 0) dX8_init_9 fl_X8_7 rfl rfl rfl h (fun w2 h => ?_)
  obtain rfl := Option.some.inj h
  exact ch_return dX8_init_12 rfl hk

theorem bX7_init_0 : ch_ck cX7_init 0 [42, 183, 0, 1, 42, 187, 0, 7, 89, 183, 0, 9, 181, 0, 10, 42] := ch_ckof (by decide +kernel)
theorem bX7_init_1 : ch_ck cX7_init 16 [187, 0, 7, 89, 183, 0, 9, 181, 0, 16, 42, 187, 0, 7, 89, 183] := ch_ckof (by decide +kernel)
theorem bX7_init_2 : ch_ck cX7_init 32 [0, 9, 181, 0, 19, 42, 27, 181, 0, 22, 42, 28, 181, 0, 26, 42] := ch_ckof (by decide +kernel)
theorem bX7_init_3 : ch_ck cX7_init 48 [29, 181, 0, 30, 42, 21, 4, 181, 0, 33, 177] := ch_ckof (by decide +kernel)
theorem dX7_init_0 : decode cX7_init 0 = .ok (.aload_n 0, 1) := dz_42 (bX7_init_0 0 _ rfl)
theorem dX7_init_1 : decode cX7_init 1 = .ok (.invokespecial 1, 3) := dz_183 (bX7_init_0 1 _ rfl) (bX7_init_0 2 _ rfl) (bX7_init_0 3 _ rfl)
theorem dX7_init_4 : decode cX7_init 4 = .ok (.aload_n 0, 1) := dz_42 (bX7_init_0 4 _ rfl)
theorem dX7_init_5 : decode cX7_init 5 = .ok (.new 7, 3) := dz_187 (bX7_init_0 5 _ rfl) (bX7_init_0 6 _ rfl) (bX7_init_0 7 _ rfl)
theorem dX7_init_8 : decode cX7_init 8 = .ok (.dup, 1) := dz_89 (bX7_init_0 8 _ rfl)
theorem dX7_init_9 : decode cX7_init 9 = .ok (.invokespecial 9, 3) := dz_183 (bX7_init_0 9 _ rfl) (bX7_init_0 10 _ rfl) (bX7_init_0 11 _ rfl)
theorem dX7_init_12 : decode cX7_init 12 = .ok (.putfield 10, 3) := dz_181 (bX7_init_0 12 _ rfl) (bX7_init_0 13 _ rfl) (bX7_init_0 14 _ rfl)
theorem dX7_init_15 : decode cX7_init 15 = .ok (.aload_n 0, 1) := dz_42 (bX7_init_0 15 _ rfl)
theorem dX7_init_16 : decode cX7_init 16 = .ok (.new 7, 3) := dz_187 (bX7_init_1 0 _ rfl) (bX7_init_1 1 _ rfl) (bX7_init_1 2 _ rfl)
theorem dX7_init_19 : decode cX7_init 19 = .ok (.dup, 1) := dz_89 (bX7_init_1 3 _ rfl)
theorem dX7_init_20 : decode cX7_init 20 = .ok (.invokespecial 9, 3) := dz_183 (bX7_init_1 4 _ rfl) (bX7_init_1 5 _ rfl) (bX7_init_1 6 _ rfl)
theorem dX7_init_23 : decode cX7_init 23 = .ok (.putfield 16, 3) := dz_181 (bX7_init_1 7 _ rfl) (bX7_init_1 8 _ rfl) (bX7_init_1 9 _ rfl)
theorem dX7_init_26 : decode cX7_init 26 = .ok (.aload_n 0, 1) := dz_42 (bX7_init_1 10 _ rfl)
theorem dX7_init_27 : decode cX7_init 27 = .ok (.new 7, 3) := dz_187 (bX7_init_1 11 _ rfl) (bX7_init_1 12 _ rfl) (bX7_init_1 13 _ rfl)
theorem dX7_init_30 : decode cX7_init 30 = .ok (.dup, 1) := dz_89 (bX7_init_1 14 _ rfl)
theorem dX7_init_31 : decode cX7_init 31 = .ok (.invokespecial 9, 3) := dz_183 (bX7_init_1 15 _ rfl) (bX7_init_2 0 _ rfl) (bX7_init_2 1 _ rfl)
theorem dX7_init_34 : decode cX7_init 34 = .ok (.putfield 19, 3) := dz_181 (bX7_init_2 2 _ rfl) (bX7_init_2 3 _ rfl) (bX7_init_2 4 _ rfl)
theorem dX7_init_37 : decode cX7_init 37 = .ok (.aload_n 0, 1) := dz_42 (bX7_init_2 5 _ rfl)
theorem dX7_init_38 : decode cX7_init 38 = .ok (.iload_n 1, 1) := dz_27 (bX7_init_2 6 _ rfl)
theorem dX7_init_39 : decode cX7_init 39 = .ok (.putfield 22, 3) := dz_181 (bX7_init_2 7 _ rfl) (bX7_init_2 8 _ rfl) (bX7_init_2 9 _ rfl)
theorem dX7_init_42 : decode cX7_init 42 = .ok (.aload_n 0, 1) := dz_42 (bX7_init_2 10 _ rfl)
theorem dX7_init_43 : decode cX7_init 43 = .ok (.iload_n 2, 1) := dz_28 (bX7_init_2 11 _ rfl)
theorem dX7_init_44 : decode cX7_init 44 = .ok (.putfield 26, 3) := dz_181 (bX7_init_2 12 _ rfl) (bX7_init_2 13 _ rfl) (bX7_init_2 14 _ rfl)
theorem dX7_init_47 : decode cX7_init 47 = .ok (.aload_n 0, 1) := dz_42 (bX7_init_2 15 _ rfl)
theorem dX7_init_48 : decode cX7_init 48 = .ok (.iload_n 3, 1) := dz_29 (bX7_init_3 0 _ rfl)
theorem dX7_init_49 : decode cX7_init 49 = .ok (.putfield 30, 3) := dz_181 (bX7_init_3 1 _ rfl) (bX7_init_3 2 _ rfl) (bX7_init_3 3 _ rfl)
theorem dX7_init_52 : decode cX7_init 52 = .ok (.aload_n 0, 1) := dz_42 (bX7_init_3 4 _ rfl)
theorem dX7_init_53 : decode cX7_init 53 = .ok (.iload 4, 2) := dz_21 (bX7_init_3 5 _ rfl) (bX7_init_3 6 _ rfl)
theorem dX7_init_55 : decode cX7_init 55 = .ok (.putfield 33, 3) := dz_181 (bX7_init_3 7 _ rfl) (bX7_init_3 8 _ rfl) (bX7_init_3 9 _ rfl)
theorem dX7_init_58 : decode cX7_init 58 = .ok (.return_, 1) := dz_177 (bX7_init_3 10 _ rfl)
def c_X7_init (t0 : Nat) (x1 : Int32) (x2 : Int32) (x3 : Int32) (x4 : Int32) (w : ch_W) : Option (ch_W) := (ch_nO w 9 2).bind fun w1 => (c_X8_init (ch_nx w) w1).bind fun p2 => (ch_pR p2 (some t0) 8 fX7_types (some (ch_nx w))).bind fun w4 => (ch_nO w4 9 2).bind fun w5 => (c_X8_init (ch_nx w4) w5).bind fun p6 => (ch_pR p6 (some t0) 8 fX7_names (some (ch_nx w4))).bind fun w8 => (ch_nO w8 9 2).bind fun w9 => (c_X8_init (ch_nx w8) w9).bind fun p10 => (ch_pR p10 (some t0) 8 fX7_catches (some (ch_nx w8))).bind fun w12 => (ch_bit x1).bind fun _ => (ch_pI w12 (some t0) 8 fX7_isMethod x1).bind fun w13 => (ch_pI w13 (some t0) 8 fX7_type x2).bind fun w14 => (ch_pI w14 (some t0) 8 fX7_name x3).bind fun w15 => (ch_pI w15 (some t0) 8 fX7_place x4).bind fun w16 => some (w16)
theorem s_X7_init {g : State} {t0 : Nat} {x1 : Int32} {x2 : Int32} {x3 : Int32} {x4 : Int32} {w : ch_W} {res : ch_W} {Q : Outcome → ch_W → Prop} (h : c_X7_init t0 x1 x2 x3 x4 w = some res) (hk : (ch_eV Q) res) : ch_CT g true yX7_init 3 [.ref t0, .int x1, .int x2, .int x3, .int x4] (w) Q := by
  unfold c_X7_init at h
  refine ch_ctL mX7_init (ls := [some (va_rf (some t0)), some (.int x1), some (.int x2), some (.int x3), some (.int x4)]) q765 rfl (ch_lyr (r := some t0) (ch_lyi (ch_lyi (ch_lyi (ch_lyi ch_ly0))))) (Nat.le_of_ble_eq_true rfl) rfl ?_
  refine ch_aload_n 0 (some t0) dX7_init_0 rfl (ch_objInit (some t0) rfl dX7_init_1 q766 q234 q235 (Nat.le_of_ble_eq_true rfl) (Nat.le_of_ble_eq_true rfl) (ch_aload_n 0 (some t0) dX7_init_4 rfl (cp_new (ci := 8) (n := 2) (q := (RX8, TX8, 2)) dX7_init_5 rfl q767 q768 q223 h (fun w1 h => ?_))))
  obtain ⟨p2, hp3, h⟩ := ch_bd h
  refine ch_dup dX7_init_8 (ch_cat _) (ch_iiN yX8_init prog_9_method_1_code 1 (b := (ch_nx w)) (d' := 2) (av := []) (rest := [va_rf (some (ch_nx w)), va_rf (some t0)]) rfl dX7_init_9 rfl q769 q770 q771 can_X8_init (Nat.le_of_ble_eq_true rfl) (ch_hw (Nat.le_of_ble_eq_true rfl)) (cp_kV (w1 := p2) (fun Q' hq => s_X8_init hp3 hq) ?_))
  refine cp_pR (ci := 7) (k := 4) dX7_init_12 fl_X7_10 rfl rfl rfl h (fun w4 h => ?_)
  refine ch_aload_n 0 (some t0) dX7_init_15 rfl (cp_new (ci := 8) (n := 2) (q := (RX8, TX8, 2)) dX7_init_16 rfl q767 q768 q223 h (fun w5 h => ?_))
  obtain ⟨p6, hp7, h⟩ := ch_bd h
  refine ch_dup dX7_init_19 (ch_cat _) (ch_iiN yX8_init prog_9_method_1_code 1 (b := (ch_nx w4)) (d' := 2) (av := []) (rest := [va_rf (some (ch_nx w4)), va_rf (some t0)]) rfl dX7_init_20 rfl q769 q770 q771 can_X8_init (Nat.le_of_ble_eq_true rfl) (ch_hw (Nat.le_of_ble_eq_true rfl)) (cp_kV (w1 := p6) (fun Q' hq => s_X8_init hp7 hq) ?_))
  refine cp_pR (ci := 7) (k := 5) dX7_init_23 fl_X7_16 rfl rfl rfl h (fun w8 h => ?_)
  refine ch_aload_n 0 (some t0) dX7_init_26 rfl (cp_new (ci := 8) (n := 2) (q := (RX8, TX8, 2)) dX7_init_27 rfl q767 q768 q223 h (fun w9 h => ?_))
  obtain ⟨p10, hp11, h⟩ := ch_bd h
  refine ch_dup dX7_init_30 (ch_cat _) (ch_iiN yX8_init prog_9_method_1_code 1 (b := (ch_nx w8)) (d' := 2) (av := []) (rest := [va_rf (some (ch_nx w8)), va_rf (some t0)]) rfl dX7_init_31 rfl q769 q770 q771 can_X8_init (Nat.le_of_ble_eq_true rfl) (ch_hw (Nat.le_of_ble_eq_true rfl)) (cp_kV (w1 := p10) (fun Q' hq => s_X8_init hp11 hq) ?_))
  refine cp_pR (ci := 7) (k := 10) dX7_init_34 fl_X7_19 rfl rfl rfl h (fun w12 h => ?_)
  refine ch_aload_n 0 (some t0) dX7_init_37 rfl (ch_iload_n 1 _ dX7_init_38 rfl (cp_pZ (ci := 7) (k := 0) dX7_init_39 fl_X7_22 rfl rfl rfl h (fun w13 h => ?_)))
  refine ch_aload_n 0 (some t0) dX7_init_42 rfl (ch_iload_n 2 _ dX7_init_43 rfl (cp_pI (ci := 7) (k := 1) dX7_init_44 fl_X7_26 rfl rfl rfl h (fun w14 h => ?_)))
  refine ch_aload_n 0 (some t0) dX7_init_47 rfl (ch_iload_n 3 _ dX7_init_48 rfl (cp_pI (ci := 7) (k := 2) dX7_init_49 fl_X7_30 rfl rfl rfl h (fun w15 h => ?_)))
  refine ch_aload_n 0 (some t0) dX7_init_52 rfl (ch_iload 4 _ dX7_init_53 rfl (cp_pI (ci := 7) (k := 3) dX7_init_55 fl_X7_33 rfl rfl rfl h (fun w16 h => ?_)))
  obtain rfl := Option.some.inj h
  exact ch_return dX7_init_58 rfl hk

theorem bX8_add_0 : ch_ck cX8_add 0 [42, 180, 0, 13, 42, 180, 0, 7, 190, 160, 0, 31, 5, 42, 180, 0] := ch_ckof (by decide +kernel)
theorem bX8_add_1 : ch_ck cX8_add 16 [13, 104, 188, 10, 77, 42, 180, 0, 7, 3, 44, 3, 42, 180, 0, 13] := ch_ckof (by decide +kernel)
theorem bX8_add_2 : ch_ck cX8_add 32 [184, 0, 17, 42, 44, 181, 0, 7, 42, 180, 0, 7, 42, 180, 0, 13] := ch_ckof (by decide +kernel)
theorem bX8_add_3 : ch_ck cX8_add 48 [27, 79, 42, 89, 180, 0, 13, 4, 96, 181, 0, 13, 177] := ch_ckof (by decide +kernel)
theorem dX8_add_0 : decode cX8_add 0 = .ok (.aload_n 0, 1) := dz_42 (bX8_add_0 0 _ rfl)
theorem dX8_add_1 : decode cX8_add 1 = .ok (.getfield 13, 3) := dz_180 (bX8_add_0 1 _ rfl) (bX8_add_0 2 _ rfl) (bX8_add_0 3 _ rfl)
theorem dX8_add_4 : decode cX8_add 4 = .ok (.aload_n 0, 1) := dz_42 (bX8_add_0 4 _ rfl)
theorem dX8_add_5 : decode cX8_add 5 = .ok (.getfield 7, 3) := dz_180 (bX8_add_0 5 _ rfl) (bX8_add_0 6 _ rfl) (bX8_add_0 7 _ rfl)
theorem dX8_add_8 : decode cX8_add 8 = .ok (.arraylength, 1) := dz_190 (bX8_add_0 8 _ rfl)
theorem dX8_add_9 : decode cX8_add 9 = .ok (.if_icmp .ne 31, 3) := dz_160 (bX8_add_0 9 _ rfl) (bX8_add_0 10 _ rfl) (bX8_add_0 11 _ rfl)
theorem dX8_add_12 : decode cX8_add 12 = .ok (.iconst 2, 1) := dz_5 (bX8_add_0 12 _ rfl)
theorem dX8_add_13 : decode cX8_add 13 = .ok (.aload_n 0, 1) := dz_42 (bX8_add_0 13 _ rfl)
theorem dX8_add_14 : decode cX8_add 14 = .ok (.getfield 13, 3) := dz_180 (bX8_add_0 14 _ rfl) (bX8_add_0 15 _ rfl) (bX8_add_1 0 _ rfl)
theorem dX8_add_17 : decode cX8_add 17 = .ok (.imul, 1) := dz_104 (bX8_add_1 1 _ rfl)
theorem dX8_add_18 : decode cX8_add 18 = .ok (.newarray .int, 2) := dz_188_10 (bX8_add_1 2 _ rfl) (bX8_add_1 3 _ rfl)
theorem dX8_add_20 : decode cX8_add 20 = .ok (.astore_n 2, 1) := dz_77 (bX8_add_1 4 _ rfl)
theorem dX8_add_21 : decode cX8_add 21 = .ok (.aload_n 0, 1) := dz_42 (bX8_add_1 5 _ rfl)
theorem dX8_add_22 : decode cX8_add 22 = .ok (.getfield 7, 3) := dz_180 (bX8_add_1 6 _ rfl) (bX8_add_1 7 _ rfl) (bX8_add_1 8 _ rfl)
theorem dX8_add_25 : decode cX8_add 25 = .ok (.iconst 0, 1) := dz_3 (bX8_add_1 9 _ rfl)
theorem dX8_add_26 : decode cX8_add 26 = .ok (.aload_n 2, 1) := dz_44 (bX8_add_1 10 _ rfl)
theorem dX8_add_27 : decode cX8_add 27 = .ok (.iconst 0, 1) := dz_3 (bX8_add_1 11 _ rfl)
theorem dX8_add_28 : decode cX8_add 28 = .ok (.aload_n 0, 1) := dz_42 (bX8_add_1 12 _ rfl)
theorem dX8_add_29 : decode cX8_add 29 = .ok (.getfield 13, 3) := dz_180 (bX8_add_1 13 _ rfl) (bX8_add_1 14 _ rfl) (bX8_add_1 15 _ rfl)
theorem dX8_add_32 : decode cX8_add 32 = .ok (.invokestatic 17, 3) := dz_184 (bX8_add_2 0 _ rfl) (bX8_add_2 1 _ rfl) (bX8_add_2 2 _ rfl)
theorem dX8_add_35 : decode cX8_add 35 = .ok (.aload_n 0, 1) := dz_42 (bX8_add_2 3 _ rfl)
theorem dX8_add_36 : decode cX8_add 36 = .ok (.aload_n 2, 1) := dz_44 (bX8_add_2 4 _ rfl)
theorem dX8_add_37 : decode cX8_add 37 = .ok (.putfield 7, 3) := dz_181 (bX8_add_2 5 _ rfl) (bX8_add_2 6 _ rfl) (bX8_add_2 7 _ rfl)
theorem dX8_add_40 : decode cX8_add 40 = .ok (.aload_n 0, 1) := dz_42 (bX8_add_2 8 _ rfl)
theorem dX8_add_41 : decode cX8_add 41 = .ok (.getfield 7, 3) := dz_180 (bX8_add_2 9 _ rfl) (bX8_add_2 10 _ rfl) (bX8_add_2 11 _ rfl)
theorem dX8_add_44 : decode cX8_add 44 = .ok (.aload_n 0, 1) := dz_42 (bX8_add_2 12 _ rfl)
theorem dX8_add_45 : decode cX8_add 45 = .ok (.getfield 13, 3) := dz_180 (bX8_add_2 13 _ rfl) (bX8_add_2 14 _ rfl) (bX8_add_2 15 _ rfl)
theorem dX8_add_48 : decode cX8_add 48 = .ok (.iload_n 1, 1) := dz_27 (bX8_add_3 0 _ rfl)
theorem dX8_add_49 : decode cX8_add 49 = .ok (.iastore, 1) := dz_79 (bX8_add_3 1 _ rfl)
theorem dX8_add_50 : decode cX8_add 50 = .ok (.aload_n 0, 1) := dz_42 (bX8_add_3 2 _ rfl)
theorem dX8_add_51 : decode cX8_add 51 = .ok (.dup, 1) := dz_89 (bX8_add_3 3 _ rfl)
theorem dX8_add_52 : decode cX8_add 52 = .ok (.getfield 13, 3) := dz_180 (bX8_add_3 4 _ rfl) (bX8_add_3 5 _ rfl) (bX8_add_3 6 _ rfl)
theorem dX8_add_55 : decode cX8_add 55 = .ok (.iconst 1, 1) := dz_4 (bX8_add_3 7 _ rfl)
theorem dX8_add_56 : decode cX8_add 56 = .ok (.iadd, 1) := dz_96 (bX8_add_3 8 _ rfl)
theorem dX8_add_57 : decode cX8_add 57 = .ok (.putfield 13, 3) := dz_181 (bX8_add_3 9 _ rfl) (bX8_add_3 10 _ rfl) (bX8_add_3 11 _ rfl)
theorem dX8_add_60 : decode cX8_add 60 = .ok (.return_, 1) := dz_177 (bX8_add_3 12 _ rfl)
def c_X8_add_40 (t0 : Nat) (x1 : Int32)  (w : ch_W) : Option (ch_W) := (ch_gR w (some t0) 9 fX8_all).bind fun v1 => (ch_gI w (some t0) 9 fX8_size).bind fun v2 => (ch_wI w v1 21 v2 x1).bind fun w3 => (ch_gI w3 (some t0) 9 fX8_size).bind fun v4 => (ch_pI w3 (some t0) 9 fX8_size (v4 + 1)).bind fun w5 => some (w5)
theorem s_X8_add_40 {g : State} {t0 : Nat} {x1 : Int32} {w : ch_W} {res : ch_W} {Q : Outcome → ch_W → Prop} (h : c_X8_add_40 t0 x1 w = some res) (hk : (ch_eV Q) res) : ch_FT g true mX8_add 2 40 [some (va_rf (some t0)), some (.int x1), none] [] (w) Q := by
  unfold c_X8_add_40 at h
  refine ch_aload_n 0 (some t0) dX8_add_40 rfl (cp_gR (ci := 8) (k := 0) dX8_add_41 fl_X8_7 rfl h (fun v1 h => ?_))
  refine ch_aload_n 0 (some t0) dX8_add_44 rfl (cp_gI (ci := 8) (k := 1) dX8_add_45 fl_X8_13 rfl h (fun v2 h => ?_))
  refine ch_iload_n 1 _ dX8_add_48 rfl (cp_iast (t := 21) dX8_add_49 rfl (Nat.le_of_ble_eq_true rfl) rfl h (fun w3 h => ?_))
  refine ch_aload_n 0 (some t0) dX8_add_50 rfl (ch_dup dX8_add_51 (ch_cat _) (cp_gI (ci := 8) (k := 1) dX8_add_52 fl_X8_13 rfl h (fun v4 h => ?_)))
  refine ch_iconst _ 1 dX8_add_55 rfl (ch_iadd _ _ dX8_add_56 (cp_pI (ci := 8) (k := 1) dX8_add_57 fl_X8_13 rfl rfl rfl h (fun w5 h => ?_)))
  obtain rfl := Option.some.inj h
  exact ch_return dX8_add_60 rfl hk

def c_X8_add (t0 : Nat) (x1 : Int32) (w : ch_W) : Option (ch_W) := (ch_gI w (some t0) 9 fX8_size).bind fun v1 => (ch_gR w (some t0) 9 fX8_all).bind fun v2 => (ch_le w v2 21).bind fun v3 => if v1 = v3 then ((ch_gI w (some t0) 9 fX8_size).bind fun v4 => (ch_nA w 21 (2 * v4)).bind fun w5 => (ch_gR w5 (some t0) 9 fX8_all).bind fun v6 => (ch_gI w5 (some t0) 9 fX8_size).bind fun v7 => (ch_cp w5 21 v6 0 (some (ch_nx w)) 0 v7).bind fun w8 => (ch_pR w8 (some t0) 9 fX8_all (some (ch_nx w))).bind fun w9 => c_X8_add_40 t0 x1 w9) else (c_X8_add_40 t0 x1 w)
theorem s_X8_add {g : State} {t0 : Nat} {x1 : Int32} {w : ch_W} {res : ch_W} {Q : Outcome → ch_W → Prop} (h : c_X8_add t0 x1 w = some res) (hk : (ch_eV Q) res) : ch_CT g true yX8_add 2 [.ref t0, .int x1] (w) Q := by
  unfold c_X8_add at h
  refine ch_ctL mX8_add (ls := [some (va_rf (some t0)), some (.int x1), none]) q845 rfl (ch_lyr (r := some t0) (ch_lyi ch_ly0)) (Nat.le_of_ble_eq_true rfl) rfl ?_
  refine ch_aload_n 0 (some t0) dX8_add_0 rfl (cp_gI (ci := 8) (k := 1) dX8_add_1 fl_X8_13 rfl h (fun v1 h => ?_))
  refine ch_aload_n 0 (some t0) dX8_add_4 rfl (cp_gR (ci := 8) (k := 0) dX8_add_5 fl_X8_7 rfl h (fun v2 h => ?_))
  refine cp_alen (t := 21) dX8_add_8 rfl rfl h (fun v3 h => ?_)
  refine cp_icmp_ne _ _ (tgt := 40) dX8_add_9 rfl h (fun h => ?_) (fun h => ?_)
  · exact ch_FT.wk (ch_wS (ch_wS (ch_wN ch_w0))) (s_X8_add_40  h hk)
  · refine ch_iconst _ 2 dX8_add_12 rfl (ch_aload_n 0 (some t0) dX8_add_13 rfl (cp_gI (ci := 8) (k := 1) dX8_add_14 fl_X8_13 rfl h (fun v4 h => ?_)))
    refine ch_imul _ _ dX8_add_17 (cp_newA (t := 21) (ty := .int) dX8_add_18 rfl rfl (Nat.le_of_ble_eq_true rfl) rfl (Nat.le_of_ble_eq_true rfl) q314 h (fun w5 h => ?_))
    refine ch_astore_n 2 (some (ch_nx w)) (ls1 := [some (va_rf (some t0)), some (.int x1), some (va_rf (some (ch_nx w)))]) dX8_add_20 (Nat.le_of_ble_eq_true rfl) rfl (ch_aload_n 0 (some t0) dX8_add_21 rfl (cp_gR (ci := 8) (k := 0) dX8_add_22 fl_X8_7 rfl h (fun v6 h => ?_)))
    refine ch_iconst _ 0 dX8_add_25 rfl (ch_aload_n 2 (some (ch_nx w)) dX8_add_26 rfl (ch_iconst _ 0 dX8_add_27 rfl (ch_aload_n 0 (some t0) dX8_add_28 rfl (cp_gI (ci := 8) (k := 1) dX8_add_29 fl_X8_13 rfl h (fun v7 h => ?_)))))
    refine cp_copy (t := 21) dX8_add_32 rfl (Nat.le_of_ble_eq_true rfl) ft_21 rfl rfl q846 (Nat.le_of_ble_eq_true rfl) (Nat.le_of_ble_eq_true rfl) h (fun w8 h => ?_)
    refine ch_aload_n 0 (some t0) dX8_add_35 rfl (ch_aload_n 2 (some (ch_nx w)) dX8_add_36 rfl (cp_pR (ci := 8) (k := 0) dX8_add_37 fl_X8_7 rfl rfl rfl h (fun w9 h => ?_)))
    exact ch_FT.wk (ch_wS (ch_wS (ch_wN ch_w0))) (s_X8_add_40  h hk)

theorem bX4_closes_0 : ch_ck cX4_closes 0 [42, 42, 43, 182, 0, 76, 182, 0, 58, 42, 89, 180, 0, 82, 4, 100] := ch_ckof (by decide +kernel)
theorem bX4_closes_1 : ch_ck cX4_closes 16 [181, 0, 82, 42, 182, 0, 79, 177] := ch_ckof (by decide +kernel)
theorem dX4_closes_0 : decode cX4_closes 0 = .ok (.aload_n 0, 1) := dz_42 (bX4_closes_0 0 _ rfl)
theorem dX4_closes_1 : decode cX4_closes 1 = .ok (.aload_n 0, 1) := dz_42 (bX4_closes_0 1 _ rfl)
theorem dX4_closes_2 : decode cX4_closes 2 = .ok (.aload_n 1, 1) := dz_43 (bX4_closes_0 2 _ rfl)
theorem dX4_closes_3 : decode cX4_closes 3 = .ok (.invokevirtual 76, 3) := dz_182 (bX4_closes_0 3 _ rfl) (bX4_closes_0 4 _ rfl) (bX4_closes_0 5 _ rfl)
theorem dX4_closes_6 : decode cX4_closes 6 = .ok (.invokevirtual 58, 3) := dz_182 (bX4_closes_0 6 _ rfl) (bX4_closes_0 7 _ rfl) (bX4_closes_0 8 _ rfl)
theorem dX4_closes_9 : decode cX4_closes 9 = .ok (.aload_n 0, 1) := dz_42 (bX4_closes_0 9 _ rfl)
theorem dX4_closes_10 : decode cX4_closes 10 = .ok (.dup, 1) := dz_89 (bX4_closes_0 10 _ rfl)
theorem dX4_closes_11 : decode cX4_closes 11 = .ok (.getfield 82, 3) := dz_180 (bX4_closes_0 11 _ rfl) (bX4_closes_0 12 _ rfl) (bX4_closes_0 13 _ rfl)
theorem dX4_closes_14 : decode cX4_closes 14 = .ok (.iconst 1, 1) := dz_4 (bX4_closes_0 14 _ rfl)
theorem dX4_closes_15 : decode cX4_closes 15 = .ok (.isub, 1) := dz_100 (bX4_closes_0 15 _ rfl)
theorem dX4_closes_16 : decode cX4_closes 16 = .ok (.putfield 82, 3) := dz_181 (bX4_closes_1 0 _ rfl) (bX4_closes_1 1 _ rfl) (bX4_closes_1 2 _ rfl)
theorem dX4_closes_19 : decode cX4_closes 19 = .ok (.aload_n 0, 1) := dz_42 (bX4_closes_1 3 _ rfl)
theorem dX4_closes_20 : decode cX4_closes 20 = .ok (.invokevirtual 79, 3) := dz_182 (bX4_closes_1 4 _ rfl) (bX4_closes_1 5 _ rfl) (bX4_closes_1 6 _ rfl)
theorem dX4_closes_23 : decode cX4_closes 23 = .ok (.return_, 1) := dz_177 (bX4_closes_1 7 _ rfl)
def c_X4_closes (g : State) (t0 : Nat) (x1 : Option Nat) (w : ch_W) : Option (Except Nat Unit × ch_W) := (ch_rc w (some t0) 5).bind fun _ => (c_X4_isThe g t0 x1 w).bind fun v2 => (ch_rc w (some t0) 5).bind fun _ => ch_tb (c_X4_must g t0 v2 w) (fun a w => (.error a, w)) fun _ w6 => (ch_gI w6 (some t0) 5 fX4_open).bind fun v7 => (ch_pI w6 (some t0) 5 fX4_open (v7 - 1)).bind fun w8 => (ch_rc w8 (some t0) 5).bind fun _ => ch_tb (c_X4_next g t0 w8) (fun a w => (.error a, w)) fun _ w11 => some ((.ok (), w11))
theorem s_X4_closes {g : State} {t0 : Nat} {x1 : Option Nat} {w : ch_W} {res : Except Nat Unit × ch_W} {Q : Outcome → ch_W → Prop} (h : c_X4_closes g t0 x1 w = some res) (hk : (ch_xV Q) res) : ch_CT g true yX4_closes 10 [.ref t0, va_rf x1] (w) Q := by
  unfold c_X4_closes at h
  refine ch_ctL mX4_closes (ls := [some (va_rf (some t0)), some (va_rf x1)]) q850 rfl (ch_lyr (r := some t0) (ch_lyr (r := x1) ch_ly0)) (Nat.le_of_ble_eq_true rfl) rfl ?_
  obtain ⟨_, hb1, h⟩ := ch_bd h
  obtain ⟨v2, hp3, h⟩ := ch_bd h
  refine ch_aload_n 0 (some t0) dX4_closes_0 rfl (ch_aload_n 0 (some t0) dX4_closes_1 rfl (ch_aload_n 1 x1 dX4_closes_2 rfl (ch_iv yX4_isThe prog_7_method_8_code 2 (some .boolean) (ci := 4) (q := (RX4, TX4, 9)) (b := t0) (d' := 7) (av := [va_rf x1]) (rest := [va_rf (some t0)]) rfl dX4_closes_3 q593 q595 rfl qs7 q596 can_X4_isThe (Nat.le_of_ble_eq_true rfl) (ch_hw (Nat.le_of_ble_eq_true rfl)) (ch_rts hb1) (cp_kI (v := v2) (w1 := w) (fun Q' hq => s_X4_isThe hp3 hq) ?_))))
  obtain ⟨_, hb4, h⟩ := ch_bd h
  refine ch_iv yX4_must prog_7_method_2_code 2 none (ci := 4) (q := (RX4, TX4, 9)) (b := t0) (d' := 7) (av := [.int v2]) (rest := []) rfl dX4_closes_6 q561 q563 rfl qs4 q564 can_X4_must (Nat.le_of_ble_eq_true rfl) (Nat.le_of_ble_eq_true rfl) (ch_rts hb4) (cp_tV h (fun p hp Q' hq => s_X4_must hp hq) (fun w6 h => ?_) (fun a w1 h => ?_))
  · refine ch_aload_n 0 (some t0) dX4_closes_9 rfl (ch_dup dX4_closes_10 (ch_cat _) (cp_gI (ci := 4) (k := 5) dX4_closes_11 fl_X4_82 rfl h (fun v7 h => ?_)))
    refine ch_iconst _ 1 dX4_closes_14 rfl (ch_isub _ _ dX4_closes_15 (cp_pI (ci := 4) (k := 5) dX4_closes_16 fl_X4_82 rfl rfl rfl h (fun w8 h => ?_)))
    obtain ⟨_, hb9, h⟩ := ch_bd h
    refine ch_aload_n 0 (some t0) dX4_closes_19 rfl (ch_iv yX4_next prog_7_method_5_code 3 none (ci := 4) (q := (RX4, TX4, 9)) (b := t0) (d' := 9) (av := []) (rest := []) rfl dX4_closes_20 q497 q499 rfl qs2 q500 can_X4_next (Nat.le_of_ble_eq_true rfl) (Nat.le_of_ble_eq_true rfl) (ch_rts hb9) (cp_tV h (fun p hp Q' hq => s_X4_next hp hq) (fun w11 h => ?_) (fun a w1 h => ?_)))
    · obtain rfl := Option.some.inj h
      exact ch_return dX4_closes_23 rfl hk
    · subst h
      exact ch_th rfl hk
  · subst h
    exact ch_th rfl hk

theorem bX4_isNameBehind_0 : ch_ck cX4_isNameBehind 0 [42, 180, 0, 37, 60, 27, 42, 180, 0, 25, 162, 0, 31, 42, 180, 0] := ch_ckof (by decide +kernel)
theorem bX4_isNameBehind_1 : ch_ck cX4_isNameBehind 16 [21, 27, 51, 16, 32, 159, 0, 14, 42, 180, 0, 21, 27, 51, 16, 10] := ch_ckof (by decide +kernel)
theorem bX4_isNameBehind_2 : ch_ck cX4_isNameBehind 32 [160, 0, 9, 132, 1, 1, 167, 255, 223, 27, 42, 180, 0, 25, 162, 0] := ch_ckof (by decide +kernel)
theorem bX4_isNameBehind_3 : ch_ck cX4_isNameBehind 48 [15, 42, 180, 0, 21, 27, 51, 184, 0, 43, 154, 0, 5, 3, 172, 42] := ch_ckof (by decide +kernel)
theorem bX4_isNameBehind_4 : ch_ck cX4_isNameBehind 64 [180, 0, 40, 61, 42, 180, 0, 31, 62, 42, 180, 0, 37, 54, 4, 42] := ch_ckof (by decide +kernel)
theorem bX4_isNameBehind_5 : ch_ck cX4_isNameBehind 80 [182, 0, 79, 42, 180, 0, 40, 4, 160, 0, 7, 4, 167, 0, 4, 3] := ch_ckof (by decide +kernel)
theorem bX4_isNameBehind_6 : ch_ck cX4_isNameBehind 96 [54, 5, 42, 28, 181, 0, 40, 42, 29, 181, 0, 31, 42, 21, 4, 181] := ch_ckof (by decide +kernel)
theorem bX4_isNameBehind_7 : ch_ck cX4_isNameBehind 112 [0, 37, 21, 5, 172] := ch_ckof (by decide +kernel)
theorem dX4_isNameBehind_0 : decode cX4_isNameBehind 0 = .ok (.aload_n 0, 1) := dz_42 (bX4_isNameBehind_0 0 _ rfl)
theorem dX4_isNameBehind_1 : decode cX4_isNameBehind 1 = .ok (.getfield 37, 3) := dz_180 (bX4_isNameBehind_0 1 _ rfl) (bX4_isNameBehind_0 2 _ rfl) (bX4_isNameBehind_0 3 _ rfl)
theorem dX4_isNameBehind_4 : decode cX4_isNameBehind 4 = .ok (.istore_n 1, 1) := dz_60 (bX4_isNameBehind_0 4 _ rfl)
theorem dX4_isNameBehind_5 : decode cX4_isNameBehind 5 = .ok (.iload_n 1, 1) := dz_27 (bX4_isNameBehind_0 5 _ rfl)
theorem dX4_isNameBehind_6 : decode cX4_isNameBehind 6 = .ok (.aload_n 0, 1) := dz_42 (bX4_isNameBehind_0 6 _ rfl)
theorem dX4_isNameBehind_7 : decode cX4_isNameBehind 7 = .ok (.getfield 25, 3) := dz_180 (bX4_isNameBehind_0 7 _ rfl) (bX4_isNameBehind_0 8 _ rfl) (bX4_isNameBehind_0 9 _ rfl)
theorem dX4_isNameBehind_10 : decode cX4_isNameBehind 10 = .ok (.if_icmp .ge 31, 3) := dz_162 (bX4_isNameBehind_0 10 _ rfl) (bX4_isNameBehind_0 11 _ rfl) (bX4_isNameBehind_0 12 _ rfl)
theorem dX4_isNameBehind_13 : decode cX4_isNameBehind 13 = .ok (.aload_n 0, 1) := dz_42 (bX4_isNameBehind_0 13 _ rfl)
theorem dX4_isNameBehind_14 : decode cX4_isNameBehind 14 = .ok (.getfield 21, 3) := dz_180 (bX4_isNameBehind_0 14 _ rfl) (bX4_isNameBehind_0 15 _ rfl) (bX4_isNameBehind_1 0 _ rfl)
theorem dX4_isNameBehind_17 : decode cX4_isNameBehind 17 = .ok (.iload_n 1, 1) := dz_27 (bX4_isNameBehind_1 1 _ rfl)
theorem dX4_isNameBehind_18 : decode cX4_isNameBehind 18 = .ok (.baload, 1) := dz_51 (bX4_isNameBehind_1 2 _ rfl)
theorem dX4_isNameBehind_19 : decode cX4_isNameBehind 19 = .ok (.bipush 32, 2) := dz_16 (bX4_isNameBehind_1 3 _ rfl) (bX4_isNameBehind_1 4 _ rfl)
theorem dX4_isNameBehind_21 : decode cX4_isNameBehind 21 = .ok (.if_icmp .eq 14, 3) := dz_159 (bX4_isNameBehind_1 5 _ rfl) (bX4_isNameBehind_1 6 _ rfl) (bX4_isNameBehind_1 7 _ rfl)
theorem dX4_isNameBehind_24 : decode cX4_isNameBehind 24 = .ok (.aload_n 0, 1) := dz_42 (bX4_isNameBehind_1 8 _ rfl)
theorem dX4_isNameBehind_25 : decode cX4_isNameBehind 25 = .ok (.getfield 21, 3) := dz_180 (bX4_isNameBehind_1 9 _ rfl) (bX4_isNameBehind_1 10 _ rfl) (bX4_isNameBehind_1 11 _ rfl)
theorem dX4_isNameBehind_28 : decode cX4_isNameBehind 28 = .ok (.iload_n 1, 1) := dz_27 (bX4_isNameBehind_1 12 _ rfl)
theorem dX4_isNameBehind_29 : decode cX4_isNameBehind 29 = .ok (.baload, 1) := dz_51 (bX4_isNameBehind_1 13 _ rfl)
theorem dX4_isNameBehind_30 : decode cX4_isNameBehind 30 = .ok (.bipush 10, 2) := dz_16 (bX4_isNameBehind_1 14 _ rfl) (bX4_isNameBehind_1 15 _ rfl)
theorem dX4_isNameBehind_32 : decode cX4_isNameBehind 32 = .ok (.if_icmp .ne 9, 3) := dz_160 (bX4_isNameBehind_2 0 _ rfl) (bX4_isNameBehind_2 1 _ rfl) (bX4_isNameBehind_2 2 _ rfl)
theorem dX4_isNameBehind_35 : decode cX4_isNameBehind 35 = .ok (.iinc 1 1, 3) := dz_132 (bX4_isNameBehind_2 3 _ rfl) (bX4_isNameBehind_2 4 _ rfl) (bX4_isNameBehind_2 5 _ rfl)
theorem dX4_isNameBehind_38 : decode cX4_isNameBehind 38 = .ok (.goto (-33), 3) := dz_167 (bX4_isNameBehind_2 6 _ rfl) (bX4_isNameBehind_2 7 _ rfl) (bX4_isNameBehind_2 8 _ rfl)
theorem dX4_isNameBehind_41 : decode cX4_isNameBehind 41 = .ok (.iload_n 1, 1) := dz_27 (bX4_isNameBehind_2 9 _ rfl)
theorem dX4_isNameBehind_42 : decode cX4_isNameBehind 42 = .ok (.aload_n 0, 1) := dz_42 (bX4_isNameBehind_2 10 _ rfl)
theorem dX4_isNameBehind_43 : decode cX4_isNameBehind 43 = .ok (.getfield 25, 3) := dz_180 (bX4_isNameBehind_2 11 _ rfl) (bX4_isNameBehind_2 12 _ rfl) (bX4_isNameBehind_2 13 _ rfl)
theorem dX4_isNameBehind_46 : decode cX4_isNameBehind 46 = .ok (.if_icmp .ge 15, 3) := dz_162 (bX4_isNameBehind_2 14 _ rfl) (bX4_isNameBehind_2 15 _ rfl) (bX4_isNameBehind_3 0 _ rfl)
theorem dX4_isNameBehind_49 : decode cX4_isNameBehind 49 = .ok (.aload_n 0, 1) := dz_42 (bX4_isNameBehind_3 1 _ rfl)
theorem dX4_isNameBehind_50 : decode cX4_isNameBehind 50 = .ok (.getfield 21, 3) := dz_180 (bX4_isNameBehind_3 2 _ rfl) (bX4_isNameBehind_3 3 _ rfl) (bX4_isNameBehind_3 4 _ rfl)
theorem dX4_isNameBehind_53 : decode cX4_isNameBehind 53 = .ok (.iload_n 1, 1) := dz_27 (bX4_isNameBehind_3 5 _ rfl)
theorem dX4_isNameBehind_54 : decode cX4_isNameBehind 54 = .ok (.baload, 1) := dz_51 (bX4_isNameBehind_3 6 _ rfl)
theorem dX4_isNameBehind_55 : decode cX4_isNameBehind 55 = .ok (.invokestatic 43, 3) := dz_184 (bX4_isNameBehind_3 7 _ rfl) (bX4_isNameBehind_3 8 _ rfl) (bX4_isNameBehind_3 9 _ rfl)
theorem dX4_isNameBehind_58 : decode cX4_isNameBehind 58 = .ok (.ifCond .ne 5, 3) := dz_154 (bX4_isNameBehind_3 10 _ rfl) (bX4_isNameBehind_3 11 _ rfl) (bX4_isNameBehind_3 12 _ rfl)
theorem dX4_isNameBehind_61 : decode cX4_isNameBehind 61 = .ok (.iconst 0, 1) := dz_3 (bX4_isNameBehind_3 13 _ rfl)
theorem dX4_isNameBehind_62 : decode cX4_isNameBehind 62 = .ok (.ireturn, 1) := dz_172 (bX4_isNameBehind_3 14 _ rfl)
theorem dX4_isNameBehind_63 : decode cX4_isNameBehind 63 = .ok (.aload_n 0, 1) := dz_42 (bX4_isNameBehind_3 15 _ rfl)
theorem dX4_isNameBehind_64 : decode cX4_isNameBehind 64 = .ok (.getfield 40, 3) := dz_180 (bX4_isNameBehind_4 0 _ rfl) (bX4_isNameBehind_4 1 _ rfl) (bX4_isNameBehind_4 2 _ rfl)
theorem dX4_isNameBehind_67 : decode cX4_isNameBehind 67 = .ok (.istore_n 2, 1) := dz_61 (bX4_isNameBehind_4 3 _ rfl)
theorem dX4_isNameBehind_68 : decode cX4_isNameBehind 68 = .ok (.aload_n 0, 1) := dz_42 (bX4_isNameBehind_4 4 _ rfl)
theorem dX4_isNameBehind_69 : decode cX4_isNameBehind 69 = .ok (.getfield 31, 3) := dz_180 (bX4_isNameBehind_4 5 _ rfl) (bX4_isNameBehind_4 6 _ rfl) (bX4_isNameBehind_4 7 _ rfl)
theorem dX4_isNameBehind_72 : decode cX4_isNameBehind 72 = .ok (.istore_n 3, 1) := dz_62 (bX4_isNameBehind_4 8 _ rfl)
theorem dX4_isNameBehind_73 : decode cX4_isNameBehind 73 = .ok (.aload_n 0, 1) := dz_42 (bX4_isNameBehind_4 9 _ rfl)
theorem dX4_isNameBehind_74 : decode cX4_isNameBehind 74 = .ok (.getfield 37, 3) := dz_180 (bX4_isNameBehind_4 10 _ rfl) (bX4_isNameBehind_4 11 _ rfl) (bX4_isNameBehind_4 12 _ rfl)
theorem dX4_isNameBehind_77 : decode cX4_isNameBehind 77 = .ok (.istore 4, 2) := dz_54 (bX4_isNameBehind_4 13 _ rfl) (bX4_isNameBehind_4 14 _ rfl)
theorem dX4_isNameBehind_79 : decode cX4_isNameBehind 79 = .ok (.aload_n 0, 1) := dz_42 (bX4_isNameBehind_4 15 _ rfl)
theorem dX4_isNameBehind_80 : decode cX4_isNameBehind 80 = .ok (.invokevirtual 79, 3) := dz_182 (bX4_isNameBehind_5 0 _ rfl) (bX4_isNameBehind_5 1 _ rfl) (bX4_isNameBehind_5 2 _ rfl)
theorem dX4_isNameBehind_83 : decode cX4_isNameBehind 83 = .ok (.aload_n 0, 1) := dz_42 (bX4_isNameBehind_5 3 _ rfl)
theorem dX4_isNameBehind_84 : decode cX4_isNameBehind 84 = .ok (.getfield 40, 3) := dz_180 (bX4_isNameBehind_5 4 _ rfl) (bX4_isNameBehind_5 5 _ rfl) (bX4_isNameBehind_5 6 _ rfl)
theorem dX4_isNameBehind_87 : decode cX4_isNameBehind 87 = .ok (.iconst 1, 1) := dz_4 (bX4_isNameBehind_5 7 _ rfl)
theorem dX4_isNameBehind_88 : decode cX4_isNameBehind 88 = .ok (.if_icmp .ne 7, 3) := dz_160 (bX4_isNameBehind_5 8 _ rfl) (bX4_isNameBehind_5 9 _ rfl) (bX4_isNameBehind_5 10 _ rfl)
theorem dX4_isNameBehind_91 : decode cX4_isNameBehind 91 = .ok (.iconst 1, 1) := dz_4 (bX4_isNameBehind_5 11 _ rfl)
theorem dX4_isNameBehind_92 : decode cX4_isNameBehind 92 = .ok (.goto 4, 3) := dz_167 (bX4_isNameBehind_5 12 _ rfl) (bX4_isNameBehind_5 13 _ rfl) (bX4_isNameBehind_5 14 _ rfl)
theorem dX4_isNameBehind_95 : decode cX4_isNameBehind 95 = .ok (.iconst 0, 1) := dz_3 (bX4_isNameBehind_5 15 _ rfl)
theorem dX4_isNameBehind_96 : decode cX4_isNameBehind 96 = .ok (.istore 5, 2) := dz_54 (bX4_isNameBehind_6 0 _ rfl) (bX4_isNameBehind_6 1 _ rfl)
theorem dX4_isNameBehind_98 : decode cX4_isNameBehind 98 = .ok (.aload_n 0, 1) := dz_42 (bX4_isNameBehind_6 2 _ rfl)
theorem dX4_isNameBehind_99 : decode cX4_isNameBehind 99 = .ok (.iload_n 2, 1) := dz_28 (bX4_isNameBehind_6 3 _ rfl)
theorem dX4_isNameBehind_100 : decode cX4_isNameBehind 100 = .ok (.putfield 40, 3) := dz_181 (bX4_isNameBehind_6 4 _ rfl) (bX4_isNameBehind_6 5 _ rfl) (bX4_isNameBehind_6 6 _ rfl)
theorem dX4_isNameBehind_103 : decode cX4_isNameBehind 103 = .ok (.aload_n 0, 1) := dz_42 (bX4_isNameBehind_6 7 _ rfl)
theorem dX4_isNameBehind_104 : decode cX4_isNameBehind 104 = .ok (.iload_n 3, 1) := dz_29 (bX4_isNameBehind_6 8 _ rfl)
theorem dX4_isNameBehind_105 : decode cX4_isNameBehind 105 = .ok (.putfield 31, 3) := dz_181 (bX4_isNameBehind_6 9 _ rfl) (bX4_isNameBehind_6 10 _ rfl) (bX4_isNameBehind_6 11 _ rfl)
theorem dX4_isNameBehind_108 : decode cX4_isNameBehind 108 = .ok (.aload_n 0, 1) := dz_42 (bX4_isNameBehind_6 12 _ rfl)
theorem dX4_isNameBehind_109 : decode cX4_isNameBehind 109 = .ok (.iload 4, 2) := dz_21 (bX4_isNameBehind_6 13 _ rfl) (bX4_isNameBehind_6 14 _ rfl)
theorem dX4_isNameBehind_111 : decode cX4_isNameBehind 111 = .ok (.putfield 37, 3) := dz_181 (bX4_isNameBehind_6 15 _ rfl) (bX4_isNameBehind_7 0 _ rfl) (bX4_isNameBehind_7 1 _ rfl)
theorem dX4_isNameBehind_114 : decode cX4_isNameBehind 114 = .ok (.iload 5, 2) := dz_21 (bX4_isNameBehind_7 2 _ rfl) (bX4_isNameBehind_7 3 _ rfl)
theorem dX4_isNameBehind_116 : decode cX4_isNameBehind 116 = .ok (.ireturn, 1) := dz_172 (bX4_isNameBehind_7 4 _ rfl)
def c_X4_isNameBehind_96 (g : State) (t0 : Nat) (x2 : Int32) (x3 : Int32) (x4 : Int32) (y0 : Int32) (w : ch_W) : Option (Except Nat Int32 × ch_W) := (ch_pI w (some t0) 5 fX4_kind x2).bind fun w1 => (ch_pI w1 (some t0) 5 fX4_from x3).bind fun w2 => (ch_pI w2 (some t0) 5 fX4_to x4).bind fun w3 => (ch_bit y0).bind fun v => some ((.ok v, w3))
theorem s_X4_isNameBehind_96 {g : State} {t0 : Nat} {x2 : Int32} {x3 : Int32} {x4 : Int32} {y0 : Int32} {w : ch_W} {res : Except Nat Int32 × ch_W} {Q : Outcome → ch_W → Prop} (h : c_X4_isNameBehind_96 g t0 x2 x3 x4 y0 w = some res) (hk : (ch_xI Q) res) : ch_FT g true mX4_isNameBehind 10 96 [some (va_rf (some t0)), none, some (.int x2), some (.int x3), some (.int x4), none] [.int y0] (w) Q := by
  unfold c_X4_isNameBehind_96 at h
  refine ch_istore 5 _ (ls1 := [some (va_rf (some t0)), none, some (.int x2), some (.int x3), some (.int x4), some (.int y0)]) dX4_isNameBehind_96 (Nat.le_of_ble_eq_true rfl) rfl (ch_aload_n 0 (some t0) dX4_isNameBehind_98 rfl (ch_iload_n 2 _ dX4_isNameBehind_99 rfl (cp_pI (ci := 4) (k := 2) dX4_isNameBehind_100 fl_X4_40 rfl rfl rfl h (fun w1 h => ?_))))
  refine ch_aload_n 0 (some t0) dX4_isNameBehind_103 rfl (ch_iload_n 3 _ dX4_isNameBehind_104 rfl (cp_pI (ci := 4) (k := 3) dX4_isNameBehind_105 fl_X4_31 rfl rfl rfl h (fun w2 h => ?_)))
  refine ch_aload_n 0 (some t0) dX4_isNameBehind_108 rfl (ch_iload 4 _ dX4_isNameBehind_109 rfl (cp_pI (ci := 4) (k := 4) dX4_isNameBehind_111 fl_X4_37 rfl rfl rfl h (fun w3 h => ?_)))
  refine ch_iload 5 _ dX4_isNameBehind_114 rfl (cp_zret _ dX4_isNameBehind_116 rfl h (fun h => ?_))
  obtain rfl := Option.some.inj h
  exact hk

def c_X4_isNameBehind_41 (g : State) (t0 : Nat) (x1 : Int32)  (w : ch_W) : Option (Except Nat Int32 × ch_W) := (ch_gI w (some t0) 5 fX4_end).bind fun v1 => if x1 < v1 then ((ch_gR w (some t0) 5 fX4_s).bind fun v2 => (ch_lI w v2 22 x1).bind fun v3 => (c_X4_isLetter v3 w).bind fun v4 => if v4 = 0 then (some ((.ok 0, w))) else ((ch_gI w (some t0) 5 fX4_kind).bind fun v6 => (ch_gI w (some t0) 5 fX4_from).bind fun v7 => (ch_gI w (some t0) 5 fX4_to).bind fun v8 => (ch_rc w (some t0) 5).bind fun _ => ch_tb (c_X4_next g t0 w) (fun a w => (.error a, w)) fun _ w11 => (ch_gI w11 (some t0) 5 fX4_kind).bind fun v12 => if v12 = 1 then (c_X4_isNameBehind_96 g t0 v6 v7 v8 1 w11) else (c_X4_isNameBehind_96 g t0 v6 v7 v8 0 w11))) else (some ((.ok 0, w)))
theorem s_X4_isNameBehind_41 {g : State} {t0 : Nat} {x1 : Int32} {w : ch_W} {res : Except Nat Int32 × ch_W} {Q : Outcome → ch_W → Prop} (h : c_X4_isNameBehind_41 g t0 x1 w = some res) (hk : (ch_xI Q) res) : ch_FT g true mX4_isNameBehind 10 41 [some (va_rf (some t0)), some (.int x1), none, none, none, none] [] (w) Q := by
  unfold c_X4_isNameBehind_41 at h
  refine ch_iload_n 1 _ dX4_isNameBehind_41 rfl (ch_aload_n 0 (some t0) dX4_isNameBehind_42 rfl (cp_gI (ci := 4) (k := 1) dX4_isNameBehind_43 fl_X4_25 rfl h (fun v1 h => ?_)))
  refine cp_icmp_ge _ _ (tgt := 61) dX4_isNameBehind_46 rfl h (fun h => ?_) (fun h => ?_)
  · obtain rfl := Option.some.inj h
    exact ch_iconst _ 0 dX4_isNameBehind_61 rfl (ch_ireturn _ dX4_isNameBehind_62 rfl rfl hk)
  · refine ch_aload_n 0 (some t0) dX4_isNameBehind_49 rfl (cp_gR (ci := 4) (k := 0) dX4_isNameBehind_50 fl_X4_21 rfl h (fun v2 h => ?_))
    refine ch_iload_n 1 _ dX4_isNameBehind_53 rfl (cp_bald (t := 22) dX4_isNameBehind_54 rfl rfl h (fun v3 h => ?_))
    obtain ⟨v4, hp5, h⟩ := ch_bd h
    refine ch_is yX4_isLetter prog_7_method_3_code 1 (some .boolean) (d' := 2) (av := [.int v3]) (rest := []) rfl dX4_isNameBehind_55 q501 q502 q207 q503 can_X4_isLetter (Nat.le_of_ble_eq_true rfl) (Nat.le_of_ble_eq_true rfl) (cp_kI (v := v4) (w1 := w) (fun Q' hq => s_X4_isLetter hp5 hq) ?_)
    refine cp_if_ne _ (tgt := 63) dX4_isNameBehind_58 rfl h (fun h => ?_) (fun h => ?_)
    · refine ch_aload_n 0 (some t0) dX4_isNameBehind_63 rfl (cp_gI (ci := 4) (k := 2) dX4_isNameBehind_64 fl_X4_40 rfl h (fun v6 h => ?_))
      refine ch_istore_n 2 _ (ls1 := [some (va_rf (some t0)), some (.int x1), some (.int v6), none, none, none]) dX4_isNameBehind_67 (Nat.le_of_ble_eq_true rfl) rfl (ch_aload_n 0 (some t0) dX4_isNameBehind_68 rfl (cp_gI (ci := 4) (k := 3) dX4_isNameBehind_69 fl_X4_31 rfl h (fun v7 h => ?_)))
      refine ch_istore_n 3 _ (ls1 := [some (va_rf (some t0)), some (.int x1), some (.int v6), some (.int v7), none, none]) dX4_isNameBehind_72 (Nat.le_of_ble_eq_true rfl) rfl (ch_aload_n 0 (some t0) dX4_isNameBehind_73 rfl (cp_gI (ci := 4) (k := 4) dX4_isNameBehind_74 fl_X4_37 rfl h (fun v8 h => ?_)))
      obtain ⟨_, hb9, h⟩ := ch_bd h
      refine ch_istore 4 _ (ls1 := [some (va_rf (some t0)), some (.int x1), some (.int v6), some (.int v7), some (.int v8), none]) dX4_isNameBehind_77 (Nat.le_of_ble_eq_true rfl) rfl (ch_aload_n 0 (some t0) dX4_isNameBehind_79 rfl (ch_iv yX4_next prog_7_method_5_code 3 none (ci := 4) (q := (RX4, TX4, 9)) (b := t0) (d' := 9) (av := []) (rest := []) rfl dX4_isNameBehind_80 q497 q499 rfl qs2 q500 can_X4_next (Nat.le_of_ble_eq_true rfl) (Nat.le_of_ble_eq_true rfl) (ch_rts hb9) (cp_tV h (fun p hp Q' hq => s_X4_next hp hq) (fun w11 h => ?_) (fun a w1 h => ?_))))
      · refine ch_aload_n 0 (some t0) dX4_isNameBehind_83 rfl (cp_gI (ci := 4) (k := 2) dX4_isNameBehind_84 fl_X4_40 rfl h (fun v12 h => ?_))
        refine ch_iconst _ 1 dX4_isNameBehind_87 rfl (cp_icmp_ne _ _ (tgt := 95) dX4_isNameBehind_88 rfl h (fun h => ?_) (fun h => ?_))
        · exact ch_iconst _ 0 dX4_isNameBehind_95 rfl (ch_FT.wk (ch_wS (ch_wN (ch_wS (ch_wS (ch_wS (ch_wN ch_w0)))))) (s_X4_isNameBehind_96  h hk))
        · exact ch_iconst _ 1 dX4_isNameBehind_91 rfl (ch_goto 96 dX4_isNameBehind_92 rfl (ch_FT.wk (ch_wS (ch_wN (ch_wS (ch_wS (ch_wS (ch_wN ch_w0)))))) (s_X4_isNameBehind_96  h hk)))
      · subst h
        exact ch_th rfl hk
    · obtain rfl := Option.some.inj h
      exact ch_iconst _ 0 dX4_isNameBehind_61 rfl (ch_ireturn _ dX4_isNameBehind_62 rfl rfl hk)

def c_X4_isNameBehind_5 (g : State) (t0 : Nat) (x1 : Int32)  (w : ch_W) : Option (Int32 ⊕ (Except Nat Int32 × ch_W)) := (ch_gI w (some t0) 5 fX4_end).bind fun v1 => if x1 < v1 then ((ch_gR w (some t0) 5 fX4_s).bind fun v2 => (ch_lI w v2 22 x1).bind fun v3 => if v3 = 32 then (some (.inl (x1 + 1))) else ((ch_gR w (some t0) 5 fX4_s).bind fun v4 => (ch_lI w v4 22 x1).bind fun v5 => if v5 = 10 then (some (.inl (x1 + 1))) else ((c_X4_isNameBehind_41 g t0 x1 w).bind fun r => some (.inr (r))))) else ((c_X4_isNameBehind_41 g t0 x1 w).bind fun r => some (.inr (r)))
theorem s_X4_isNameBehind_5 {g : State} {t0 : Nat} {x1 : Int32} {w : ch_W} {res : Int32 ⊕ (Except Nat Int32 × ch_W)} {Q : Outcome → ch_W → Prop} (h : c_X4_isNameBehind_5 g t0 x1 w = some res) (hk : (ch_sm (fun s => ch_FT g true mX4_isNameBehind 10 5 [some (va_rf (some t0)), some (.int s), none, none, none, none] [] (w) Q) (ch_xI Q)) res) : ch_FT g true mX4_isNameBehind 10 5 [some (va_rf (some t0)), some (.int x1), none, none, none, none] [] (w) Q := by
  unfold c_X4_isNameBehind_5 at h
  refine ch_iload_n 1 _ dX4_isNameBehind_5 rfl (ch_aload_n 0 (some t0) dX4_isNameBehind_6 rfl (cp_gI (ci := 4) (k := 1) dX4_isNameBehind_7 fl_X4_25 rfl h (fun v1 h => ?_)))
  refine cp_icmp_ge _ _ (tgt := 41) dX4_isNameBehind_10 rfl h (fun h => ?_) (fun h => ?_)
  · obtain ⟨r, hr, h⟩ := ch_bd h
    obtain rfl := Option.some.inj h
    exact ch_FT.wk (ch_wS (ch_wS (ch_wN (ch_wN (ch_wN (ch_wN ch_w0)))))) (s_X4_isNameBehind_41  hr hk)
  · refine ch_aload_n 0 (some t0) dX4_isNameBehind_13 rfl (cp_gR (ci := 4) (k := 0) dX4_isNameBehind_14 fl_X4_21 rfl h (fun v2 h => ?_))
    refine ch_iload_n 1 _ dX4_isNameBehind_17 rfl (cp_bald (t := 22) dX4_isNameBehind_18 rfl rfl h (fun v3 h => ?_))
    refine ch_bipush _ 32 dX4_isNameBehind_19 rfl (cp_icmp_eq _ _ (tgt := 35) dX4_isNameBehind_21 rfl h (fun h => ?_) (fun h => ?_))
    · refine ch_iinc 1 _ _ (x1 + 1) (ls1 := [some (va_rf (some t0)), some (.int (x1 + 1)), none, none, none, none]) dX4_isNameBehind_35 rfl rfl (Nat.le_of_ble_eq_true rfl) rfl (ch_goto 5 dX4_isNameBehind_38 rfl (ch_FT.wk (ch_wS (ch_wS (ch_wN (ch_wN (ch_wN (ch_wN ch_w0)))))) ?_))
      obtain rfl := Option.some.inj h
      exact hk
    · refine ch_aload_n 0 (some t0) dX4_isNameBehind_24 rfl (cp_gR (ci := 4) (k := 0) dX4_isNameBehind_25 fl_X4_21 rfl h (fun v4 h => ?_))
      refine ch_iload_n 1 _ dX4_isNameBehind_28 rfl (cp_bald (t := 22) dX4_isNameBehind_29 rfl rfl h (fun v5 h => ?_))
      refine ch_bipush _ 10 dX4_isNameBehind_30 rfl (cp_icmp_ne _ _ (tgt := 41) dX4_isNameBehind_32 rfl h (fun h => ?_) (fun h => ?_))
      · obtain ⟨r, hr, h⟩ := ch_bd h
        obtain rfl := Option.some.inj h
        exact ch_FT.wk (ch_wS (ch_wS (ch_wN (ch_wN (ch_wN (ch_wN ch_w0)))))) (s_X4_isNameBehind_41  hr hk)
      · refine ch_iinc 1 _ _ (x1 + 1) (ls1 := [some (va_rf (some t0)), some (.int (x1 + 1)), none, none, none, none]) dX4_isNameBehind_35 rfl rfl (Nat.le_of_ble_eq_true rfl) rfl (ch_goto 5 dX4_isNameBehind_38 rfl (ch_FT.wk (ch_wS (ch_wS (ch_wN (ch_wN (ch_wN (ch_wN ch_w0)))))) ?_))
        obtain rfl := Option.some.inj h
        exact hk
theorem sl_X4_isNameBehind_5 {g : State} {t0 : Nat} {w : ch_W} {a : Int32} {res : Except Nat Int32 × ch_W} {Q : Outcome → ch_W → Prop} (h : ch_loop (fun (s : Int32) => c_X4_isNameBehind_5 g t0 s w) a = some res) (hk : (ch_xI Q) res) : ch_FT g true mX4_isNameBehind 10 5 [some (va_rf (some t0)), some (.int a), none, none, none, none] [] (w) Q := by
  refine ch_loop_ind (fun (a : Int32) (r : Except Nat Int32 × ch_W) => (ch_xI Q) r → ch_FT g true mX4_isNameBehind 10 5 [some (va_rf (some t0)), some (.int a), none, none, none, none] [] (w) Q) ?_ ?_ a res h hk
  · intro a a2 b h1 ih hk
    exact s_X4_isNameBehind_5  h1 (ih hk)
  · intro a b h1 hk
    exact s_X4_isNameBehind_5  h1 hk

def c_X4_isNameBehind (g : State) (t0 : Nat)  (w : ch_W) : Option (Except Nat Int32 × ch_W) := (ch_gI w (some t0) 5 fX4_to).bind fun v1 => ch_loop (fun (s : Int32) => c_X4_isNameBehind_5 g t0 s w) (v1)
theorem s_X4_isNameBehind {g : State} {t0 : Nat} {w : ch_W} {res : Except Nat Int32 × ch_W} {Q : Outcome → ch_W → Prop} (h : c_X4_isNameBehind g t0 w = some res) (hk : (ch_xI Q) res) : ch_CT g true yX4_isNameBehind 10 [.ref t0] (w) Q := by
  unfold c_X4_isNameBehind at h
  refine ch_ctL mX4_isNameBehind (ls := [some (va_rf (some t0)), none, none, none, none, none]) q862 rfl (ch_lyr (r := some t0) ch_ly0) (Nat.le_of_ble_eq_true rfl) rfl ?_
  refine ch_aload_n 0 (some t0) dX4_isNameBehind_0 rfl (cp_gI (ci := 4) (k := 4) dX4_isNameBehind_1 fl_X4_37 rfl h (fun v1 h => ?_))
  exact ch_istore_n 1 _ (ls1 := [some (va_rf (some t0)), some (.int v1), none, none, none, none]) dX4_isNameBehind_4 (Nat.le_of_ble_eq_true rfl) rfl (ch_FT.wk (ch_wS (ch_wS (ch_wN (ch_wN (ch_wN (ch_wN ch_w0)))))) (sl_X4_isNameBehind_5  h hk))

