/-! printed by tools/dec.py: J12_max J12_min -/
set_option maxRecDepth 100000
theorem bJ12_max_0 : ch_ck cJ12_max 0 [26, 27, 161, 0, 7, 26, 167, 0, 4, 27, 172] := ch_ckof (by decide +kernel)
theorem dJ12_max_0 : decode cJ12_max 0 = .ok (.iload_n 0, 1) := dz_26 (bJ12_max_0 0 _ rfl)
theorem dJ12_max_1 : decode cJ12_max 1 = .ok (.iload_n 1, 1) := dz_27 (bJ12_max_0 1 _ rfl)
theorem dJ12_max_2 : decode cJ12_max 2 = .ok (.if_icmp .lt 7, 3) := dz_161 (bJ12_max_0 2 _ rfl) (bJ12_max_0 3 _ rfl) (bJ12_max_0 4 _ rfl)
theorem dJ12_max_5 : decode cJ12_max 5 = .ok (.iload_n 0, 1) := dz_26 (bJ12_max_0 5 _ rfl)
theorem dJ12_max_6 : decode cJ12_max 6 = .ok (.goto 4, 3) := dz_167 (bJ12_max_0 6 _ rfl) (bJ12_max_0 7 _ rfl) (bJ12_max_0 8 _ rfl)
theorem dJ12_max_9 : decode cJ12_max 9 = .ok (.iload_n 1, 1) := dz_27 (bJ12_max_0 9 _ rfl)
theorem dJ12_max_10 : decode cJ12_max 10 = .ok (.ireturn, 1) := dz_172 (bJ12_max_0 10 _ rfl)
theorem bJ12_min_0 : ch_ck cJ12_min 0 [26, 27, 163, 0, 7, 26, 167, 0, 4, 27, 172] := ch_ckof (by decide +kernel)
theorem dJ12_min_0 : decode cJ12_min 0 = .ok (.iload_n 0, 1) := dz_26 (bJ12_min_0 0 _ rfl)
theorem dJ12_min_1 : decode cJ12_min 1 = .ok (.iload_n 1, 1) := dz_27 (bJ12_min_0 1 _ rfl)
theorem dJ12_min_2 : decode cJ12_min 2 = .ok (.if_icmp .gt 7, 3) := dz_163 (bJ12_min_0 2 _ rfl) (bJ12_min_0 3 _ rfl) (bJ12_min_0 4 _ rfl)
theorem dJ12_min_5 : decode cJ12_min 5 = .ok (.iload_n 0, 1) := dz_26 (bJ12_min_0 5 _ rfl)
theorem dJ12_min_6 : decode cJ12_min 6 = .ok (.goto 4, 3) := dz_167 (bJ12_min_0 6 _ rfl) (bJ12_min_0 7 _ rfl) (bJ12_min_0 8 _ rfl)
theorem dJ12_min_9 : decode cJ12_min 9 = .ok (.iload_n 1, 1) := dz_27 (bJ12_min_0 9 _ rfl)
theorem dJ12_min_10 : decode cJ12_min 10 = .ok (.ireturn, 1) := dz_172 (bJ12_min_0 10 _ rfl)
def c_J12_max (x0 : Int32) (x1 : Int32)  : Option (Int32) := if x0 < x1 then (some (x1)) else (some (x0))
theorem s_J12_max {g : State} {kb : Bool} {x0 : Int32} {x1 : Int32} {w : ch_W} {res : Int32} {Q : Outcome → ch_W → Prop} (h : c_J12_max x0 x1  = some res) (hk : (fun r => ch_eI Q (r, w)) res) : ch_CT g kb yJ12_max 2 [.int x0, .int x1] (w) Q := by
  unfold c_J12_max at h
  refine ch_ctL mJ12_max (ls := [some (.int x0), some (.int x1)]) q651 rfl (ch_lyi (ch_lyi ch_ly0)) (Nat.le_of_ble_eq_true rfl) rfl ?_
  refine ch_iload_n 0 _ dJ12_max_0 rfl (ch_iload_n 1 _ dJ12_max_1 rfl (cp_icmp_lt _ _ (tgt := 9) dJ12_max_2 rfl h (fun h => ?_) (fun h => ?_)))
  · obtain rfl := Option.some.inj h
    exact ch_iload_n 1 _ dJ12_max_9 rfl (ch_ireturn _ dJ12_max_10 rfl rfl hk)
  · obtain rfl := Option.some.inj h
    exact ch_iload_n 0 _ dJ12_max_5 rfl (ch_goto 10 dJ12_max_6 rfl (ch_ireturn _ dJ12_max_10 rfl rfl hk))

def c_J12_min (x0 : Int32) (x1 : Int32)  : Option (Int32) := if x1 < x0 then (some (x1)) else (some (x0))
theorem s_J12_min {g : State} {kb : Bool} {x0 : Int32} {x1 : Int32} {w : ch_W} {res : Int32} {Q : Outcome → ch_W → Prop} (h : c_J12_min x0 x1  = some res) (hk : (fun r => ch_eI Q (r, w)) res) : ch_CT g kb yJ12_min 2 [.int x0, .int x1] (w) Q := by
  unfold c_J12_min at h
  refine ch_ctL mJ12_min (ls := [some (.int x0), some (.int x1)]) q685 rfl (ch_lyi (ch_lyi ch_ly0)) (Nat.le_of_ble_eq_true rfl) rfl ?_
  refine ch_iload_n 0 _ dJ12_min_0 rfl (ch_iload_n 1 _ dJ12_min_1 rfl (cp_icmp_gt _ _ (tgt := 9) dJ12_min_2 rfl h (fun h => ?_) (fun h => ?_)))
  · obtain rfl := Option.some.inj h
    exact ch_iload_n 1 _ dJ12_min_9 rfl (ch_ireturn _ dJ12_min_10 rfl rfl hk)
  · obtain rfl := Option.some.inj h
    exact ch_iload_n 0 _ dJ12_min_5 rfl (ch_goto 10 dJ12_min_6 rfl (ch_ireturn _ dJ12_min_10 rfl rfl hk))

