/-! printed by tools/dec.py -/
set_option maxRecDepth 100000
theorem bX4_tried_0 : ch_ck cX4_tried 0 [187, 0, 204, 89, 16, 7, 27, 183, 0, 231, 77, 42, 182, 0, 79, 44] := ch_ckof (by decide +kernel)
theorem bX4_tried_1 : ch_ck cX4_tried 16 [42, 182, 0, 189, 181, 1, 1, 42, 19, 1, 9, 182, 0, 116, 42, 18] := ch_ckof (by decide +kernel)
theorem bX4_tried_2 : ch_ck cX4_tried 32 [171, 182, 0, 134, 44, 42, 182, 0, 126, 181, 0, 253, 44, 42, 182, 0] := ch_ckof (by decide +kernel)
theorem bX4_tried_3 : ch_ck cX4_tried 48 [126, 181, 0, 255, 42, 18, 173, 182, 0, 146, 44, 42, 182, 0, 189, 181] := ch_ckof (by decide +kernel)
theorem bX4_tried_4 : ch_ck cX4_tried 64 [1, 6, 44, 176] := ch_ckof (by decide +kernel)
theorem dX4_tried_0 : decode cX4_tried 0 = .ok (.new 204, 3) := dz_187 (bX4_tried_0 0 _ rfl) (bX4_tried_0 1 _ rfl) (bX4_tried_0 2 _ rfl)
theorem dX4_tried_3 : decode cX4_tried 3 = .ok (.dup, 1) := dz_89 (bX4_tried_0 3 _ rfl)
theorem dX4_tried_4 : decode cX4_tried 4 = .ok (.bipush 7, 2) := dz_16 (bX4_tried_0 4 _ rfl) (bX4_tried_0 5 _ rfl)
theorem dX4_tried_6 : decode cX4_tried 6 = .ok (.iload_n 1, 1) := dz_27 (bX4_tried_0 6 _ rfl)
theorem dX4_tried_7 : decode cX4_tried 7 = .ok (.invokespecial 231, 3) := dz_183 (bX4_tried_0 7 _ rfl) (bX4_tried_0 8 _ rfl) (bX4_tried_0 9 _ rfl)
theorem dX4_tried_10 : decode cX4_tried 10 = .ok (.astore_n 2, 1) := dz_77 (bX4_tried_0 10 _ rfl)
theorem dX4_tried_11 : decode cX4_tried 11 = .ok (.aload_n 0, 1) := dz_42 (bX4_tried_0 11 _ rfl)
theorem dX4_tried_12 : decode cX4_tried 12 = .ok (.invokevirtual 79, 3) := dz_182 (bX4_tried_0 12 _ rfl) (bX4_tried_0 13 _ rfl) (bX4_tried_0 14 _ rfl)
theorem dX4_tried_15 : decode cX4_tried 15 = .ok (.aload_n 2, 1) := dz_44 (bX4_tried_0 15 _ rfl)
theorem dX4_tried_16 : decode cX4_tried 16 = .ok (.aload_n 0, 1) := dz_42 (bX4_tried_1 0 _ rfl)
theorem dX4_tried_17 : decode cX4_tried 17 = .ok (.invokevirtual 189, 3) := dz_182 (bX4_tried_1 1 _ rfl) (bX4_tried_1 2 _ rfl) (bX4_tried_1 3 _ rfl)
theorem dX4_tried_20 : decode cX4_tried 20 = .ok (.putfield 257, 3) := dz_181 (bX4_tried_1 4 _ rfl) (bX4_tried_1 5 _ rfl) (bX4_tried_1 6 _ rfl)
theorem dX4_tried_23 : decode cX4_tried 23 = .ok (.aload_n 0, 1) := dz_42 (bX4_tried_1 7 _ rfl)
theorem dX4_tried_24 : decode cX4_tried 24 = .ok (.ldc_w 265, 3) := dz_19 (bX4_tried_1 8 _ rfl) (bX4_tried_1 9 _ rfl) (bX4_tried_1 10 _ rfl)
theorem dX4_tried_27 : decode cX4_tried 27 = .ok (.invokevirtual 116, 3) := dz_182 (bX4_tried_1 11 _ rfl) (bX4_tried_1 12 _ rfl) (bX4_tried_1 13 _ rfl)
theorem dX4_tried_30 : decode cX4_tried 30 = .ok (.aload_n 0, 1) := dz_42 (bX4_tried_1 14 _ rfl)
theorem dX4_tried_31 : decode cX4_tried 31 = .ok (.ldc 171, 2) := dz_18 (bX4_tried_1 15 _ rfl) (bX4_tried_2 0 _ rfl)
theorem dX4_tried_33 : decode cX4_tried 33 = .ok (.invokevirtual 134, 3) := dz_182 (bX4_tried_2 1 _ rfl) (bX4_tried_2 2 _ rfl) (bX4_tried_2 3 _ rfl)
theorem dX4_tried_36 : decode cX4_tried 36 = .ok (.aload_n 2, 1) := dz_44 (bX4_tried_2 4 _ rfl)
theorem dX4_tried_37 : decode cX4_tried 37 = .ok (.aload_n 0, 1) := dz_42 (bX4_tried_2 5 _ rfl)
theorem dX4_tried_38 : decode cX4_tried 38 = .ok (.invokevirtual 126, 3) := dz_182 (bX4_tried_2 6 _ rfl) (bX4_tried_2 7 _ rfl) (bX4_tried_2 8 _ rfl)
theorem dX4_tried_41 : decode cX4_tried 41 = .ok (.putfield 253, 3) := dz_181 (bX4_tried_2 9 _ rfl) (bX4_tried_2 10 _ rfl) (bX4_tried_2 11 _ rfl)
theorem dX4_tried_44 : decode cX4_tried 44 = .ok (.aload_n 2, 1) := dz_44 (bX4_tried_2 12 _ rfl)
theorem dX4_tried_45 : decode cX4_tried 45 = .ok (.aload_n 0, 1) := dz_42 (bX4_tried_2 13 _ rfl)
theorem dX4_tried_46 : decode cX4_tried 46 = .ok (.invokevirtual 126, 3) := dz_182 (bX4_tried_2 14 _ rfl) (bX4_tried_2 15 _ rfl) (bX4_tried_3 0 _ rfl)
theorem dX4_tried_49 : decode cX4_tried 49 = .ok (.putfield 255, 3) := dz_181 (bX4_tried_3 1 _ rfl) (bX4_tried_3 2 _ rfl) (bX4_tried_3 3 _ rfl)
theorem dX4_tried_52 : decode cX4_tried 52 = .ok (.aload_n 0, 1) := dz_42 (bX4_tried_3 4 _ rfl)
theorem dX4_tried_53 : decode cX4_tried 53 = .ok (.ldc 173, 2) := dz_18 (bX4_tried_3 5 _ rfl) (bX4_tried_3 6 _ rfl)
theorem dX4_tried_55 : decode cX4_tried 55 = .ok (.invokevirtual 146, 3) := dz_182 (bX4_tried_3 7 _ rfl) (bX4_tried_3 8 _ rfl) (bX4_tried_3 9 _ rfl)
theorem dX4_tried_58 : decode cX4_tried 58 = .ok (.aload_n 2, 1) := dz_44 (bX4_tried_3 10 _ rfl)
theorem dX4_tried_59 : decode cX4_tried 59 = .ok (.aload_n 0, 1) := dz_42 (bX4_tried_3 11 _ rfl)
theorem dX4_tried_60 : decode cX4_tried 60 = .ok (.invokevirtual 189, 3) := dz_182 (bX4_tried_3 12 _ rfl) (bX4_tried_3 13 _ rfl) (bX4_tried_3 14 _ rfl)
theorem dX4_tried_63 : decode cX4_tried 63 = .ok (.putfield 262, 3) := dz_181 (bX4_tried_3 15 _ rfl) (bX4_tried_4 0 _ rfl) (bX4_tried_4 1 _ rfl)
theorem dX4_tried_66 : decode cX4_tried 66 = .ok (.aload_n 2, 1) := dz_44 (bX4_tried_4 2 _ rfl)
theorem dX4_tried_67 : decode cX4_tried 67 = .ok (.areturn, 1) := dz_176 (bX4_tried_4 3 _ rfl)
def c_X4_tried (rc : Nat → Nat → Int32 → ch_W → Option (Except Nat (Option Nat) × ch_W)) (g : State) (t0 : Nat) (x1 : Int32) (w : ch_W) : Option (Except Nat (Option Nat) × ch_W) := (ch_nO w 10 8).bind fun w1 => (c_X9_init (ch_nx w) 7 x1 w1).bind fun p2 => (ch_rc p2 (some t0) 5).bind fun _ => ch_tb (c_X4_next g t0 p2) (fun a w => (.error a, w)) fun _ w6 => (ch_rc w6 (some t0) 5).bind fun _ => ch_tb (rc 0 t0 0 w6) (fun a w => (.error a, w)) fun v8 w9 => (ch_pR w9 (some (ch_nx w)) 10 fX9_first v8).bind fun w10 => (ch_rc w10 (some t0) 5).bind fun _ => ch_tb (c_X4_want g t0 (some (ch_sa g RX4 265)) w10) (fun a w => (.error a, w)) fun _ w13 => (ch_rc w13 (some t0) 5).bind fun _ => ch_tb (c_X4_opens g t0 (some (ch_sa g RX4 171)) w13) (fun a w => (.error a, w)) fun _ w16 => (ch_rc w16 (some t0) 5).bind fun _ => ch_tb (c_X4_nextName g t0 w16) (fun a w => (.error a, w)) fun v18 w19 => (ch_pI w19 (some (ch_nx w)) 10 fX9_type v18).bind fun w20 => (ch_rc w20 (some t0) 5).bind fun _ => ch_tb (c_X4_nextName g t0 w20) (fun a w => (.error a, w)) fun v22 w23 => (ch_pI w23 (some (ch_nx w)) 10 fX9_name v22).bind fun w24 => (ch_rc w24 (some t0) 5).bind fun _ => ch_tb (c_X4_closes g t0 (some (ch_sa g RX4 173)) w24) (fun a w => (.error a, w)) fun _ w27 => (ch_rc w27 (some t0) 5).bind fun _ => ch_tb (rc 0 t0 0 w27) (fun a w => (.error a, w)) fun v29 w30 => (ch_pR w30 (some (ch_nx w)) 10 fX9_second v29).bind fun w31 => some ((.ok (some (ch_nx w)), w31))
theorem s_X4_tried {g : State} {d : Nat} {rc : Nat → Nat → Int32 → ch_W → Option (Except Nat (Option Nat) × ch_W)} (hr0 : ∀ {t0 : Nat} {w : ch_W} {p : Except Nat (Option Nat) × ch_W} {Q : Outcome → ch_W → Prop}, rc 0 t0 0 w = some p → ch_xR Q p → ch_CT g true yX4_block (d + 314) [.ref t0] (w) Q)  {t0 : Nat} {x1 : Int32} {w : ch_W} {res : Except Nat (Option Nat) × ch_W} {Q : Outcome → ch_W → Prop} (h : c_X4_tried rc g t0 x1 w = some res) (hk : (ch_xR Q) res) : ch_CT g true yX4_tried (d + 315) [.ref t0, .int x1] (w) Q := by
  unfold c_X4_tried at h
  refine ch_ctL mX4_tried (ls := [some (va_rf (some t0)), some (.int x1), none]) q1023 rfl (ch_lyr (r := some t0) (ch_lyi ch_ly0)) (Nat.le_of_ble_eq_true rfl) rfl ?_
  refine cp_new (ci := 9) (n := 8) (q := (RX9, TX9, 8)) dX4_tried_0 rfl q867 q868 q224 h (fun w1 h => ?_)
  obtain ⟨p2, hp3, h⟩ := ch_bd h
  refine ch_dup dX4_tried_3 (ch_cat _) (ch_bipush _ 7 dX4_tried_4 rfl (ch_iload_n 1 _ dX4_tried_6 rfl (ch_ii yX9_init prog_10_method_1_code 3 (b := (ch_nx w)) (d' := 2) (av := [.int 7, .int x1]) (rest := [va_rf (some (ch_nx w))]) rfl dX4_tried_7 rfl q869 q870 q871 can_X9_init (Nat.le_trans (Nat.le_of_ble_eq_true rfl) (Nat.le_add_left 315 d)) (ch_hw (Nat.le_of_ble_eq_true rfl)) (cp_kV (w1 := p2) (fun Q' hq => s_X9_init hp3 hq) ?_))))
  obtain ⟨_, hb4, h⟩ := ch_bd h
  refine ch_astore_n 2 (some (ch_nx w)) (ls1 := [some (va_rf (some t0)), some (.int x1), some (va_rf (some (ch_nx w)))]) dX4_tried_10 (Nat.le_of_ble_eq_true rfl) rfl (ch_aload_n 0 (some t0) dX4_tried_11 rfl (ch_iv yX4_next prog_7_method_5_code 3 none (ci := 4) (q := (RX4, TX4, 9)) (b := t0) (d' := 9) (av := []) (rest := []) rfl dX4_tried_12 q497 q499 rfl qs2 q500 can_X4_next (Nat.le_trans (Nat.le_of_ble_eq_true rfl) (Nat.le_add_left 315 d)) (Nat.le_of_ble_eq_true rfl) (ch_rts hb4) (cp_tV h (fun p hp Q' hq => s_X4_next hp hq) (fun w6 h => ?_) (fun a w1 h => ?_))))
  · obtain ⟨_, hb7, h⟩ := ch_bd h
    refine ch_aload_n 2 (some (ch_nx w)) dX4_tried_15 rfl (ch_aload_n 0 (some t0) dX4_tried_16 rfl (ch_iv yX4_block prog_7_method_21_code 4 (some (.array (.object "ClassHouse$Statement"))) (ci := 4) (q := (RX4, TX4, 9)) (b := t0) (d' := (d + 314)) (av := []) (rest := [va_rf (some (ch_nx w))]) rfl dX4_tried_17 q851 q853 rfl qs19 q854 can_X4_block (Nat.le_refl _) (ch_hw (Nat.le_of_ble_eq_true rfl)) (ch_rts hb7) (cp_tR h (fun p hp Q' hq => hr0 hp hq) (fun v8 w9 h => ?_) (fun a w1 h => ?_))))
    · refine cp_pR (ci := 9) (k := 6) dX4_tried_20 fl_X4_257 rfl rfl rfl h (fun w10 h => ?_)
      obtain ⟨_, hb11, h⟩ := ch_bd h
      refine ch_aload_n 0 (some t0) dX4_tried_23 rfl (ch_ldcSw q1024 dX4_tried_24 (ch_iv yX4_want prog_7_method_9_code 2 none (ci := 4) (q := (RX4, TX4, 9)) (b := t0) (d' := 10) (av := [va_rf (some (ch_sa g RX4 265))]) (rest := []) rfl dX4_tried_27 q589 q591 rfl qs6 q592 can_X4_want (Nat.le_trans (Nat.le_of_ble_eq_true rfl) (Nat.le_add_left 315 d)) (Nat.le_of_ble_eq_true rfl) (ch_rts hb11) (cp_tV h (fun p hp Q' hq => s_X4_want hp hq) (fun w13 h => ?_) (fun a w1 h => ?_))))
      · obtain ⟨_, hb14, h⟩ := ch_bd h
        refine ch_aload_n 0 (some t0) dX4_tried_30 rfl (ch_ldcS q839 dX4_tried_31 (ch_iv yX4_opens prog_7_method_10_code 2 none (ci := 4) (q := (RX4, TX4, 9)) (b := t0) (d' := 10) (av := [va_rf (some (ch_sa g RX4 171))]) (rest := []) rfl dX4_tried_33 q739 q741 rfl qs14 q742 can_X4_opens (Nat.le_trans (Nat.le_of_ble_eq_true rfl) (Nat.le_add_left 315 d)) (Nat.le_of_ble_eq_true rfl) (ch_rts hb14) (cp_tV h (fun p hp Q' hq => s_X4_opens hp hq) (fun w16 h => ?_) (fun a w1 h => ?_))))
        · obtain ⟨_, hb17, h⟩ := ch_bd h
          refine ch_aload_n 2 (some (ch_nx w)) dX4_tried_36 rfl (ch_aload_n 0 (some t0) dX4_tried_37 rfl (ch_iv yX4_nextName prog_7_method_16_code 2 (some .int) (ci := 4) (q := (RX4, TX4, 9)) (b := t0) (d' := 11) (av := []) (rest := [va_rf (some (ch_nx w))]) rfl dX4_tried_38 q734 q736 rfl qs13 q737 can_X4_nextName (Nat.le_trans (Nat.le_of_ble_eq_true rfl) (Nat.le_add_left 315 d)) (ch_hw (Nat.le_of_ble_eq_true rfl)) (ch_rts hb17) (cp_tI h (fun p hp Q' hq => s_X4_nextName hp hq) (fun v18 w19 h => ?_) (fun a w1 h => ?_))))
          · refine cp_pI (ci := 9) (k := 2) dX4_tried_41 fl_X4_253 rfl rfl rfl h (fun w20 h => ?_)
            obtain ⟨_, hb21, h⟩ := ch_bd h
            refine ch_aload_n 2 (some (ch_nx w)) dX4_tried_44 rfl (ch_aload_n 0 (some t0) dX4_tried_45 rfl (ch_iv yX4_nextName prog_7_method_16_code 2 (some .int) (ci := 4) (q := (RX4, TX4, 9)) (b := t0) (d' := 11) (av := []) (rest := [va_rf (some (ch_nx w))]) rfl dX4_tried_46 q734 q736 rfl qs13 q737 can_X4_nextName (Nat.le_trans (Nat.le_of_ble_eq_true rfl) (Nat.le_add_left 315 d)) (ch_hw (Nat.le_of_ble_eq_true rfl)) (ch_rts hb21) (cp_tI h (fun p hp Q' hq => s_X4_nextName hp hq) (fun v22 w23 h => ?_) (fun a w1 h => ?_))))
            · refine cp_pI (ci := 9) (k := 3) dX4_tried_49 fl_X4_255 rfl rfl rfl h (fun w24 h => ?_)
              obtain ⟨_, hb25, h⟩ := ch_bd h
              refine ch_aload_n 0 (some t0) dX4_tried_52 rfl (ch_ldcS q840 dX4_tried_53 (ch_iv yX4_closes prog_7_method_11_code 2 none (ci := 4) (q := (RX4, TX4, 9)) (b := t0) (d' := 10) (av := [va_rf (some (ch_sa g RX4 173))]) (rest := []) rfl dX4_tried_55 q847 q849 rfl qs18 q850 can_X4_closes (Nat.le_trans (Nat.le_of_ble_eq_true rfl) (Nat.le_add_left 315 d)) (Nat.le_of_ble_eq_true rfl) (ch_rts hb25) (cp_tV h (fun p hp Q' hq => s_X4_closes hp hq) (fun w27 h => ?_) (fun a w1 h => ?_))))
              · obtain ⟨_, hb28, h⟩ := ch_bd h
                refine ch_aload_n 2 (some (ch_nx w)) dX4_tried_58 rfl (ch_aload_n 0 (some t0) dX4_tried_59 rfl (ch_iv yX4_block prog_7_method_21_code 4 (some (.array (.object "ClassHouse$Statement"))) (ci := 4) (q := (RX4, TX4, 9)) (b := t0) (d' := (d + 314)) (av := []) (rest := [va_rf (some (ch_nx w))]) rfl dX4_tried_60 q851 q853 rfl qs19 q854 can_X4_block (Nat.le_refl _) (ch_hw (Nat.le_of_ble_eq_true rfl)) (ch_rts hb28) (cp_tR h (fun p hp Q' hq => hr0 hp hq) (fun v29 w30 h => ?_) (fun a w1 h => ?_))))
                · refine cp_pR (ci := 9) (k := 7) dX4_tried_63 fl_X4_262 rfl rfl rfl h (fun w31 h => ?_)
                  obtain rfl := Option.some.inj h
                  exact ch_aload_n 2 (some (ch_nx w)) dX4_tried_66 rfl (ch_areturn (some (ch_nx w)) dX4_tried_67 rfl (Or.inl ⟨_, rfl⟩) hk)
                · subst h
                  exact ch_th rfl hk
              · subst h
                exact ch_th rfl hk
            · subst h
              exact ch_th rfl hk
          · subst h
            exact ch_th rfl hk
        · subst h
          exact ch_th rfl hk
      · subst h
        exact ch_th rfl hk
    · subst h
      exact ch_th rfl hk
  · subst h
    exact ch_th rfl hk

def cr_PS (g : State) : Nat → Nat → Nat → Int32 → ch_W → Option (Except Nat (Option Nat) × ch_W)
  | 0 => fun _ _ _ _ => none
  | d + 1 => fun k t0 z0 w => if k = 0 then c_X4_block (cr_PS g d) g t0 w else if k = 1 then c_X4_statement (cr_PS g d) g t0 w else if k = 2 then c_X4_conditional (cr_PS g d) g t0 z0 w else c_X4_tried (cr_PS g d) g t0 z0 w
theorem sr_PS {g : State} : ∀ d : Nat, (∀ {t0 : Nat} {w : ch_W} {p : Except Nat (Option Nat) × ch_W} {Q : Outcome → ch_W → Prop}, cr_PS g d 0 t0 0 w = some p → ch_xR Q p → ch_CT g true yX4_block (d + 314) [.ref t0] (w) Q) ∧ (∀ {t0 : Nat} {w : ch_W} {p : Except Nat (Option Nat) × ch_W} {Q : Outcome → ch_W → Prop}, cr_PS g d 1 t0 0 w = some p → ch_xR Q p → ch_CT g true yX4_statement (d + 314) [.ref t0] (w) Q) ∧ (∀ {t0 : Nat} {z0 : Int32} {w : ch_W} {p : Except Nat (Option Nat) × ch_W} {Q : Outcome → ch_W → Prop}, cr_PS g d 2 t0 z0 w = some p → ch_xR Q p → ch_CT g true yX4_conditional (d + 314) [.ref t0, .int z0] (w) Q) ∧ (∀ {t0 : Nat} {z0 : Int32} {w : ch_W} {p : Except Nat (Option Nat) × ch_W} {Q : Outcome → ch_W → Prop}, cr_PS g d 3 t0 z0 w = some p → ch_xR Q p → ch_CT g true yX4_tried (d + 314) [.ref t0, .int z0] (w) Q) := by
  intro d
  induction d with
  | zero => exact ⟨fun h _ => (by cases h), fun h _ => (by cases h), fun h _ => (by cases h), fun h _ => (by cases h)⟩
  | succ d ih =>
    exact ⟨fun {t0 w p Q} h hk => s_X4_block ih.2.1 h hk,
      fun {t0 w p Q} h hk => s_X4_statement ih.2.2.1 ih.2.2.2 h hk,
      fun {t0 z0 w p Q} h hk => s_X4_conditional ih.1 h hk,
      fun {t0 z0 w p Q} h hk => s_X4_tried ih.1 h hk⟩
theorem sr_X4_block {g : State} {t0 : Nat} {w : ch_W} {p : Except Nat (Option Nat) × ch_W} {Q : Outcome → ch_W → Prop} (h : cr_PS g 130 0 t0 0 w = some p) (hk : ch_xR Q p) : ch_CT g true yX4_block 444 [.ref t0] (w) Q := (sr_PS 130).1 h hk
theorem sr_X4_statement {g : State} {t0 : Nat} {w : ch_W} {p : Except Nat (Option Nat) × ch_W} {Q : Outcome → ch_W → Prop} (h : cr_PS g 130 1 t0 0 w = some p) (hk : ch_xR Q p) : ch_CT g true yX4_statement 444 [.ref t0] (w) Q := (sr_PS 130).2.1 h hk
theorem sr_X4_conditional {g : State} {t0 : Nat} {z0 : Int32} {w : ch_W} {p : Except Nat (Option Nat) × ch_W} {Q : Outcome → ch_W → Prop} (h : cr_PS g 130 2 t0 z0 w = some p) (hk : ch_xR Q p) : ch_CT g true yX4_conditional 444 [.ref t0, .int z0] (w) Q := (sr_PS 130).2.2.1 h hk
theorem sr_X4_tried {g : State} {t0 : Nat} {z0 : Int32} {w : ch_W} {p : Except Nat (Option Nat) × ch_W} {Q : Outcome → ch_W → Prop} (h : cr_PS g 130 3 t0 z0 w = some p) (hk : ch_xR Q p) : ch_CT g true yX4_tried 444 [.ref t0, .int z0] (w) Q := (sr_PS 130).2.2.2 h hk

theorem bX4_member_0 : ch_ck cX4_member 0 [42, 18, 159, 182, 0, 76, 60, 16, 252, 61, 27, 153, 0, 10, 42, 182] := ch_ckof (by decide +kernel)
theorem bX4_member_1 : ch_ck cX4_member 16 [0, 79, 167, 0, 8, 42, 182, 0, 161, 61, 42, 182, 0, 111, 62, 42] := ch_ckof (by decide +kernel)
theorem bX4_member_2 : ch_ck cX4_member 32 [180, 0, 31, 54, 4, 42, 182, 0, 79, 27, 154, 0, 29, 42, 18, 164] := ch_ckof (by decide +kernel)
theorem bX4_member_3 : ch_ck cX4_member 48 [182, 0, 76, 153, 0, 20, 42, 182, 0, 79, 187, 0, 166, 89, 3, 28] := ch_ckof (by decide +kernel)
theorem bX4_member_4 : ch_ck cX4_member 64 [29, 21, 4, 183, 0, 168, 176, 187, 0, 166, 89, 4, 28, 29, 21, 4] := ch_ckof (by decide +kernel)
theorem bX4_member_5 : ch_ck cX4_member 80 [183, 0, 168, 58, 5, 42, 18, 171, 182, 0, 134, 42, 18, 173, 182, 0] := ch_ckof (by decide +kernel)
theorem bX4_member_6 : ch_ck cX4_member 96 [76, 154, 0, 47, 25, 5, 180, 0, 175, 180, 0, 178, 158, 0, 9, 42] := ch_ckof (by decide +kernel)
theorem bX4_member_7 : ch_ck cX4_member 112 [18, 182, 182, 0, 116, 25, 5, 180, 0, 184, 42, 182, 0, 161, 182, 0] := ch_ckof (by decide +kernel)
theorem bX4_member_8 : ch_ck cX4_member 128 [187, 25, 5, 180, 0, 175, 42, 182, 0, 126, 182, 0, 187, 167, 255, 206] := ch_ckof (by decide +kernel)
theorem bX4_member_9 : ch_ck cX4_member 144 [42, 18, 173, 182, 0, 146, 25, 5, 42, 182, 0, 189, 181, 0, 193, 25] := ch_ckof (by decide +kernel)
theorem bX4_member_10 : ch_ck cX4_member 160 [5, 42, 180, 0, 196, 181, 0, 199, 25, 5, 176] := ch_ckof (by decide +kernel)
theorem dX4_member_0 : decode cX4_member 0 = .ok (.aload_n 0, 1) := dz_42 (bX4_member_0 0 _ rfl)
theorem dX4_member_1 : decode cX4_member 1 = .ok (.ldc 159, 2) := dz_18 (bX4_member_0 1 _ rfl) (bX4_member_0 2 _ rfl)
theorem dX4_member_3 : decode cX4_member 3 = .ok (.invokevirtual 76, 3) := dz_182 (bX4_member_0 3 _ rfl) (bX4_member_0 4 _ rfl) (bX4_member_0 5 _ rfl)
theorem dX4_member_6 : decode cX4_member 6 = .ok (.istore_n 1, 1) := dz_60 (bX4_member_0 6 _ rfl)
theorem dX4_member_7 : decode cX4_member 7 = .ok (.bipush (-4), 2) := dz_16 (bX4_member_0 7 _ rfl) (bX4_member_0 8 _ rfl)
theorem dX4_member_9 : decode cX4_member 9 = .ok (.istore_n 2, 1) := dz_61 (bX4_member_0 9 _ rfl)
theorem dX4_member_10 : decode cX4_member 10 = .ok (.iload_n 1, 1) := dz_27 (bX4_member_0 10 _ rfl)
theorem dX4_member_11 : decode cX4_member 11 = .ok (.ifCond .eq 10, 3) := dz_153 (bX4_member_0 11 _ rfl) (bX4_member_0 12 _ rfl) (bX4_member_0 13 _ rfl)
theorem dX4_member_14 : decode cX4_member 14 = .ok (.aload_n 0, 1) := dz_42 (bX4_member_0 14 _ rfl)
theorem dX4_member_15 : decode cX4_member 15 = .ok (.invokevirtual 79, 3) := dz_182 (bX4_member_0 15 _ rfl) (bX4_member_1 0 _ rfl) (bX4_member_1 1 _ rfl)
theorem dX4_member_18 : decode cX4_member 18 = .ok (.goto 8, 3) := dz_167 (bX4_member_1 2 _ rfl) (bX4_member_1 3 _ rfl) (bX4_member_1 4 _ rfl)
theorem dX4_member_21 : decode cX4_member 21 = .ok (.aload_n 0, 1) := dz_42 (bX4_member_1 5 _ rfl)
theorem dX4_member_22 : decode cX4_member 22 = .ok (.invokevirtual 161, 3) := dz_182 (bX4_member_1 6 _ rfl) (bX4_member_1 7 _ rfl) (bX4_member_1 8 _ rfl)
theorem dX4_member_25 : decode cX4_member 25 = .ok (.istore_n 2, 1) := dz_61 (bX4_member_1 9 _ rfl)
theorem dX4_member_26 : decode cX4_member 26 = .ok (.aload_n 0, 1) := dz_42 (bX4_member_1 10 _ rfl)
theorem dX4_member_27 : decode cX4_member 27 = .ok (.invokevirtual 111, 3) := dz_182 (bX4_member_1 11 _ rfl) (bX4_member_1 12 _ rfl) (bX4_member_1 13 _ rfl)
theorem dX4_member_30 : decode cX4_member 30 = .ok (.istore_n 3, 1) := dz_62 (bX4_member_1 14 _ rfl)
theorem dX4_member_31 : decode cX4_member 31 = .ok (.aload_n 0, 1) := dz_42 (bX4_member_1 15 _ rfl)
theorem dX4_member_32 : decode cX4_member 32 = .ok (.getfield 31, 3) := dz_180 (bX4_member_2 0 _ rfl) (bX4_member_2 1 _ rfl) (bX4_member_2 2 _ rfl)
theorem dX4_member_35 : decode cX4_member 35 = .ok (.istore 4, 2) := dz_54 (bX4_member_2 3 _ rfl) (bX4_member_2 4 _ rfl)
theorem dX4_member_37 : decode cX4_member 37 = .ok (.aload_n 0, 1) := dz_42 (bX4_member_2 5 _ rfl)
theorem dX4_member_38 : decode cX4_member 38 = .ok (.invokevirtual 79, 3) := dz_182 (bX4_member_2 6 _ rfl) (bX4_member_2 7 _ rfl) (bX4_member_2 8 _ rfl)
theorem dX4_member_41 : decode cX4_member 41 = .ok (.iload_n 1, 1) := dz_27 (bX4_member_2 9 _ rfl)
theorem dX4_member_42 : decode cX4_member 42 = .ok (.ifCond .ne 29, 3) := dz_154 (bX4_member_2 10 _ rfl) (bX4_member_2 11 _ rfl) (bX4_member_2 12 _ rfl)
theorem dX4_member_45 : decode cX4_member 45 = .ok (.aload_n 0, 1) := dz_42 (bX4_member_2 13 _ rfl)
theorem dX4_member_46 : decode cX4_member 46 = .ok (.ldc 164, 2) := dz_18 (bX4_member_2 14 _ rfl) (bX4_member_2 15 _ rfl)
theorem dX4_member_48 : decode cX4_member 48 = .ok (.invokevirtual 76, 3) := dz_182 (bX4_member_3 0 _ rfl) (bX4_member_3 1 _ rfl) (bX4_member_3 2 _ rfl)
theorem dX4_member_51 : decode cX4_member 51 = .ok (.ifCond .eq 20, 3) := dz_153 (bX4_member_3 3 _ rfl) (bX4_member_3 4 _ rfl) (bX4_member_3 5 _ rfl)
theorem dX4_member_54 : decode cX4_member 54 = .ok (.aload_n 0, 1) := dz_42 (bX4_member_3 6 _ rfl)
theorem dX4_member_55 : decode cX4_member 55 = .ok (.invokevirtual 79, 3) := dz_182 (bX4_member_3 7 _ rfl) (bX4_member_3 8 _ rfl) (bX4_member_3 9 _ rfl)
theorem dX4_member_58 : decode cX4_member 58 = .ok (.new 166, 3) := dz_187 (bX4_member_3 10 _ rfl) (bX4_member_3 11 _ rfl) (bX4_member_3 12 _ rfl)
theorem dX4_member_61 : decode cX4_member 61 = .ok (.dup, 1) := dz_89 (bX4_member_3 13 _ rfl)
theorem dX4_member_62 : decode cX4_member 62 = .ok (.iconst 0, 1) := dz_3 (bX4_member_3 14 _ rfl)
theorem dX4_member_63 : decode cX4_member 63 = .ok (.iload_n 2, 1) := dz_28 (bX4_member_3 15 _ rfl)
theorem dX4_member_64 : decode cX4_member 64 = .ok (.iload_n 3, 1) := dz_29 (bX4_member_4 0 _ rfl)
theorem dX4_member_65 : decode cX4_member 65 = .ok (.iload 4, 2) := dz_21 (bX4_member_4 1 _ rfl) (bX4_member_4 2 _ rfl)
theorem dX4_member_67 : decode cX4_member 67 = .ok (.invokespecial 168, 3) := dz_183 (bX4_member_4 3 _ rfl) (bX4_member_4 4 _ rfl) (bX4_member_4 5 _ rfl)
theorem dX4_member_70 : decode cX4_member 70 = .ok (.areturn, 1) := dz_176 (bX4_member_4 6 _ rfl)
theorem dX4_member_71 : decode cX4_member 71 = .ok (.new 166, 3) := dz_187 (bX4_member_4 7 _ rfl) (bX4_member_4 8 _ rfl) (bX4_member_4 9 _ rfl)
theorem dX4_member_74 : decode cX4_member 74 = .ok (.dup, 1) := dz_89 (bX4_member_4 10 _ rfl)
theorem dX4_member_75 : decode cX4_member 75 = .ok (.iconst 1, 1) := dz_4 (bX4_member_4 11 _ rfl)
theorem dX4_member_76 : decode cX4_member 76 = .ok (.iload_n 2, 1) := dz_28 (bX4_member_4 12 _ rfl)
theorem dX4_member_77 : decode cX4_member 77 = .ok (.iload_n 3, 1) := dz_29 (bX4_member_4 13 _ rfl)
theorem dX4_member_78 : decode cX4_member 78 = .ok (.iload 4, 2) := dz_21 (bX4_member_4 14 _ rfl) (bX4_member_4 15 _ rfl)
theorem dX4_member_80 : decode cX4_member 80 = .ok (.invokespecial 168, 3) := dz_183 (bX4_member_5 0 _ rfl) (bX4_member_5 1 _ rfl) (bX4_member_5 2 _ rfl)
theorem dX4_member_83 : decode cX4_member 83 = .ok (.astore 5, 2) := dz_58 (bX4_member_5 3 _ rfl) (bX4_member_5 4 _ rfl)
theorem dX4_member_85 : decode cX4_member 85 = .ok (.aload_n 0, 1) := dz_42 (bX4_member_5 5 _ rfl)
theorem dX4_member_86 : decode cX4_member 86 = .ok (.ldc 171, 2) := dz_18 (bX4_member_5 6 _ rfl) (bX4_member_5 7 _ rfl)
theorem dX4_member_88 : decode cX4_member 88 = .ok (.invokevirtual 134, 3) := dz_182 (bX4_member_5 8 _ rfl) (bX4_member_5 9 _ rfl) (bX4_member_5 10 _ rfl)
theorem dX4_member_91 : decode cX4_member 91 = .ok (.aload_n 0, 1) := dz_42 (bX4_member_5 11 _ rfl)
theorem dX4_member_92 : decode cX4_member 92 = .ok (.ldc 173, 2) := dz_18 (bX4_member_5 12 _ rfl) (bX4_member_5 13 _ rfl)
theorem dX4_member_94 : decode cX4_member 94 = .ok (.invokevirtual 76, 3) := dz_182 (bX4_member_5 14 _ rfl) (bX4_member_5 15 _ rfl) (bX4_member_6 0 _ rfl)
theorem dX4_member_97 : decode cX4_member 97 = .ok (.ifCond .ne 47, 3) := dz_154 (bX4_member_6 1 _ rfl) (bX4_member_6 2 _ rfl) (bX4_member_6 3 _ rfl)
theorem dX4_member_100 : decode cX4_member 100 = .ok (.aload 5, 2) := dz_25 (bX4_member_6 4 _ rfl) (bX4_member_6 5 _ rfl)
theorem dX4_member_102 : decode cX4_member 102 = .ok (.getfield 175, 3) := dz_180 (bX4_member_6 6 _ rfl) (bX4_member_6 7 _ rfl) (bX4_member_6 8 _ rfl)
theorem dX4_member_105 : decode cX4_member 105 = .ok (.getfield 178, 3) := dz_180 (bX4_member_6 9 _ rfl) (bX4_member_6 10 _ rfl) (bX4_member_6 11 _ rfl)
theorem dX4_member_108 : decode cX4_member 108 = .ok (.ifCond .le 9, 3) := dz_158 (bX4_member_6 12 _ rfl) (bX4_member_6 13 _ rfl) (bX4_member_6 14 _ rfl)
theorem dX4_member_111 : decode cX4_member 111 = .ok (.aload_n 0, 1) := dz_42 (bX4_member_6 15 _ rfl)
theorem dX4_member_112 : decode cX4_member 112 = .ok (.ldc 182, 2) := dz_18 (bX4_member_7 0 _ rfl) (bX4_member_7 1 _ rfl)
theorem dX4_member_114 : decode cX4_member 114 = .ok (.invokevirtual 116, 3) := dz_182 (bX4_member_7 2 _ rfl) (bX4_member_7 3 _ rfl) (bX4_member_7 4 _ rfl)
theorem dX4_member_117 : decode cX4_member 117 = .ok (.aload 5, 2) := dz_25 (bX4_member_7 5 _ rfl) (bX4_member_7 6 _ rfl)
theorem dX4_member_119 : decode cX4_member 119 = .ok (.getfield 184, 3) := dz_180 (bX4_member_7 7 _ rfl) (bX4_member_7 8 _ rfl) (bX4_member_7 9 _ rfl)
theorem dX4_member_122 : decode cX4_member 122 = .ok (.aload_n 0, 1) := dz_42 (bX4_member_7 10 _ rfl)
theorem dX4_member_123 : decode cX4_member 123 = .ok (.invokevirtual 161, 3) := dz_182 (bX4_member_7 11 _ rfl) (bX4_member_7 12 _ rfl) (bX4_member_7 13 _ rfl)
theorem dX4_member_126 : decode cX4_member 126 = .ok (.invokevirtual 187, 3) := dz_182 (bX4_member_7 14 _ rfl) (bX4_member_7 15 _ rfl) (bX4_member_8 0 _ rfl)
theorem dX4_member_129 : decode cX4_member 129 = .ok (.aload 5, 2) := dz_25 (bX4_member_8 1 _ rfl) (bX4_member_8 2 _ rfl)
theorem dX4_member_131 : decode cX4_member 131 = .ok (.getfield 175, 3) := dz_180 (bX4_member_8 3 _ rfl) (bX4_member_8 4 _ rfl) (bX4_member_8 5 _ rfl)
theorem dX4_member_134 : decode cX4_member 134 = .ok (.aload_n 0, 1) := dz_42 (bX4_member_8 6 _ rfl)
theorem dX4_member_135 : decode cX4_member 135 = .ok (.invokevirtual 126, 3) := dz_182 (bX4_member_8 7 _ rfl) (bX4_member_8 8 _ rfl) (bX4_member_8 9 _ rfl)
theorem dX4_member_138 : decode cX4_member 138 = .ok (.invokevirtual 187, 3) := dz_182 (bX4_member_8 10 _ rfl) (bX4_member_8 11 _ rfl) (bX4_member_8 12 _ rfl)
theorem dX4_member_141 : decode cX4_member 141 = .ok (.goto (-50), 3) := dz_167 (bX4_member_8 13 _ rfl) (bX4_member_8 14 _ rfl) (bX4_member_8 15 _ rfl)
theorem dX4_member_144 : decode cX4_member 144 = .ok (.aload_n 0, 1) := dz_42 (bX4_member_9 0 _ rfl)
theorem dX4_member_145 : decode cX4_member 145 = .ok (.ldc 173, 2) := dz_18 (bX4_member_9 1 _ rfl) (bX4_member_9 2 _ rfl)
theorem dX4_member_147 : decode cX4_member 147 = .ok (.invokevirtual 146, 3) := dz_182 (bX4_member_9 3 _ rfl) (bX4_member_9 4 _ rfl) (bX4_member_9 5 _ rfl)
theorem dX4_member_150 : decode cX4_member 150 = .ok (.aload 5, 2) := dz_25 (bX4_member_9 6 _ rfl) (bX4_member_9 7 _ rfl)
theorem dX4_member_152 : decode cX4_member 152 = .ok (.aload_n 0, 1) := dz_42 (bX4_member_9 8 _ rfl)
theorem dX4_member_153 : decode cX4_member 153 = .ok (.invokevirtual 189, 3) := dz_182 (bX4_member_9 9 _ rfl) (bX4_member_9 10 _ rfl) (bX4_member_9 11 _ rfl)
theorem dX4_member_156 : decode cX4_member 156 = .ok (.putfield 193, 3) := dz_181 (bX4_member_9 12 _ rfl) (bX4_member_9 13 _ rfl) (bX4_member_9 14 _ rfl)
theorem dX4_member_159 : decode cX4_member 159 = .ok (.aload 5, 2) := dz_25 (bX4_member_9 15 _ rfl) (bX4_member_10 0 _ rfl)
theorem dX4_member_161 : decode cX4_member 161 = .ok (.aload_n 0, 1) := dz_42 (bX4_member_10 1 _ rfl)
theorem dX4_member_162 : decode cX4_member 162 = .ok (.getfield 196, 3) := dz_180 (bX4_member_10 2 _ rfl) (bX4_member_10 3 _ rfl) (bX4_member_10 4 _ rfl)
theorem dX4_member_165 : decode cX4_member 165 = .ok (.putfield 199, 3) := dz_181 (bX4_member_10 5 _ rfl) (bX4_member_10 6 _ rfl) (bX4_member_10 7 _ rfl)
theorem dX4_member_168 : decode cX4_member 168 = .ok (.aload 5, 2) := dz_25 (bX4_member_10 8 _ rfl) (bX4_member_10 9 _ rfl)
theorem dX4_member_170 : decode cX4_member 170 = .ok (.areturn, 1) := dz_176 (bX4_member_10 10 _ rfl)
def c_X4_member_117 (g : State) (t0 : Nat) (x5 : Option Nat)  (w : ch_W) : Option (ch_W ⊕ (Except Nat (Option Nat) × ch_W)) := (ch_gR w x5 8 fX7_types).bind fun v1 => (ch_rc w (some t0) 5).bind fun _ => ch_tb (c_X4_type g t0 w) (fun a w => .inr ((.error a, w))) fun v3 w4 => (ch_rc w4 v1 9).bind fun b6 => (c_X8_add b6 v3 w4).bind fun p7 => (ch_gR p7 x5 8 fX7_names).bind fun v9 => (ch_rc p7 (some t0) 5).bind fun _ => ch_tb (c_X4_nextName g t0 p7) (fun a w => .inr ((.error a, w))) fun v11 w12 => (ch_rc w12 v9 9).bind fun b14 => (c_X8_add b14 v11 w12).bind fun p15 => some (.inl (p15))
theorem s_X4_member_117 {g : State} {t0 : Nat} {x5 : Option Nat} {w : ch_W} {res : ch_W ⊕ (Except Nat (Option Nat) × ch_W)} {Q : Outcome → ch_W → Prop} (h : c_X4_member_117 g t0 x5 w = some res) (hk : (ch_sm (fun s => ch_FT g true mX4_member 445 91 [some (va_rf (some t0)), none, none, none, none, some (va_rf x5)] [] (s) Q) (ch_xR Q)) res) : ch_FT g true mX4_member 445 117 [some (va_rf (some t0)), none, none, none, none, some (va_rf x5)] [] (w) Q := by
  unfold c_X4_member_117 at h
  refine ch_aload 5 x5 dX4_member_117 rfl (cp_gR (ci := 7) (k := 4) dX4_member_119 fl_X4_184 rfl h (fun v1 h => ?_))
  obtain ⟨_, hb2, h⟩ := ch_bd h
  refine ch_aload_n 0 (some t0) dX4_member_122 rfl (ch_iv yX4_type prog_7_method_19_code 2 (some .int) (ci := 4) (q := (RX4, TX4, 9)) (b := t0) (d' := 11) (av := []) (rest := [va_rf v1]) rfl dX4_member_123 q749 q751 rfl qs16 q752 can_X4_type (Nat.le_of_ble_eq_true rfl) (ch_hw (Nat.le_of_ble_eq_true rfl)) (ch_rts hb2) (cp_tI h (fun p hp Q' hq => s_X4_type hp hq) (fun v3 w4 h => ?_) (fun a w1 h => ?_)))
  · obtain ⟨b6, hb5, h⟩ := ch_bd h
    obtain ⟨p7, hp8, h⟩ := ch_bd h
    refine ch_iv yX8_add prog_9_method_2_code 3 none (ci := 8) (q := (RX8, TX8, 2)) (b := b6) (d' := 2) (av := [.int v3]) (rest := []) (by rw [ch_rs hb5]; rfl) dX4_member_126 q842 q843 rfl q844 q845 can_X8_add (Nat.le_of_ble_eq_true rfl) (Nat.le_of_ble_eq_true rfl) (ch_rtg hb5) (cp_kV (w1 := p7) (fun Q' hq => s_X8_add hp8 hq) ?_)
    refine ch_aload 5 x5 dX4_member_129 rfl (cp_gR (ci := 7) (k := 5) dX4_member_131 fl_X4_175 rfl h (fun v9 h => ?_))
    obtain ⟨_, hb10, h⟩ := ch_bd h
    refine ch_aload_n 0 (some t0) dX4_member_134 rfl (ch_iv yX4_nextName prog_7_method_16_code 2 (some .int) (ci := 4) (q := (RX4, TX4, 9)) (b := t0) (d' := 11) (av := []) (rest := [va_rf v9]) rfl dX4_member_135 q734 q736 rfl qs13 q737 can_X4_nextName (Nat.le_of_ble_eq_true rfl) (ch_hw (Nat.le_of_ble_eq_true rfl)) (ch_rts hb10) (cp_tI h (fun p hp Q' hq => s_X4_nextName hp hq) (fun v11 w12 h => ?_) (fun a w1 h => ?_)))
    · obtain ⟨b14, hb13, h⟩ := ch_bd h
      obtain ⟨p15, hp16, h⟩ := ch_bd h
      refine ch_iv yX8_add prog_9_method_2_code 3 none (ci := 8) (q := (RX8, TX8, 2)) (b := b14) (d' := 2) (av := [.int v11]) (rest := []) (by rw [ch_rs hb13]; rfl) dX4_member_138 q842 q843 rfl q844 q845 can_X8_add (Nat.le_of_ble_eq_true rfl) (Nat.le_of_ble_eq_true rfl) (ch_rtg hb13) (cp_kV (w1 := p15) (fun Q' hq => s_X8_add hp16 hq) ?_)
      refine ch_goto 91 dX4_member_141 rfl (ch_FT.wk (ch_wS (ch_wN (ch_wN (ch_wN (ch_wN (ch_wS ch_w0)))))) ?_)
      obtain rfl := Option.some.inj h
      exact hk
    · subst h
      exact ch_th rfl hk
  · subst h
    exact ch_th rfl hk

def c_X4_member_91 (g : State) (t0 : Nat) (x5 : Option Nat)  (w : ch_W) : Option (ch_W ⊕ (Except Nat (Option Nat) × ch_W)) := (ch_rc w (some t0) 5).bind fun _ => (c_X4_isThe g t0 (some (ch_sa g RX4 173)) w).bind fun v2 => if v2 = 0 then ((ch_gR w x5 8 fX7_names).bind fun v13 => (ch_gI w v13 9 fX8_size).bind fun v14 => if 0 < v14 then ((ch_rc w (some t0) 5).bind fun _ => ch_tb (c_X4_want g t0 (some (ch_sa g RX4 182)) w) (fun a w => .inr ((.error a, w))) fun _ w17 => c_X4_member_117 g t0 x5 w17) else (c_X4_member_117 g t0 x5 w)) else ((ch_rc w (some t0) 5).bind fun _ => ch_tb (c_X4_closes g t0 (some (ch_sa g RX4 173)) w) (fun a w => .inr ((.error a, w))) fun _ w6 => (ch_rc w6 (some t0) 5).bind fun _ => ch_tb (cr_PS g 130 0 t0 0 w6) (fun a w => .inr ((.error a, w))) fun v8 w9 => (ch_pR w9 x5 8 fX7_block v8).bind fun w10 => (ch_gI w10 (some t0) 5 fX4_closing).bind fun v11 => (ch_pI w10 x5 8 fX7_closing v11).bind fun w12 => some (.inr ((.ok x5, w12))))
theorem s_X4_member_91 {g : State} {t0 : Nat} {x5 : Option Nat} {w : ch_W} {res : ch_W ⊕ (Except Nat (Option Nat) × ch_W)} {Q : Outcome → ch_W → Prop} (h : c_X4_member_91 g t0 x5 w = some res) (hk : (ch_sm (fun s => ch_FT g true mX4_member 445 91 [some (va_rf (some t0)), none, none, none, none, some (va_rf x5)] [] (s) Q) (ch_xR Q)) res) : ch_FT g true mX4_member 445 91 [some (va_rf (some t0)), none, none, none, none, some (va_rf x5)] [] (w) Q := by
  unfold c_X4_member_91 at h
  obtain ⟨_, hb1, h⟩ := ch_bd h
  obtain ⟨v2, hp3, h⟩ := ch_bd h
  refine ch_aload_n 0 (some t0) dX4_member_91 rfl (ch_ldcS q840 dX4_member_92 (ch_iv yX4_isThe prog_7_method_8_code 2 (some .boolean) (ci := 4) (q := (RX4, TX4, 9)) (b := t0) (d' := 7) (av := [va_rf (some (ch_sa g RX4 173))]) (rest := []) rfl dX4_member_94 q593 q595 rfl qs7 q596 can_X4_isThe (Nat.le_of_ble_eq_true rfl) (Nat.le_of_ble_eq_true rfl) (ch_rts hb1) (cp_kI (v := v2) (w1 := w) (fun Q' hq => s_X4_isThe hp3 hq) ?_)))
  refine cp_if_ne _ (tgt := 144) dX4_member_97 rfl h (fun h => ?_) (fun h => ?_)
  · obtain ⟨_, hb4, h⟩ := ch_bd h
    refine ch_aload_n 0 (some t0) dX4_member_144 rfl (ch_ldcS q840 dX4_member_145 (ch_iv yX4_closes prog_7_method_11_code 2 none (ci := 4) (q := (RX4, TX4, 9)) (b := t0) (d' := 10) (av := [va_rf (some (ch_sa g RX4 173))]) (rest := []) rfl dX4_member_147 q847 q849 rfl qs18 q850 can_X4_closes (Nat.le_of_ble_eq_true rfl) (Nat.le_of_ble_eq_true rfl) (ch_rts hb4) (cp_tV h (fun p hp Q' hq => s_X4_closes hp hq) (fun w6 h => ?_) (fun a w1 h => ?_))))
    · obtain ⟨_, hb7, h⟩ := ch_bd h
      refine ch_aload 5 x5 dX4_member_150 rfl (ch_aload_n 0 (some t0) dX4_member_152 rfl (ch_iv yX4_block prog_7_method_21_code 4 (some (.array (.object "ClassHouse$Statement"))) (ci := 4) (q := (RX4, TX4, 9)) (b := t0) (d' := 444) (av := []) (rest := [va_rf x5]) rfl dX4_member_153 q851 q853 rfl qs19 q854 can_X4_block (Nat.le_of_ble_eq_true rfl) (ch_hw (Nat.le_of_ble_eq_true rfl)) (ch_rts hb7) (cp_tR h (fun p hp Q' hq => sr_X4_block hp hq) (fun v8 w9 h => ?_) (fun a w1 h => ?_))))
      · refine cp_pR (ci := 7) (k := 6) dX4_member_156 fl_X4_193 rfl rfl rfl h (fun w10 h => ?_)
        refine ch_aload 5 x5 dX4_member_159 rfl (ch_aload_n 0 (some t0) dX4_member_161 rfl (cp_gI (ci := 4) (k := 8) dX4_member_162 fl_X4_196 rfl h (fun v11 h => ?_)))
        refine cp_pI (ci := 7) (k := 7) dX4_member_165 fl_X4_199 rfl rfl rfl h (fun w12 h => ?_)
        obtain rfl := Option.some.inj h
        exact ch_aload 5 x5 dX4_member_168 rfl (ch_areturn x5 dX4_member_170 rfl (Or.inl ⟨_, rfl⟩) hk)
      · subst h
        exact ch_th rfl hk
    · subst h
      exact ch_th rfl hk
  · refine ch_aload 5 x5 dX4_member_100 rfl (cp_gR (ci := 7) (k := 5) dX4_member_102 fl_X4_175 rfl h (fun v13 h => ?_))
    refine cp_gI (ci := 8) (k := 1) dX4_member_105 fl_X4_178 rfl h (fun v14 h => ?_)
    refine cp_if_le _ (tgt := 117) dX4_member_108 rfl h (fun h => ?_) (fun h => ?_)
    · exact ch_FT.wk (ch_wS (ch_wN (ch_wN (ch_wN (ch_wN (ch_wS ch_w0)))))) (s_X4_member_117  h hk)
    · obtain ⟨_, hb15, h⟩ := ch_bd h
      refine ch_aload_n 0 (some t0) dX4_member_111 rfl (ch_ldcS q841 dX4_member_112 (ch_iv yX4_want prog_7_method_9_code 2 none (ci := 4) (q := (RX4, TX4, 9)) (b := t0) (d' := 10) (av := [va_rf (some (ch_sa g RX4 182))]) (rest := []) rfl dX4_member_114 q589 q591 rfl qs6 q592 can_X4_want (Nat.le_of_ble_eq_true rfl) (Nat.le_of_ble_eq_true rfl) (ch_rts hb15) (cp_tV h (fun p hp Q' hq => s_X4_want hp hq) (fun w17 h => ?_) (fun a w1 h => ?_))))
      · exact ch_FT.wk (ch_wS (ch_wN (ch_wN (ch_wN (ch_wN (ch_wS ch_w0)))))) (s_X4_member_117  h hk)
      · subst h
        exact ch_th rfl hk
theorem sl_X4_member_91 {g : State} {t0 : Nat} {x5 : Option Nat} {a : ch_W} {res : Except Nat (Option Nat) × ch_W} {Q : Outcome → ch_W → Prop} (h : ch_loop (fun (s : ch_W) => c_X4_member_91 g t0 x5 s) a = some res) (hk : (ch_xR Q) res) : ch_FT g true mX4_member 445 91 [some (va_rf (some t0)), none, none, none, none, some (va_rf x5)] [] (a) Q := by
  refine ch_loop_ind (fun (a : ch_W) (r : Except Nat (Option Nat) × ch_W) => (ch_xR Q) r → ch_FT g true mX4_member 445 91 [some (va_rf (some t0)), none, none, none, none, some (va_rf x5)] [] (a) Q) ?_ ?_ a res h hk
  · intro a a2 b h1 ih hk
    exact s_X4_member_91  h1 (ih hk)
  · intro a b h1 hk
    exact s_X4_member_91  h1 hk

def c_X4_member_71 (g : State) (t0 : Nat) (x2 : Int32) (x3 : Int32) (x4 : Int32)  (w : ch_W) : Option (Except Nat (Option Nat) × ch_W) := (ch_nO w 8 12).bind fun w1 => (c_X7_init (ch_nx w) 1 x2 x3 x4 w1).bind fun p2 => (ch_rc p2 (some t0) 5).bind fun _ => ch_tb (c_X4_opens g t0 (some (ch_sa g RX4 171)) p2) (fun a w => (.error a, w)) fun _ w6 => ch_loop (fun (s : ch_W) => c_X4_member_91 g t0 (some (ch_nx w)) s) (w6)
theorem s_X4_member_71 {g : State} {t0 : Nat} {x2 : Int32} {x3 : Int32} {x4 : Int32} {w : ch_W} {res : Except Nat (Option Nat) × ch_W} {Q : Outcome → ch_W → Prop} (h : c_X4_member_71 g t0 x2 x3 x4 w = some res) (hk : (ch_xR Q) res) : ch_FT g true mX4_member 445 71 [some (va_rf (some t0)), none, some (.int x2), some (.int x3), some (.int x4), none] [] (w) Q := by
  unfold c_X4_member_71 at h
  refine cp_new (ci := 7) (n := 12) (q := (RX7, TX7, 12)) dX4_member_71 rfl q761 q762 q222 h (fun w1 h => ?_)
  obtain ⟨p2, hp3, h⟩ := ch_bd h
  refine ch_dup dX4_member_74 (ch_cat _) (ch_iconst _ 1 dX4_member_75 rfl (ch_iload_n 2 _ dX4_member_76 rfl (ch_iload_n 3 _ dX4_member_77 rfl (ch_iload 4 _ dX4_member_78 rfl (ch_ii yX7_init prog_6_method_1_code 5 (b := (ch_nx w)) (d' := 3) (av := [.int 1, .int x2, .int x3, .int x4]) (rest := [va_rf (some (ch_nx w))]) rfl dX4_member_80 rfl q763 q764 q765 can_X7_init (Nat.le_of_ble_eq_true rfl) (ch_hw (Nat.le_of_ble_eq_true rfl)) (cp_kV (w1 := p2) (fun Q' hq => s_X7_init hp3 hq) ?_))))))
  obtain ⟨_, hb4, h⟩ := ch_bd h
  refine ch_astore 5 (some (ch_nx w)) (ls1 := [some (va_rf (some t0)), none, some (.int x2), some (.int x3), some (.int x4), some (va_rf (some (ch_nx w)))]) dX4_member_83 (Nat.le_of_ble_eq_true rfl) rfl (ch_aload_n 0 (some t0) dX4_member_85 rfl (ch_ldcS q839 dX4_member_86 (ch_iv yX4_opens prog_7_method_10_code 2 none (ci := 4) (q := (RX4, TX4, 9)) (b := t0) (d' := 10) (av := [va_rf (some (ch_sa g RX4 171))]) (rest := []) rfl dX4_member_88 q739 q741 rfl qs14 q742 can_X4_opens (Nat.le_of_ble_eq_true rfl) (Nat.le_of_ble_eq_true rfl) (ch_rts hb4) (cp_tV h (fun p hp Q' hq => s_X4_opens hp hq) (fun w6 h => ?_) (fun a w1 h => ?_)))))
  · exact ch_FT.wk (ch_wS (ch_wN (ch_wN (ch_wN (ch_wN (ch_wS ch_w0)))))) (sl_X4_member_91  h hk)
  · subst h
    exact ch_th rfl hk

def c_X4_member_26 (g : State) (t0 : Nat) (x1 : Int32) (x2 : Int32)  (w : ch_W) : Option (Except Nat (Option Nat) × ch_W) := (ch_rc w (some t0) 5).bind fun _ => ch_tb (c_X4_name g t0 w) (fun a w => (.error a, w)) fun v2 w3 => (ch_gI w3 (some t0) 5 fX4_from).bind fun v4 => (ch_rc w3 (some t0) 5).bind fun _ => ch_tb (c_X4_next g t0 w3) (fun a w => (.error a, w)) fun _ w7 => if x1 = 0 then ((ch_rc w7 (some t0) 5).bind fun _ => (c_X4_isThe g t0 (some (ch_sa g RX4 164)) w7).bind fun v9 => if v9 = 0 then (c_X4_member_71 g t0 x2 v2 v4 w7) else ((ch_rc w7 (some t0) 5).bind fun _ => ch_tb (c_X4_next g t0 w7) (fun a w => (.error a, w)) fun _ w13 => (ch_nO w13 8 12).bind fun w14 => (c_X7_init (ch_nx w13) 0 x2 v2 v4 w14).bind fun p15 => some ((.ok (some (ch_nx w13)), p15)))) else (c_X4_member_71 g t0 x2 v2 v4 w7)
theorem s_X4_member_26 {g : State} {t0 : Nat} {x1 : Int32} {x2 : Int32} {w : ch_W} {res : Except Nat (Option Nat) × ch_W} {Q : Outcome → ch_W → Prop} (h : c_X4_member_26 g t0 x1 x2 w = some res) (hk : (ch_xR Q) res) : ch_FT g true mX4_member 445 26 [some (va_rf (some t0)), some (.int x1), some (.int x2), none, none, none] [] (w) Q := by
  unfold c_X4_member_26 at h
  obtain ⟨_, hb1, h⟩ := ch_bd h
  refine ch_aload_n 0 (some t0) dX4_member_26 rfl (ch_iv yX4_name prog_7_method_15_code 1 (some .int) (ci := 4) (q := (RX4, TX4, 9)) (b := t0) (d' := 10) (av := []) (rest := []) rfl dX4_member_27 q599 q601 rfl qs8 q602 can_X4_name (Nat.le_of_ble_eq_true rfl) (Nat.le_of_ble_eq_true rfl) (ch_rts hb1) (cp_tI h (fun p hp Q' hq => s_X4_name hp hq) (fun v2 w3 h => ?_) (fun a w1 h => ?_)))
  · refine ch_istore_n 3 _ (ls1 := [some (va_rf (some t0)), some (.int x1), some (.int x2), some (.int v2), none, none]) dX4_member_30 (Nat.le_of_ble_eq_true rfl) rfl (ch_aload_n 0 (some t0) dX4_member_31 rfl (cp_gI (ci := 4) (k := 3) dX4_member_32 fl_X4_31 rfl h (fun v4 h => ?_)))
    obtain ⟨_, hb5, h⟩ := ch_bd h
    refine ch_istore 4 _ (ls1 := [some (va_rf (some t0)), some (.int x1), some (.int x2), some (.int v2), some (.int v4), none]) dX4_member_35 (Nat.le_of_ble_eq_true rfl) rfl (ch_aload_n 0 (some t0) dX4_member_37 rfl (ch_iv yX4_next prog_7_method_5_code 3 none (ci := 4) (q := (RX4, TX4, 9)) (b := t0) (d' := 9) (av := []) (rest := []) rfl dX4_member_38 q497 q499 rfl qs2 q500 can_X4_next (Nat.le_of_ble_eq_true rfl) (Nat.le_of_ble_eq_true rfl) (ch_rts hb5) (cp_tV h (fun p hp Q' hq => s_X4_next hp hq) (fun w7 h => ?_) (fun a w1 h => ?_))))
    · refine ch_iload_n 1 _ dX4_member_41 rfl (cp_if_ne _ (tgt := 71) dX4_member_42 rfl h (fun h => ?_) (fun h => ?_))
      · exact ch_FT.wk (ch_wS (ch_wN (ch_wS (ch_wS (ch_wS (ch_wN ch_w0)))))) (s_X4_member_71  h hk)
      · obtain ⟨_, hb8, h⟩ := ch_bd h
        obtain ⟨v9, hp10, h⟩ := ch_bd h
        refine ch_aload_n 0 (some t0) dX4_member_45 rfl (ch_ldcS q760 dX4_member_46 (ch_iv yX4_isThe prog_7_method_8_code 2 (some .boolean) (ci := 4) (q := (RX4, TX4, 9)) (b := t0) (d' := 7) (av := [va_rf (some (ch_sa g RX4 164))]) (rest := []) rfl dX4_member_48 q593 q595 rfl qs7 q596 can_X4_isThe (Nat.le_of_ble_eq_true rfl) (Nat.le_of_ble_eq_true rfl) (ch_rts hb8) (cp_kI (v := v9) (w1 := w7) (fun Q' hq => s_X4_isThe hp10 hq) ?_)))
        refine cp_if_eq _ (tgt := 71) dX4_member_51 rfl h (fun h => ?_) (fun h => ?_)
        · exact ch_FT.wk (ch_wS (ch_wN (ch_wS (ch_wS (ch_wS (ch_wN ch_w0)))))) (s_X4_member_71  h hk)
        · obtain ⟨_, hb11, h⟩ := ch_bd h
          refine ch_aload_n 0 (some t0) dX4_member_54 rfl (ch_iv yX4_next prog_7_method_5_code 3 none (ci := 4) (q := (RX4, TX4, 9)) (b := t0) (d' := 9) (av := []) (rest := []) rfl dX4_member_55 q497 q499 rfl qs2 q500 can_X4_next (Nat.le_of_ble_eq_true rfl) (Nat.le_of_ble_eq_true rfl) (ch_rts hb11) (cp_tV h (fun p hp Q' hq => s_X4_next hp hq) (fun w13 h => ?_) (fun a w1 h => ?_)))
          · refine cp_new (ci := 7) (n := 12) (q := (RX7, TX7, 12)) dX4_member_58 rfl q761 q762 q222 h (fun w14 h => ?_)
            obtain ⟨p15, hp16, h⟩ := ch_bd h
            refine ch_dup dX4_member_61 (ch_cat _) (ch_iconst _ 0 dX4_member_62 rfl (ch_iload_n 2 _ dX4_member_63 rfl (ch_iload_n 3 _ dX4_member_64 rfl (ch_iload 4 _ dX4_member_65 rfl (ch_ii yX7_init prog_6_method_1_code 5 (b := (ch_nx w13)) (d' := 3) (av := [.int 0, .int x2, .int v2, .int v4]) (rest := [va_rf (some (ch_nx w13))]) rfl dX4_member_67 rfl q763 q764 q765 can_X7_init (Nat.le_of_ble_eq_true rfl) (ch_hw (Nat.le_of_ble_eq_true rfl)) (cp_kV (w1 := p15) (fun Q' hq => s_X7_init hp16 hq) ?_))))))
            obtain rfl := Option.some.inj h
            exact ch_areturn (some (ch_nx w13)) dX4_member_70 rfl (Or.inl ⟨_, rfl⟩) hk
          · subst h
            exact ch_th rfl hk
    · subst h
      exact ch_th rfl hk
  · subst h
    exact ch_th rfl hk

def c_X4_member (g : State) (t0 : Nat)  (w : ch_W) : Option (Except Nat (Option Nat) × ch_W) := (ch_rc w (some t0) 5).bind fun _ => (c_X4_isThe g t0 (some (ch_sa g RX4 159)) w).bind fun v2 => if v2 = 0 then ((ch_rc w (some t0) 5).bind fun _ => ch_tb (c_X4_type g t0 w) (fun a w => (.error a, w)) fun v5 w6 => c_X4_member_26 g t0 v2 v5 w6) else ((ch_rc w (some t0) 5).bind fun _ => ch_tb (c_X4_next g t0 w) (fun a w => (.error a, w)) fun _ w9 => c_X4_member_26 g t0 v2 (-4) w9)
theorem s_X4_member {g : State} {t0 : Nat} {w : ch_W} {res : Except Nat (Option Nat) × ch_W} {Q : Outcome → ch_W → Prop} (h : c_X4_member g t0 w = some res) (hk : (ch_xR Q) res) : ch_CT g true yX4_member 445 [.ref t0] (w) Q := by
  unfold c_X4_member at h
  refine ch_ctL mX4_member (ls := [some (va_rf (some t0)), none, none, none, none, none]) q747 rfl (ch_lyr (r := some t0) ch_ly0) (Nat.le_of_ble_eq_true rfl) rfl ?_
  obtain ⟨_, hb1, h⟩ := ch_bd h
  obtain ⟨v2, hp3, h⟩ := ch_bd h
  refine ch_aload_n 0 (some t0) dX4_member_0 rfl (ch_ldcS q748 dX4_member_1 (ch_iv yX4_isThe prog_7_method_8_code 2 (some .boolean) (ci := 4) (q := (RX4, TX4, 9)) (b := t0) (d' := 7) (av := [va_rf (some (ch_sa g RX4 159))]) (rest := []) rfl dX4_member_3 q593 q595 rfl qs7 q596 can_X4_isThe (Nat.le_of_ble_eq_true rfl) (Nat.le_of_ble_eq_true rfl) (ch_rts hb1) (cp_kI (v := v2) (w1 := w) (fun Q' hq => s_X4_isThe hp3 hq) ?_)))
  refine ch_istore_n 1 _ (ls1 := [some (va_rf (some t0)), some (.int v2), none, none, none, none]) dX4_member_6 (Nat.le_of_ble_eq_true rfl) rfl (ch_bipush _ (-4) dX4_member_7 rfl (ch_istore_n 2 _ (ls1 := [some (va_rf (some t0)), some (.int v2), some (.int (-4)), none, none, none]) dX4_member_9 (Nat.le_of_ble_eq_true rfl) rfl (ch_iload_n 1 _ dX4_member_10 rfl (cp_if_eq _ (tgt := 21) dX4_member_11 rfl h (fun h => ?_) (fun h => ?_)))))
  · obtain ⟨_, hb4, h⟩ := ch_bd h
    refine ch_aload_n 0 (some t0) dX4_member_21 rfl (ch_iv yX4_type prog_7_method_19_code 2 (some .int) (ci := 4) (q := (RX4, TX4, 9)) (b := t0) (d' := 11) (av := []) (rest := []) rfl dX4_member_22 q749 q751 rfl qs16 q752 can_X4_type (Nat.le_of_ble_eq_true rfl) (Nat.le_of_ble_eq_true rfl) (ch_rts hb4) (cp_tI h (fun p hp Q' hq => s_X4_type hp hq) (fun v5 w6 h => ?_) (fun a w1 h => ?_)))
    · exact ch_istore_n 2 _ (ls1 := [some (va_rf (some t0)), some (.int v2), some (.int v5), none, none, none]) dX4_member_25 (Nat.le_of_ble_eq_true rfl) rfl (ch_FT.wk (ch_wS (ch_wS (ch_wS (ch_wN (ch_wN (ch_wN ch_w0)))))) (s_X4_member_26  h hk))
    · subst h
      exact ch_th rfl hk
  · obtain ⟨_, hb7, h⟩ := ch_bd h
    refine ch_aload_n 0 (some t0) dX4_member_14 rfl (ch_iv yX4_next prog_7_method_5_code 3 none (ci := 4) (q := (RX4, TX4, 9)) (b := t0) (d' := 9) (av := []) (rest := []) rfl dX4_member_15 q497 q499 rfl qs2 q500 can_X4_next (Nat.le_of_ble_eq_true rfl) (Nat.le_of_ble_eq_true rfl) (ch_rts hb7) (cp_tV h (fun p hp Q' hq => s_X4_next hp hq) (fun w9 h => ?_) (fun a w1 h => ?_)))
    · exact ch_goto 26 dX4_member_18 rfl (ch_FT.wk (ch_wS (ch_wS (ch_wS (ch_wN (ch_wN (ch_wN ch_w0)))))) (s_X4_member_26  h hk))
    · subst h
      exact ch_th rfl hk

theorem bX4_program_0 : ch_ck cX4_program 0 [42, 182, 0, 79, 42, 18, 114, 182, 0, 116, 187, 0, 120, 89, 42, 182] := ch_ckof (by decide +kernel)
theorem bX4_program_1 : ch_ck cX4_program 16 [0, 111, 42, 180, 0, 31, 183, 0, 122, 76, 42, 180, 0, 18, 43, 182] := ch_ckof (by decide +kernel)
theorem bX4_program_2 : ch_ck cX4_program 32 [0, 107, 87, 42, 182, 0, 79, 42, 18, 124, 182, 0, 76, 153, 0, 15] := ch_ckof (by decide +kernel)
theorem bX4_program_3 : ch_ck cX4_program 48 [42, 182, 0, 79, 43, 42, 182, 0, 126, 181, 0, 129, 42, 18, 132, 182] := ch_ckof (by decide +kernel)
theorem bX4_program_4 : ch_ck cX4_program 64 [0, 134, 42, 18, 137, 182, 0, 76, 154, 0, 18, 43, 180, 0, 139, 42] := ch_ckof (by decide +kernel)
theorem bX4_program_5 : ch_ck cX4_program 80 [182, 0, 142, 182, 0, 107, 87, 167, 255, 235, 42, 18, 137, 182, 0, 146] := ch_ckof (by decide +kernel)
theorem bX4_program_6 : ch_ck cX4_program 96 [42, 180, 0, 40, 154, 255, 160, 177] := ch_ckof (by decide +kernel)
theorem dX4_program_0 : decode cX4_program 0 = .ok (.aload_n 0, 1) := dz_42 (bX4_program_0 0 _ rfl)
theorem dX4_program_1 : decode cX4_program 1 = .ok (.invokevirtual 79, 3) := dz_182 (bX4_program_0 1 _ rfl) (bX4_program_0 2 _ rfl) (bX4_program_0 3 _ rfl)
theorem dX4_program_4 : decode cX4_program 4 = .ok (.aload_n 0, 1) := dz_42 (bX4_program_0 4 _ rfl)
theorem dX4_program_5 : decode cX4_program 5 = .ok (.ldc 114, 2) := dz_18 (bX4_program_0 5 _ rfl) (bX4_program_0 6 _ rfl)
theorem dX4_program_7 : decode cX4_program 7 = .ok (.invokevirtual 116, 3) := dz_182 (bX4_program_0 7 _ rfl) (bX4_program_0 8 _ rfl) (bX4_program_0 9 _ rfl)
theorem dX4_program_10 : decode cX4_program 10 = .ok (.new 120, 3) := dz_187 (bX4_program_0 10 _ rfl) (bX4_program_0 11 _ rfl) (bX4_program_0 12 _ rfl)
theorem dX4_program_13 : decode cX4_program 13 = .ok (.dup, 1) := dz_89 (bX4_program_0 13 _ rfl)
theorem dX4_program_14 : decode cX4_program 14 = .ok (.aload_n 0, 1) := dz_42 (bX4_program_0 14 _ rfl)
theorem dX4_program_15 : decode cX4_program 15 = .ok (.invokevirtual 111, 3) := dz_182 (bX4_program_0 15 _ rfl) (bX4_program_1 0 _ rfl) (bX4_program_1 1 _ rfl)
theorem dX4_program_18 : decode cX4_program 18 = .ok (.aload_n 0, 1) := dz_42 (bX4_program_1 2 _ rfl)
theorem dX4_program_19 : decode cX4_program 19 = .ok (.getfield 31, 3) := dz_180 (bX4_program_1 3 _ rfl) (bX4_program_1 4 _ rfl) (bX4_program_1 5 _ rfl)
theorem dX4_program_22 : decode cX4_program 22 = .ok (.invokespecial 122, 3) := dz_183 (bX4_program_1 6 _ rfl) (bX4_program_1 7 _ rfl) (bX4_program_1 8 _ rfl)
theorem dX4_program_25 : decode cX4_program 25 = .ok (.astore_n 1, 1) := dz_76 (bX4_program_1 9 _ rfl)
theorem dX4_program_26 : decode cX4_program 26 = .ok (.aload_n 0, 1) := dz_42 (bX4_program_1 10 _ rfl)
theorem dX4_program_27 : decode cX4_program 27 = .ok (.getfield 18, 3) := dz_180 (bX4_program_1 11 _ rfl) (bX4_program_1 12 _ rfl) (bX4_program_1 13 _ rfl)
theorem dX4_program_30 : decode cX4_program 30 = .ok (.aload_n 1, 1) := dz_43 (bX4_program_1 14 _ rfl)
theorem dX4_program_31 : decode cX4_program 31 = .ok (.invokevirtual 107, 3) := dz_182 (bX4_program_1 15 _ rfl) (bX4_program_2 0 _ rfl) (bX4_program_2 1 _ rfl)
theorem dX4_program_34 : decode cX4_program 34 = .ok (.pop, 1) := dz_87 (bX4_program_2 2 _ rfl)
theorem dX4_program_35 : decode cX4_program 35 = .ok (.aload_n 0, 1) := dz_42 (bX4_program_2 3 _ rfl)
theorem dX4_program_36 : decode cX4_program 36 = .ok (.invokevirtual 79, 3) := dz_182 (bX4_program_2 4 _ rfl) (bX4_program_2 5 _ rfl) (bX4_program_2 6 _ rfl)
theorem dX4_program_39 : decode cX4_program 39 = .ok (.aload_n 0, 1) := dz_42 (bX4_program_2 7 _ rfl)
theorem dX4_program_40 : decode cX4_program 40 = .ok (.ldc 124, 2) := dz_18 (bX4_program_2 8 _ rfl) (bX4_program_2 9 _ rfl)
theorem dX4_program_42 : decode cX4_program 42 = .ok (.invokevirtual 76, 3) := dz_182 (bX4_program_2 10 _ rfl) (bX4_program_2 11 _ rfl) (bX4_program_2 12 _ rfl)
theorem dX4_program_45 : decode cX4_program 45 = .ok (.ifCond .eq 15, 3) := dz_153 (bX4_program_2 13 _ rfl) (bX4_program_2 14 _ rfl) (bX4_program_2 15 _ rfl)
theorem dX4_program_48 : decode cX4_program 48 = .ok (.aload_n 0, 1) := dz_42 (bX4_program_3 0 _ rfl)
theorem dX4_program_49 : decode cX4_program 49 = .ok (.invokevirtual 79, 3) := dz_182 (bX4_program_3 1 _ rfl) (bX4_program_3 2 _ rfl) (bX4_program_3 3 _ rfl)
theorem dX4_program_52 : decode cX4_program 52 = .ok (.aload_n 1, 1) := dz_43 (bX4_program_3 4 _ rfl)
theorem dX4_program_53 : decode cX4_program 53 = .ok (.aload_n 0, 1) := dz_42 (bX4_program_3 5 _ rfl)
theorem dX4_program_54 : decode cX4_program 54 = .ok (.invokevirtual 126, 3) := dz_182 (bX4_program_3 6 _ rfl) (bX4_program_3 7 _ rfl) (bX4_program_3 8 _ rfl)
theorem dX4_program_57 : decode cX4_program 57 = .ok (.putfield 129, 3) := dz_181 (bX4_program_3 9 _ rfl) (bX4_program_3 10 _ rfl) (bX4_program_3 11 _ rfl)
theorem dX4_program_60 : decode cX4_program 60 = .ok (.aload_n 0, 1) := dz_42 (bX4_program_3 12 _ rfl)
theorem dX4_program_61 : decode cX4_program 61 = .ok (.ldc 132, 2) := dz_18 (bX4_program_3 13 _ rfl) (bX4_program_3 14 _ rfl)
theorem dX4_program_63 : decode cX4_program 63 = .ok (.invokevirtual 134, 3) := dz_182 (bX4_program_3 15 _ rfl) (bX4_program_4 0 _ rfl) (bX4_program_4 1 _ rfl)
theorem dX4_program_66 : decode cX4_program 66 = .ok (.aload_n 0, 1) := dz_42 (bX4_program_4 2 _ rfl)
theorem dX4_program_67 : decode cX4_program 67 = .ok (.ldc 137, 2) := dz_18 (bX4_program_4 3 _ rfl) (bX4_program_4 4 _ rfl)
theorem dX4_program_69 : decode cX4_program 69 = .ok (.invokevirtual 76, 3) := dz_182 (bX4_program_4 5 _ rfl) (bX4_program_4 6 _ rfl) (bX4_program_4 7 _ rfl)
theorem dX4_program_72 : decode cX4_program 72 = .ok (.ifCond .ne 18, 3) := dz_154 (bX4_program_4 8 _ rfl) (bX4_program_4 9 _ rfl) (bX4_program_4 10 _ rfl)
theorem dX4_program_75 : decode cX4_program 75 = .ok (.aload_n 1, 1) := dz_43 (bX4_program_4 11 _ rfl)
theorem dX4_program_76 : decode cX4_program 76 = .ok (.getfield 139, 3) := dz_180 (bX4_program_4 12 _ rfl) (bX4_program_4 13 _ rfl) (bX4_program_4 14 _ rfl)
theorem dX4_program_79 : decode cX4_program 79 = .ok (.aload_n 0, 1) := dz_42 (bX4_program_4 15 _ rfl)
theorem dX4_program_80 : decode cX4_program 80 = .ok (.invokevirtual 142, 3) := dz_182 (bX4_program_5 0 _ rfl) (bX4_program_5 1 _ rfl) (bX4_program_5 2 _ rfl)
theorem dX4_program_83 : decode cX4_program 83 = .ok (.invokevirtual 107, 3) := dz_182 (bX4_program_5 3 _ rfl) (bX4_program_5 4 _ rfl) (bX4_program_5 5 _ rfl)
theorem dX4_program_86 : decode cX4_program 86 = .ok (.pop, 1) := dz_87 (bX4_program_5 6 _ rfl)
theorem dX4_program_87 : decode cX4_program 87 = .ok (.goto (-21), 3) := dz_167 (bX4_program_5 7 _ rfl) (bX4_program_5 8 _ rfl) (bX4_program_5 9 _ rfl)
theorem dX4_program_90 : decode cX4_program 90 = .ok (.aload_n 0, 1) := dz_42 (bX4_program_5 10 _ rfl)
theorem dX4_program_91 : decode cX4_program 91 = .ok (.ldc 137, 2) := dz_18 (bX4_program_5 11 _ rfl) (bX4_program_5 12 _ rfl)
theorem dX4_program_93 : decode cX4_program 93 = .ok (.invokevirtual 146, 3) := dz_182 (bX4_program_5 13 _ rfl) (bX4_program_5 14 _ rfl) (bX4_program_5 15 _ rfl)
theorem dX4_program_96 : decode cX4_program 96 = .ok (.aload_n 0, 1) := dz_42 (bX4_program_6 0 _ rfl)
theorem dX4_program_97 : decode cX4_program 97 = .ok (.getfield 40, 3) := dz_180 (bX4_program_6 1 _ rfl) (bX4_program_6 2 _ rfl) (bX4_program_6 3 _ rfl)
theorem dX4_program_100 : decode cX4_program 100 = .ok (.ifCond .ne (-96), 3) := dz_154 (bX4_program_6 4 _ rfl) (bX4_program_6 5 _ rfl) (bX4_program_6 6 _ rfl)
theorem dX4_program_103 : decode cX4_program 103 = .ok (.return_, 1) := dz_177 (bX4_program_6 7 _ rfl)
def c_X4_program_66 (g : State) (t0 : Nat) (x1 : Option Nat)  (w : ch_W) : Option (ch_W ⊕ (ch_W ⊕ (Except Nat Unit × ch_W))) := (ch_rc w (some t0) 5).bind fun _ => (c_X4_isThe g t0 (some (ch_sa g RX4 137)) w).bind fun v2 => if v2 = 0 then ((ch_gR w x1 7 fX6_members).bind fun v8 => (ch_rc w (some t0) 5).bind fun _ => ch_tb (c_X4_member g t0 w) (fun a w => .inr (.inr ((.error a, w)))) fun v10 w11 => (ch_rc w11 v8 14).bind fun b13 => (c_J5_add g b13 v10 w11).bind fun p14 => some (.inl (p14.2))) else ((ch_rc w (some t0) 5).bind fun _ => ch_tb (c_X4_closes g t0 (some (ch_sa g RX4 137)) w) (fun a w => .inr (.inr ((.error a, w)))) fun _ w6 => (ch_gI w6 (some t0) 5 fX4_kind).bind fun v7 => if v7 = 0 then (some (.inr (.inr ((.ok (), w6))))) else (some (.inr (.inl (w6)))))
theorem s_X4_program_66 {g : State} {t0 : Nat} {x1 : Option Nat} {w : ch_W} {res : ch_W ⊕ (ch_W ⊕ (Except Nat Unit × ch_W))} {Q : Outcome → ch_W → Prop} (h : c_X4_program_66 g t0 x1 w = some res) (hk : (ch_sm (fun s => ch_FT g true mX4_program 446 66 [some (va_rf (some t0)), some (va_rf x1)] [] (s) Q) (ch_sm (fun s => ch_FT g true mX4_program 446 4 [some (va_rf (some t0)), none] [] (s) Q) (ch_xV Q))) res) : ch_FT g true mX4_program 446 66 [some (va_rf (some t0)), some (va_rf x1)] [] (w) Q := by
  unfold c_X4_program_66 at h
  obtain ⟨_, hb1, h⟩ := ch_bd h
  obtain ⟨v2, hp3, h⟩ := ch_bd h
  refine ch_aload_n 0 (some t0) dX4_program_66 rfl (ch_ldcS q743 dX4_program_67 (ch_iv yX4_isThe prog_7_method_8_code 2 (some .boolean) (ci := 4) (q := (RX4, TX4, 9)) (b := t0) (d' := 7) (av := [va_rf (some (ch_sa g RX4 137))]) (rest := []) rfl dX4_program_69 q593 q595 rfl qs7 q596 can_X4_isThe (Nat.le_of_ble_eq_true rfl) (Nat.le_of_ble_eq_true rfl) (ch_rts hb1) (cp_kI (v := v2) (w1 := w) (fun Q' hq => s_X4_isThe hp3 hq) ?_)))
  refine cp_if_ne _ (tgt := 90) dX4_program_72 rfl h (fun h => ?_) (fun h => ?_)
  · obtain ⟨_, hb4, h⟩ := ch_bd h
    refine ch_aload_n 0 (some t0) dX4_program_90 rfl (ch_ldcS q743 dX4_program_91 (ch_iv yX4_closes prog_7_method_11_code 2 none (ci := 4) (q := (RX4, TX4, 9)) (b := t0) (d' := 10) (av := [va_rf (some (ch_sa g RX4 137))]) (rest := []) rfl dX4_program_93 q847 q849 rfl qs18 q850 can_X4_closes (Nat.le_of_ble_eq_true rfl) (Nat.le_of_ble_eq_true rfl) (ch_rts hb4) (cp_tV h (fun p hp Q' hq => s_X4_closes hp hq) (fun w6 h => ?_) (fun a w1 h => ?_))))
    · refine ch_aload_n 0 (some t0) dX4_program_96 rfl (cp_gI (ci := 4) (k := 2) dX4_program_97 fl_X4_40 rfl h (fun v7 h => ?_))
      refine cp_if_ne _ (tgt := 4) dX4_program_100 rfl h (fun h => ?_) (fun h => ?_)
      · refine ch_FT.wk (ch_wS (ch_wN ch_w0)) ?_
        obtain rfl := Option.some.inj h
        exact hk
      · obtain rfl := Option.some.inj h
        exact ch_return dX4_program_103 rfl hk
    · subst h
      exact ch_th rfl hk
  · refine ch_aload_n 1 x1 dX4_program_75 rfl (cp_gR (ci := 6) (k := 5) dX4_program_76 fl_X4_139 rfl h (fun v8 h => ?_))
    obtain ⟨_, hb9, h⟩ := ch_bd h
    refine ch_aload_n 0 (some t0) dX4_program_79 rfl (ch_iv yX4_member prog_7_method_20_code 6 (some (.object "ClassHouse$Member")) (ci := 4) (q := (RX4, TX4, 9)) (b := t0) (d' := 445) (av := []) (rest := [va_rf v8]) rfl dX4_program_80 q744 q746 rfl qs15 q747 can_X4_member (Nat.le_of_ble_eq_true rfl) (ch_hw (Nat.le_of_ble_eq_true rfl)) (ch_rts hb9) (cp_tR h (fun p hp Q' hq => s_X4_member hp hq) (fun v10 w11 h => ?_) (fun a w1 h => ?_)))
    · obtain ⟨b13, hb12, h⟩ := ch_bd h
      obtain ⟨p14, hp15, h⟩ := ch_bd h
      refine ch_iv yJ5_add prog_32_method_25_code 2 (some .boolean) (ci := 13) (q := (RJ5, TJ5, 3)) (b := b13) (d' := 8) (av := [va_rf v10]) (rest := []) (by rw [ch_rs hb12]; rfl) dX4_program_83 q630 q631 rfl q632 q633 can_J5_add (Nat.le_of_ble_eq_true rfl) (Nat.le_of_ble_eq_true rfl) (ch_rtg hb12) (cp_kI (v := p14.1) (w1 := p14.2) (fun Q' hq => s_J5_add hp15 hq) ?_)
      refine ch_pop dX4_program_86 rfl (ch_goto 66 dX4_program_87 rfl (ch_FT.wk (ch_wS (ch_wS ch_w0)) ?_))
      obtain rfl := Option.some.inj h
      exact hk
    · subst h
      exact ch_th rfl hk
theorem sl_X4_program_66 {g : State} {t0 : Nat} {x1 : Option Nat} {a : ch_W} {res : ch_W ⊕ (Except Nat Unit × ch_W)} {Q : Outcome → ch_W → Prop} (h : ch_loop (fun (s : ch_W) => c_X4_program_66 g t0 x1 s) a = some res) (hk : (ch_sm (fun s => ch_FT g true mX4_program 446 4 [some (va_rf (some t0)), none] [] (s) Q) (ch_xV Q)) res) : ch_FT g true mX4_program 446 66 [some (va_rf (some t0)), some (va_rf x1)] [] (a) Q := by
  refine ch_loop_ind (fun (a : ch_W) (r : ch_W ⊕ (Except Nat Unit × ch_W)) => (ch_sm (fun s => ch_FT g true mX4_program 446 4 [some (va_rf (some t0)), none] [] (s) Q) (ch_xV Q)) r → ch_FT g true mX4_program 446 66 [some (va_rf (some t0)), some (va_rf x1)] [] (a) Q) ?_ ?_ a res h hk
  · intro a a2 b h1 ih hk
    exact s_X4_program_66  h1 (ih hk)
  · intro a b h1 hk
    exact s_X4_program_66  h1 hk

def c_X4_program_60 (g : State) (t0 : Nat) (x1 : Option Nat)  (w : ch_W) : Option (ch_W ⊕ (Except Nat Unit × ch_W)) := (ch_rc w (some t0) 5).bind fun _ => ch_tb (c_X4_opens g t0 (some (ch_sa g RX4 132)) w) (fun a w => .inr ((.error a, w))) fun _ w3 => ch_loop (fun (s : ch_W) => c_X4_program_66 g t0 x1 s) (w3)
theorem s_X4_program_60 {g : State} {t0 : Nat} {x1 : Option Nat} {w : ch_W} {res : ch_W ⊕ (Except Nat Unit × ch_W)} {Q : Outcome → ch_W → Prop} (h : c_X4_program_60 g t0 x1 w = some res) (hk : (ch_sm (fun s => ch_FT g true mX4_program 446 4 [some (va_rf (some t0)), none] [] (s) Q) (ch_xV Q)) res) : ch_FT g true mX4_program 446 60 [some (va_rf (some t0)), some (va_rf x1)] [] (w) Q := by
  unfold c_X4_program_60 at h
  obtain ⟨_, hb1, h⟩ := ch_bd h
  refine ch_aload_n 0 (some t0) dX4_program_60 rfl (ch_ldcS q738 dX4_program_61 (ch_iv yX4_opens prog_7_method_10_code 2 none (ci := 4) (q := (RX4, TX4, 9)) (b := t0) (d' := 10) (av := [va_rf (some (ch_sa g RX4 132))]) (rest := []) rfl dX4_program_63 q739 q741 rfl qs14 q742 can_X4_opens (Nat.le_of_ble_eq_true rfl) (Nat.le_of_ble_eq_true rfl) (ch_rts hb1) (cp_tV h (fun p hp Q' hq => s_X4_opens hp hq) (fun w3 h => ?_) (fun a w1 h => ?_))))
  · exact ch_FT.wk (ch_wS (ch_wS ch_w0)) (sl_X4_program_66  h hk)
  · subst h
    exact ch_th rfl hk

def c_X4_program_4 (g : State) (t0 : Nat)   (w : ch_W) : Option (ch_W ⊕ (Except Nat Unit × ch_W)) := (ch_rc w (some t0) 5).bind fun _ => ch_tb (c_X4_want g t0 (some (ch_sa g RX4 114)) w) (fun a w => .inr ((.error a, w))) fun _ w3 => (ch_nO w3 7 8).bind fun w4 => (ch_rc w4 (some t0) 5).bind fun _ => ch_tb (c_X4_name g t0 w4) (fun a w => .inr ((.error a, w))) fun v6 w7 => (ch_gI w7 (some t0) 5 fX4_from).bind fun v8 => (c_X6_init g (ch_nx w3) v6 v8 w7).bind fun p9 => (ch_gR p9 (some t0) 5 fX4_kinds).bind fun v11 => (ch_rc p9 v11 14).bind fun b13 => (c_J5_add g b13 (some (ch_nx w3)) p9).bind fun p14 => (ch_rc p14.2 (some t0) 5).bind fun _ => ch_tb (c_X4_next g t0 p14.2) (fun a w => .inr ((.error a, w))) fun _ w18 => (ch_rc w18 (some t0) 5).bind fun _ => (c_X4_isThe g t0 (some (ch_sa g RX4 124)) w18).bind fun v20 => if v20 = 0 then (c_X4_program_60 g t0 (some (ch_nx w3)) w18) else ((ch_rc w18 (some t0) 5).bind fun _ => ch_tb (c_X4_next g t0 w18) (fun a w => .inr ((.error a, w))) fun _ w24 => (ch_rc w24 (some t0) 5).bind fun _ => ch_tb (c_X4_nextName g t0 w24) (fun a w => .inr ((.error a, w))) fun v26 w27 => (ch_pI w27 (some (ch_nx w3)) 7 fX6_parentName v26).bind fun w28 => c_X4_program_60 g t0 (some (ch_nx w3)) w28)
theorem s_X4_program_4 {g : State} {t0 : Nat} {w : ch_W} {res : ch_W ⊕ (Except Nat Unit × ch_W)} {Q : Outcome → ch_W → Prop} (h : c_X4_program_4 g t0 w = some res) (hk : (ch_sm (fun s => ch_FT g true mX4_program 446 4 [some (va_rf (some t0)), none] [] (s) Q) (ch_xV Q)) res) : ch_FT g true mX4_program 446 4 [some (va_rf (some t0)), none] [] (w) Q := by
  unfold c_X4_program_4 at h
  obtain ⟨_, hb1, h⟩ := ch_bd h
  refine ch_aload_n 0 (some t0) dX4_program_4 rfl (ch_ldcS q588 dX4_program_5 (ch_iv yX4_want prog_7_method_9_code 2 none (ci := 4) (q := (RX4, TX4, 9)) (b := t0) (d' := 10) (av := [va_rf (some (ch_sa g RX4 114))]) (rest := []) rfl dX4_program_7 q589 q591 rfl qs6 q592 can_X4_want (Nat.le_of_ble_eq_true rfl) (Nat.le_of_ble_eq_true rfl) (ch_rts hb1) (cp_tV h (fun p hp Q' hq => s_X4_want hp hq) (fun w3 h => ?_) (fun a w1 h => ?_))))
  · refine cp_new (ci := 6) (n := 8) (q := (RX6, TX6, 8)) dX4_program_10 rfl q597 q598 q216 h (fun w4 h => ?_)
    obtain ⟨_, hb5, h⟩ := ch_bd h
    refine ch_dup dX4_program_13 (ch_cat _) (ch_aload_n 0 (some t0) dX4_program_14 rfl (ch_iv yX4_name prog_7_method_15_code 1 (some .int) (ci := 4) (q := (RX4, TX4, 9)) (b := t0) (d' := 10) (av := []) (rest := [va_rf (some (ch_nx w3)), va_rf (some (ch_nx w3))]) rfl dX4_program_15 q599 q601 rfl qs8 q602 can_X4_name (Nat.le_of_ble_eq_true rfl) (ch_hw (Nat.le_of_ble_eq_true rfl)) (ch_rts hb5) (cp_tI h (fun p hp Q' hq => s_X4_name hp hq) (fun v6 w7 h => ?_) (fun a w1 h => ?_))))
    · refine ch_aload_n 0 (some t0) dX4_program_18 rfl (cp_gI (ci := 4) (k := 3) dX4_program_19 fl_X4_31 rfl h (fun v8 h => ?_))
      obtain ⟨p9, hp10, h⟩ := ch_bd h
      refine ch_ii yX6_init prog_4_method_1_code 3 (b := (ch_nx w3)) (d' := 5) (av := [.int v6, .int v8]) (rest := [va_rf (some (ch_nx w3))]) rfl dX4_program_22 rfl q689 q690 q691 can_X6_init (Nat.le_of_ble_eq_true rfl) (ch_hw (Nat.le_of_ble_eq_true rfl)) (cp_kV (w1 := p9) (fun Q' hq => s_X6_init hp10 hq) ?_)
      refine ch_astore_n 1 (some (ch_nx w3)) (ls1 := [some (va_rf (some t0)), some (va_rf (some (ch_nx w3)))]) dX4_program_25 (Nat.le_of_ble_eq_true rfl) rfl (ch_aload_n 0 (some t0) dX4_program_26 rfl (cp_gR (ci := 4) (k := 7) dX4_program_27 fl_X4_18 rfl h (fun v11 h => ?_)))
      obtain ⟨b13, hb12, h⟩ := ch_bd h
      obtain ⟨p14, hp15, h⟩ := ch_bd h
      refine ch_aload_n 1 (some (ch_nx w3)) dX4_program_30 rfl (ch_iv yJ5_add prog_32_method_25_code 2 (some .boolean) (ci := 13) (q := (RJ5, TJ5, 3)) (b := b13) (d' := 8) (av := [va_rf (some (ch_nx w3))]) (rest := []) (by rw [ch_rs hb12]; rfl) dX4_program_31 q630 q631 rfl q632 q633 can_J5_add (Nat.le_of_ble_eq_true rfl) (Nat.le_of_ble_eq_true rfl) (ch_rtg hb12) (cp_kI (v := p14.1) (w1 := p14.2) (fun Q' hq => s_J5_add hp15 hq) ?_))
      obtain ⟨_, hb16, h⟩ := ch_bd h
      refine ch_pop dX4_program_34 rfl (ch_aload_n 0 (some t0) dX4_program_35 rfl (ch_iv yX4_next prog_7_method_5_code 3 none (ci := 4) (q := (RX4, TX4, 9)) (b := t0) (d' := 9) (av := []) (rest := []) rfl dX4_program_36 q497 q499 rfl qs2 q500 can_X4_next (Nat.le_of_ble_eq_true rfl) (Nat.le_of_ble_eq_true rfl) (ch_rts hb16) (cp_tV h (fun p hp Q' hq => s_X4_next hp hq) (fun w18 h => ?_) (fun a w1 h => ?_))))
      · obtain ⟨_, hb19, h⟩ := ch_bd h
        obtain ⟨v20, hp21, h⟩ := ch_bd h
        refine ch_aload_n 0 (some t0) dX4_program_39 rfl (ch_ldcS q733 dX4_program_40 (ch_iv yX4_isThe prog_7_method_8_code 2 (some .boolean) (ci := 4) (q := (RX4, TX4, 9)) (b := t0) (d' := 7) (av := [va_rf (some (ch_sa g RX4 124))]) (rest := []) rfl dX4_program_42 q593 q595 rfl qs7 q596 can_X4_isThe (Nat.le_of_ble_eq_true rfl) (Nat.le_of_ble_eq_true rfl) (ch_rts hb19) (cp_kI (v := v20) (w1 := w18) (fun Q' hq => s_X4_isThe hp21 hq) ?_)))
        refine cp_if_eq _ (tgt := 60) dX4_program_45 rfl h (fun h => ?_) (fun h => ?_)
        · exact ch_FT.wk (ch_wS (ch_wS ch_w0)) (s_X4_program_60  h hk)
        · obtain ⟨_, hb22, h⟩ := ch_bd h
          refine ch_aload_n 0 (some t0) dX4_program_48 rfl (ch_iv yX4_next prog_7_method_5_code 3 none (ci := 4) (q := (RX4, TX4, 9)) (b := t0) (d' := 9) (av := []) (rest := []) rfl dX4_program_49 q497 q499 rfl qs2 q500 can_X4_next (Nat.le_of_ble_eq_true rfl) (Nat.le_of_ble_eq_true rfl) (ch_rts hb22) (cp_tV h (fun p hp Q' hq => s_X4_next hp hq) (fun w24 h => ?_) (fun a w1 h => ?_)))
          · obtain ⟨_, hb25, h⟩ := ch_bd h
            refine ch_aload_n 1 (some (ch_nx w3)) dX4_program_52 rfl (ch_aload_n 0 (some t0) dX4_program_53 rfl (ch_iv yX4_nextName prog_7_method_16_code 2 (some .int) (ci := 4) (q := (RX4, TX4, 9)) (b := t0) (d' := 11) (av := []) (rest := [va_rf (some (ch_nx w3))]) rfl dX4_program_54 q734 q736 rfl qs13 q737 can_X4_nextName (Nat.le_of_ble_eq_true rfl) (ch_hw (Nat.le_of_ble_eq_true rfl)) (ch_rts hb25) (cp_tI h (fun p hp Q' hq => s_X4_nextName hp hq) (fun v26 w27 h => ?_) (fun a w1 h => ?_))))
            · refine cp_pI (ci := 6) (k := 2) dX4_program_57 fl_X4_129 rfl rfl rfl h (fun w28 h => ?_)
              exact ch_FT.wk (ch_wS (ch_wS ch_w0)) (s_X4_program_60  h hk)
            · subst h
              exact ch_th rfl hk
          · subst h
            exact ch_th rfl hk
      · subst h
        exact ch_th rfl hk
    · subst h
      exact ch_th rfl hk
  · subst h
    exact ch_th rfl hk
theorem sl_X4_program_4 {g : State} {t0 : Nat} {a : ch_W} {res : Except Nat Unit × ch_W} {Q : Outcome → ch_W → Prop} (h : ch_loop (fun (s : ch_W) => c_X4_program_4 g t0 s) a = some res) (hk : (ch_xV Q) res) : ch_FT g true mX4_program 446 4 [some (va_rf (some t0)), none] [] (a) Q := by
  refine ch_loop_ind (fun (a : ch_W) (r : Except Nat Unit × ch_W) => (ch_xV Q) r → ch_FT g true mX4_program 446 4 [some (va_rf (some t0)), none] [] (a) Q) ?_ ?_ a res h hk
  · intro a a2 b h1 ih hk
    exact s_X4_program_4  h1 (ih hk)
  · intro a b h1 hk
    exact s_X4_program_4  h1 hk

def c_X4_program (g : State) (t0 : Nat)  (w : ch_W) : Option (Except Nat Unit × ch_W) := (ch_rc w (some t0) 5).bind fun _ => ch_tb (c_X4_next g t0 w) (fun a w => (.error a, w)) fun _ w3 => ch_loop (fun (s : ch_W) => c_X4_program_4 g t0 s) (w3)
theorem s_X4_program {g : State} {t0 : Nat} {w : ch_W} {res : Except Nat Unit × ch_W} {Q : Outcome → ch_W → Prop} (h : c_X4_program g t0 w = some res) (hk : (ch_xV Q) res) : ch_CT g true yX4_program 446 [.ref t0] (w) Q := by
  unfold c_X4_program at h
  refine ch_ctL mX4_program (ls := [some (va_rf (some t0)), none]) q496 rfl (ch_lyr (r := some t0) ch_ly0) (Nat.le_of_ble_eq_true rfl) rfl ?_
  obtain ⟨_, hb1, h⟩ := ch_bd h
  refine ch_aload_n 0 (some t0) dX4_program_0 rfl (ch_iv yX4_next prog_7_method_5_code 3 none (ci := 4) (q := (RX4, TX4, 9)) (b := t0) (d' := 9) (av := []) (rest := []) rfl dX4_program_1 q497 q499 rfl qs2 q500 can_X4_next (Nat.le_of_ble_eq_true rfl) (Nat.le_of_ble_eq_true rfl) (ch_rts hb1) (cp_tV h (fun p hp Q' hq => s_X4_next hp hq) (fun w3 h => ?_) (fun a w1 h => ?_)))
  · exact ch_FT.wk (ch_wS (ch_wN ch_w0)) (sl_X4_program_4  h hk)
  · subst h
    exact ch_th rfl hk

theorem bX4_nameOf_0 : ch_ck cX4_nameOf 0 [43, 182, 0, 66, 188, 8, 77, 3, 62, 29, 44, 190, 162, 0, 18, 44] := ch_ckof (by decide +kernel)
theorem bX4_nameOf_1 : ch_ck cX4_nameOf 16 [29, 43, 29, 182, 0, 72, 145, 84, 132, 3, 1, 167, 255, 238, 42, 44] := ch_ckof (by decide +kernel)
theorem bX4_nameOf_2 : ch_ck cX4_nameOf 32 [3, 44, 190, 182, 0, 85, 172] := ch_ckof (by decide +kernel)
theorem dX4_nameOf_0 : decode cX4_nameOf 0 = .ok (.aload_n 1, 1) := dz_43 (bX4_nameOf_0 0 _ rfl)
theorem dX4_nameOf_1 : decode cX4_nameOf 1 = .ok (.invokevirtual 66, 3) := dz_182 (bX4_nameOf_0 1 _ rfl) (bX4_nameOf_0 2 _ rfl) (bX4_nameOf_0 3 _ rfl)
theorem dX4_nameOf_4 : decode cX4_nameOf 4 = .ok (.newarray .byte, 2) := dz_188_8 (bX4_nameOf_0 4 _ rfl) (bX4_nameOf_0 5 _ rfl)
theorem dX4_nameOf_6 : decode cX4_nameOf 6 = .ok (.astore_n 2, 1) := dz_77 (bX4_nameOf_0 6 _ rfl)
theorem dX4_nameOf_7 : decode cX4_nameOf 7 = .ok (.iconst 0, 1) := dz_3 (bX4_nameOf_0 7 _ rfl)
theorem dX4_nameOf_8 : decode cX4_nameOf 8 = .ok (.istore_n 3, 1) := dz_62 (bX4_nameOf_0 8 _ rfl)
theorem dX4_nameOf_9 : decode cX4_nameOf 9 = .ok (.iload_n 3, 1) := dz_29 (bX4_nameOf_0 9 _ rfl)
theorem dX4_nameOf_10 : decode cX4_nameOf 10 = .ok (.aload_n 2, 1) := dz_44 (bX4_nameOf_0 10 _ rfl)
theorem dX4_nameOf_11 : decode cX4_nameOf 11 = .ok (.arraylength, 1) := dz_190 (bX4_nameOf_0 11 _ rfl)
theorem dX4_nameOf_12 : decode cX4_nameOf 12 = .ok (.if_icmp .ge 18, 3) := dz_162 (bX4_nameOf_0 12 _ rfl) (bX4_nameOf_0 13 _ rfl) (bX4_nameOf_0 14 _ rfl)
theorem dX4_nameOf_15 : decode cX4_nameOf 15 = .ok (.aload_n 2, 1) := dz_44 (bX4_nameOf_0 15 _ rfl)
theorem dX4_nameOf_16 : decode cX4_nameOf 16 = .ok (.iload_n 3, 1) := dz_29 (bX4_nameOf_1 0 _ rfl)
theorem dX4_nameOf_17 : decode cX4_nameOf 17 = .ok (.aload_n 1, 1) := dz_43 (bX4_nameOf_1 1 _ rfl)
theorem dX4_nameOf_18 : decode cX4_nameOf 18 = .ok (.iload_n 3, 1) := dz_29 (bX4_nameOf_1 2 _ rfl)
theorem dX4_nameOf_19 : decode cX4_nameOf 19 = .ok (.invokevirtual 72, 3) := dz_182 (bX4_nameOf_1 3 _ rfl) (bX4_nameOf_1 4 _ rfl) (bX4_nameOf_1 5 _ rfl)
theorem dX4_nameOf_22 : decode cX4_nameOf 22 = .ok (.i2b, 1) := dz_145 (bX4_nameOf_1 6 _ rfl)
theorem dX4_nameOf_23 : decode cX4_nameOf 23 = .ok (.bastore, 1) := dz_84 (bX4_nameOf_1 7 _ rfl)
theorem dX4_nameOf_24 : decode cX4_nameOf 24 = .ok (.iinc 3 1, 3) := dz_132 (bX4_nameOf_1 8 _ rfl) (bX4_nameOf_1 9 _ rfl) (bX4_nameOf_1 10 _ rfl)
theorem dX4_nameOf_27 : decode cX4_nameOf 27 = .ok (.goto (-18), 3) := dz_167 (bX4_nameOf_1 11 _ rfl) (bX4_nameOf_1 12 _ rfl) (bX4_nameOf_1 13 _ rfl)
theorem dX4_nameOf_30 : decode cX4_nameOf 30 = .ok (.aload_n 0, 1) := dz_42 (bX4_nameOf_1 14 _ rfl)
theorem dX4_nameOf_31 : decode cX4_nameOf 31 = .ok (.aload_n 2, 1) := dz_44 (bX4_nameOf_1 15 _ rfl)
theorem dX4_nameOf_32 : decode cX4_nameOf 32 = .ok (.iconst 0, 1) := dz_3 (bX4_nameOf_2 0 _ rfl)
theorem dX4_nameOf_33 : decode cX4_nameOf 33 = .ok (.aload_n 2, 1) := dz_44 (bX4_nameOf_2 1 _ rfl)
theorem dX4_nameOf_34 : decode cX4_nameOf 34 = .ok (.arraylength, 1) := dz_190 (bX4_nameOf_2 2 _ rfl)
theorem dX4_nameOf_35 : decode cX4_nameOf 35 = .ok (.invokevirtual 85, 3) := dz_182 (bX4_nameOf_2 3 _ rfl) (bX4_nameOf_2 4 _ rfl) (bX4_nameOf_2 5 _ rfl)
theorem dX4_nameOf_38 : decode cX4_nameOf 38 = .ok (.ireturn, 1) := dz_172 (bX4_nameOf_2 6 _ rfl)
def c_X4_nameOf_9 (g : State) (t0 : Nat) (x1 : Option Nat) (x2 : Option Nat) (x3 : Int32)  (w : ch_W) : Option ((Int32 × ch_W) ⊕ (Int32 × ch_W)) := (ch_le w x2 22).bind fun v1 => if x3 < v1 then ((ch_rc w x1 20).bind fun b7 => (c_J6_charAt g b7 x3 w).bind fun v8 => (ch_wI w x2 22 x3 (Int32.toInt8 ((Int32.toInt8 v8).toInt32)).toInt32).bind fun w10 => some (.inl (x3 + 1, w10))) else ((ch_le w x2 22).bind fun v2 => (ch_rc w (some t0) 5).bind fun _ => (c_X4_numberOf g t0 x2 0 v2 w).bind fun p4 => some (.inr ((p4.1, p4.2))))
theorem s_X4_nameOf_9 {g : State} {t0 : Nat} {x1 : Option Nat} {x2 : Option Nat} {x3 : Int32} {w : ch_W} {res : (Int32 × ch_W) ⊕ (Int32 × ch_W)} {Q : Outcome → ch_W → Prop} (h : c_X4_nameOf_9 g t0 x1 x2 x3 w = some res) (hk : (ch_sm (fun s => ch_FT g true mX4_nameOf 10 9 [some (va_rf (some t0)), some (va_rf x1), some (va_rf x2), some (.int s.1)] [] (s.2) Q) (ch_eI Q)) res) : ch_FT g true mX4_nameOf 10 9 [some (va_rf (some t0)), some (va_rf x1), some (va_rf x2), some (.int x3)] [] (w) Q := by
  unfold c_X4_nameOf_9 at h
  refine ch_iload_n 3 _ dX4_nameOf_9 rfl (ch_aload_n 2 x2 dX4_nameOf_10 rfl (cp_alen (t := 22) dX4_nameOf_11 rfl rfl h (fun v1 h => ?_)))
  refine cp_icmp_ge _ _ (tgt := 30) dX4_nameOf_12 rfl h (fun h => ?_) (fun h => ?_)
  · refine ch_aload_n 0 (some t0) dX4_nameOf_30 rfl (ch_aload_n 2 x2 dX4_nameOf_31 rfl (ch_iconst _ 0 dX4_nameOf_32 rfl (ch_aload_n 2 x2 dX4_nameOf_33 rfl (cp_alen (t := 22) dX4_nameOf_34 rfl rfl h (fun v2 h => ?_)))))
    obtain ⟨_, hb3, h⟩ := ch_bd h
    obtain ⟨p4, hp5, h⟩ := ch_bd h
    refine ch_iv yX4_numberOf prog_7_method_13_code 6 (some .int) (ci := 4) (q := (RX4, TX4, 9)) (b := t0) (d' := 9) (av := [va_rf x2, .int 0, .int v2]) (rest := []) rfl dX4_nameOf_35 q603 q605 rfl qs9 q606 can_X4_numberOf (Nat.le_of_ble_eq_true rfl) (Nat.le_of_ble_eq_true rfl) (ch_rts hb3) (cp_kI (v := p4.1) (w1 := p4.2) (fun Q' hq => s_X4_numberOf hp5 hq) ?_)
    obtain rfl := Option.some.inj h
    exact ch_ireturn _ dX4_nameOf_38 rfl rfl hk
  · obtain ⟨b7, hb6, h⟩ := ch_bd h
    obtain ⟨v8, hp9, h⟩ := ch_bd h
    refine ch_aload_n 2 x2 dX4_nameOf_15 rfl (ch_iload_n 3 _ dX4_nameOf_16 rfl (ch_aload_n 1 x1 dX4_nameOf_17 rfl (ch_iload_n 3 _ dX4_nameOf_18 rfl (ch_ivS yJ6_charAt prog_23_method_56_code 2 (some .char) (b := b7) (d' := 5) (av := [.int x3]) (rest := [.int x3, va_rf x2]) (by rw [ch_rs hb6]; rfl) dX4_nameOf_19 q523 q524 q525 q526 can_J6_charAt (Nat.le_of_ble_eq_true rfl) (ch_hw (Nat.le_of_ble_eq_true rfl)) (ch_rtg hb6) (cp_kI (v := v8) (w1 := w) (fun Q' hq => s_J6_charAt hp9 hq) ?_)))))
    refine ch_i2b _ dX4_nameOf_22 (cp_bast (t := 22) dX4_nameOf_23 rfl (Nat.le_of_ble_eq_true rfl) rfl h (fun w10 h => ?_))
    refine ch_iinc 3 _ _ (x3 + 1) (ls1 := [some (va_rf (some t0)), some (va_rf x1), some (va_rf x2), some (.int (x3 + 1))]) dX4_nameOf_24 rfl rfl (Nat.le_of_ble_eq_true rfl) (ch_s1o rfl rfl) (ch_goto 9 dX4_nameOf_27 rfl (ch_FT.wk (ch_wS (ch_wS (ch_wS (ch_wS ch_w0)))) ?_))
    obtain rfl := Option.some.inj h
    exact hk
theorem sl_X4_nameOf_9 {g : State} {t0 : Nat} {x1 : Option Nat} {x2 : Option Nat} {a : Int32 × ch_W} {res : Int32 × ch_W} {Q : Outcome → ch_W → Prop} (h : ch_loop (fun (s : Int32 × ch_W) => c_X4_nameOf_9 g t0 x1 x2 s.1 s.2) a = some res) (hk : (ch_eI Q) res) : ch_FT g true mX4_nameOf 10 9 [some (va_rf (some t0)), some (va_rf x1), some (va_rf x2), some (.int a.1)] [] (a.2) Q := by
  refine ch_loop_ind (fun (a : Int32 × ch_W) (r : Int32 × ch_W) => (ch_eI Q) r → ch_FT g true mX4_nameOf 10 9 [some (va_rf (some t0)), some (va_rf x1), some (va_rf x2), some (.int a.1)] [] (a.2) Q) ?_ ?_ a res h hk
  · intro a a2 b h1 ih hk
    exact s_X4_nameOf_9  h1 (ih hk)
  · intro a b h1 hk
    exact s_X4_nameOf_9  h1 hk

def c_X4_nameOf (g : State) (t0 : Nat) (x1 : Option Nat) (w : ch_W) : Option (Int32 × ch_W) := (ch_rc w x1 20).bind fun b2 => (c_J6_length g b2 w).bind fun v3 => (ch_nA w 22 v3).bind fun w5 => ch_loop (fun (s : Int32 × ch_W) => c_X4_nameOf_9 g t0 x1 (some (ch_nx w)) s.1 s.2) (0, w5)
theorem s_X4_nameOf {g : State} {t0 : Nat} {x1 : Option Nat} {w : ch_W} {res : Int32 × ch_W} {Q : Outcome → ch_W → Prop} (h : c_X4_nameOf g t0 x1 w = some res) (hk : (ch_eI Q) res) : ch_CT g true yX4_nameOf 10 [.ref t0, va_rf x1] (w) Q := by
  unfold c_X4_nameOf at h
  refine ch_ctL mX4_nameOf (ls := [some (va_rf (some t0)), some (va_rf x1), none, none]) q1058 rfl (ch_lyr (r := some t0) (ch_lyr (r := x1) ch_ly0)) (Nat.le_of_ble_eq_true rfl) rfl ?_
  obtain ⟨b2, hb1, h⟩ := ch_bd h
  obtain ⟨v3, hp4, h⟩ := ch_bd h
  refine ch_aload_n 1 x1 dX4_nameOf_0 rfl (ch_ivS yJ6_length prog_23_method_54_code 1 (some .int) (b := b2) (d' := 3) (av := []) (rest := []) (by rw [ch_rs hb1]; rfl) dX4_nameOf_1 q513 q514 q515 q516 can_J6_length (Nat.le_of_ble_eq_true rfl) (Nat.le_of_ble_eq_true rfl) (ch_rtg hb1) (cp_kI (v := v3) (w1 := w) (fun Q' hq => s_J6_length hp4 hq) ?_))
  refine cp_newA (t := 22) (ty := .byte) dX4_nameOf_4 rfl rfl (Nat.le_of_ble_eq_true rfl) rfl (Nat.le_of_ble_eq_true rfl) q312 h (fun w5 h => ?_)
  exact ch_astore_n 2 (some (ch_nx w)) (ls1 := [some (va_rf (some t0)), some (va_rf x1), some (va_rf (some (ch_nx w))), none]) dX4_nameOf_6 (Nat.le_of_ble_eq_true rfl) (ch_s1o rfl rfl) (ch_iconst _ 0 dX4_nameOf_7 rfl (ch_istore_n 3 _ (ls1 := [some (va_rf (some t0)), some (va_rf x1), some (va_rf (some (ch_nx w))), some (.int 0)]) dX4_nameOf_8 (Nat.le_of_ble_eq_true rfl) rfl (ch_FT.wk (ch_wS (ch_wS (ch_wS (ch_wS ch_w0)))) (sl_X4_nameOf_9  h hk))))

theorem bX11_init_0 : ch_ck cX11_init 0 [42, 183, 0, 3, 42, 187, 0, 9, 89, 183, 0, 11, 181, 0, 12, 42] := ch_ckof (by decide +kernel)
theorem bX11_init_1 : ch_ck cX11_init 16 [187, 0, 18, 89, 183, 0, 20, 181, 0, 21, 42, 187, 0, 18, 89, 183] := ch_ckof (by decide +kernel)
theorem bX11_init_2 : ch_ck cX11_init 32 [0, 20, 181, 0, 25, 42, 16, 64, 188, 4, 181, 0, 28, 42, 187, 0] := ch_ckof (by decide +kernel)
theorem bX11_init_3 : ch_ck cX11_init 48 [9, 89, 183, 0, 11, 181, 0, 32, 42, 43, 181, 0, 35, 8, 189, 0] := ch_ckof (by decide +kernel)
theorem bX11_init_4 : ch_ck cX11_init 64 [39, 89, 3, 18, 41, 83, 89, 4, 18, 43, 83, 89, 5, 18, 45, 83] := ch_ckof (by decide +kernel)
theorem bX11_init_5 : ch_ck cX11_init 80 [89, 6, 18, 47, 83, 89, 7, 18, 49, 83, 77, 3, 62, 29, 8, 162] := ch_ckof (by decide +kernel)
theorem bX11_init_6 : ch_ck cX11_init 96 [0, 32, 42, 180, 0, 12, 187, 0, 51, 89, 43, 44, 29, 50, 182, 0] := ch_ckof (by decide +kernel)
theorem bX11_init_7 : ch_ck cX11_init 112 [53, 2, 183, 0, 59, 182, 0, 62, 87, 132, 3, 1, 167, 255, 225, 3] := ch_ckof (by decide +kernel)
theorem bX11_init_8 : ch_ck cX11_init 128 [62, 29, 43, 180, 0, 66, 182, 0, 67, 162, 0, 28, 42, 180, 0, 12] := ch_ckof (by decide +kernel)
theorem bX11_init_9 : ch_ck cX11_init 144 [43, 180, 0, 66, 29, 182, 0, 71, 192, 0, 51, 182, 0, 62, 87, 132] := ch_ckof (by decide +kernel)
theorem bX11_init_10 : ch_ck cX11_init 160 [3, 1, 167, 255, 223, 3, 62, 29, 42, 180, 0, 12, 182, 0, 67, 162] := ch_ckof (by decide +kernel)
theorem bX11_init_11 : ch_ck cX11_init 176 [0, 24, 42, 180, 0, 12, 29, 182, 0, 71, 192, 0, 51, 29, 181, 0] := ch_ckof (by decide +kernel)
theorem bX11_init_12 : ch_ck cX11_init 192 [75, 132, 3, 1, 167, 255, 227, 42, 43, 18, 79, 182, 0, 53, 181, 0] := ch_ckof (by decide +kernel)
theorem bX11_init_13 : ch_ck cX11_init 208 [80, 177] := ch_ckof (by decide +kernel)
theorem dX11_init_0 : decode cX11_init 0 = .ok (.aload_n 0, 1) := dz_42 (bX11_init_0 0 _ rfl)
theorem dX11_init_1 : decode cX11_init 1 = .ok (.invokespecial 3, 3) := dz_183 (bX11_init_0 1 _ rfl) (bX11_init_0 2 _ rfl) (bX11_init_0 3 _ rfl)
theorem dX11_init_4 : decode cX11_init 4 = .ok (.aload_n 0, 1) := dz_42 (bX11_init_0 4 _ rfl)
theorem dX11_init_5 : decode cX11_init 5 = .ok (.new 9, 3) := dz_187 (bX11_init_0 5 _ rfl) (bX11_init_0 6 _ rfl) (bX11_init_0 7 _ rfl)
theorem dX11_init_8 : decode cX11_init 8 = .ok (.dup, 1) := dz_89 (bX11_init_0 8 _ rfl)
theorem dX11_init_9 : decode cX11_init 9 = .ok (.invokespecial 11, 3) := dz_183 (bX11_init_0 9 _ rfl) (bX11_init_0 10 _ rfl) (bX11_init_0 11 _ rfl)
theorem dX11_init_12 : decode cX11_init 12 = .ok (.putfield 12, 3) := dz_181 (bX11_init_0 12 _ rfl) (bX11_init_0 13 _ rfl) (bX11_init_0 14 _ rfl)
theorem dX11_init_15 : decode cX11_init 15 = .ok (.aload_n 0, 1) := dz_42 (bX11_init_0 15 _ rfl)
theorem dX11_init_16 : decode cX11_init 16 = .ok (.new 18, 3) := dz_187 (bX11_init_1 0 _ rfl) (bX11_init_1 1 _ rfl) (bX11_init_1 2 _ rfl)
theorem dX11_init_19 : decode cX11_init 19 = .ok (.dup, 1) := dz_89 (bX11_init_1 3 _ rfl)
theorem dX11_init_20 : decode cX11_init 20 = .ok (.invokespecial 20, 3) := dz_183 (bX11_init_1 4 _ rfl) (bX11_init_1 5 _ rfl) (bX11_init_1 6 _ rfl)
theorem dX11_init_23 : decode cX11_init 23 = .ok (.putfield 21, 3) := dz_181 (bX11_init_1 7 _ rfl) (bX11_init_1 8 _ rfl) (bX11_init_1 9 _ rfl)
theorem dX11_init_26 : decode cX11_init 26 = .ok (.aload_n 0, 1) := dz_42 (bX11_init_1 10 _ rfl)
theorem dX11_init_27 : decode cX11_init 27 = .ok (.new 18, 3) := dz_187 (bX11_init_1 11 _ rfl) (bX11_init_1 12 _ rfl) (bX11_init_1 13 _ rfl)
theorem dX11_init_30 : decode cX11_init 30 = .ok (.dup, 1) := dz_89 (bX11_init_1 14 _ rfl)
theorem dX11_init_31 : decode cX11_init 31 = .ok (.invokespecial 20, 3) := dz_183 (bX11_init_1 15 _ rfl) (bX11_init_2 0 _ rfl) (bX11_init_2 1 _ rfl)
theorem dX11_init_34 : decode cX11_init 34 = .ok (.putfield 25, 3) := dz_181 (bX11_init_2 2 _ rfl) (bX11_init_2 3 _ rfl) (bX11_init_2 4 _ rfl)
theorem dX11_init_37 : decode cX11_init 37 = .ok (.aload_n 0, 1) := dz_42 (bX11_init_2 5 _ rfl)
theorem dX11_init_38 : decode cX11_init 38 = .ok (.bipush 64, 2) := dz_16 (bX11_init_2 6 _ rfl) (bX11_init_2 7 _ rfl)
theorem dX11_init_40 : decode cX11_init 40 = .ok (.newarray .boolean, 2) := dz_188_4 (bX11_init_2 8 _ rfl) (bX11_init_2 9 _ rfl)
theorem dX11_init_42 : decode cX11_init 42 = .ok (.putfield 28, 3) := dz_181 (bX11_init_2 10 _ rfl) (bX11_init_2 11 _ rfl) (bX11_init_2 12 _ rfl)
theorem dX11_init_45 : decode cX11_init 45 = .ok (.aload_n 0, 1) := dz_42 (bX11_init_2 13 _ rfl)
theorem dX11_init_46 : decode cX11_init 46 = .ok (.new 9, 3) := dz_187 (bX11_init_2 14 _ rfl) (bX11_init_2 15 _ rfl) (bX11_init_3 0 _ rfl)
theorem dX11_init_49 : decode cX11_init 49 = .ok (.dup, 1) := dz_89 (bX11_init_3 1 _ rfl)
theorem dX11_init_50 : decode cX11_init 50 = .ok (.invokespecial 11, 3) := dz_183 (bX11_init_3 2 _ rfl) (bX11_init_3 3 _ rfl) (bX11_init_3 4 _ rfl)
theorem dX11_init_53 : decode cX11_init 53 = .ok (.putfield 32, 3) := dz_181 (bX11_init_3 5 _ rfl) (bX11_init_3 6 _ rfl) (bX11_init_3 7 _ rfl)
theorem dX11_init_56 : decode cX11_init 56 = .ok (.aload_n 0, 1) := dz_42 (bX11_init_3 8 _ rfl)
theorem dX11_init_57 : decode cX11_init 57 = .ok (.aload_n 1, 1) := dz_43 (bX11_init_3 9 _ rfl)
theorem dX11_init_58 : decode cX11_init 58 = .ok (.putfield 35, 3) := dz_181 (bX11_init_3 10 _ rfl) (bX11_init_3 11 _ rfl) (bX11_init_3 12 _ rfl)
theorem dX11_init_61 : decode cX11_init 61 = .ok (.iconst 5, 1) := dz_8 (bX11_init_3 13 _ rfl)
theorem dX11_init_62 : decode cX11_init 62 = .ok (.anewarray 39, 3) := dz_189 (bX11_init_3 14 _ rfl) (bX11_init_3 15 _ rfl) (bX11_init_4 0 _ rfl)
theorem dX11_init_65 : decode cX11_init 65 = .ok (.dup, 1) := dz_89 (bX11_init_4 1 _ rfl)
theorem dX11_init_66 : decode cX11_init 66 = .ok (.iconst 0, 1) := dz_3 (bX11_init_4 2 _ rfl)
theorem dX11_init_67 : decode cX11_init 67 = .ok (.ldc 41, 2) := dz_18 (bX11_init_4 3 _ rfl) (bX11_init_4 4 _ rfl)
theorem dX11_init_69 : decode cX11_init 69 = .ok (.aastore, 1) := dz_83 (bX11_init_4 5 _ rfl)
theorem dX11_init_70 : decode cX11_init 70 = .ok (.dup, 1) := dz_89 (bX11_init_4 6 _ rfl)
theorem dX11_init_71 : decode cX11_init 71 = .ok (.iconst 1, 1) := dz_4 (bX11_init_4 7 _ rfl)
theorem dX11_init_72 : decode cX11_init 72 = .ok (.ldc 43, 2) := dz_18 (bX11_init_4 8 _ rfl) (bX11_init_4 9 _ rfl)
theorem dX11_init_74 : decode cX11_init 74 = .ok (.aastore, 1) := dz_83 (bX11_init_4 10 _ rfl)
theorem dX11_init_75 : decode cX11_init 75 = .ok (.dup, 1) := dz_89 (bX11_init_4 11 _ rfl)
theorem dX11_init_76 : decode cX11_init 76 = .ok (.iconst 2, 1) := dz_5 (bX11_init_4 12 _ rfl)
theorem dX11_init_77 : decode cX11_init 77 = .ok (.ldc 45, 2) := dz_18 (bX11_init_4 13 _ rfl) (bX11_init_4 14 _ rfl)
theorem dX11_init_79 : decode cX11_init 79 = .ok (.aastore, 1) := dz_83 (bX11_init_4 15 _ rfl)
theorem dX11_init_80 : decode cX11_init 80 = .ok (.dup, 1) := dz_89 (bX11_init_5 0 _ rfl)
theorem dX11_init_81 : decode cX11_init 81 = .ok (.iconst 3, 1) := dz_6 (bX11_init_5 1 _ rfl)
theorem dX11_init_82 : decode cX11_init 82 = .ok (.ldc 47, 2) := dz_18 (bX11_init_5 2 _ rfl) (bX11_init_5 3 _ rfl)
theorem dX11_init_84 : decode cX11_init 84 = .ok (.aastore, 1) := dz_83 (bX11_init_5 4 _ rfl)
theorem dX11_init_85 : decode cX11_init 85 = .ok (.dup, 1) := dz_89 (bX11_init_5 5 _ rfl)
theorem dX11_init_86 : decode cX11_init 86 = .ok (.iconst 4, 1) := dz_7 (bX11_init_5 6 _ rfl)
theorem dX11_init_87 : decode cX11_init 87 = .ok (.ldc 49, 2) := dz_18 (bX11_init_5 7 _ rfl) (bX11_init_5 8 _ rfl)
theorem dX11_init_89 : decode cX11_init 89 = .ok (.aastore, 1) := dz_83 (bX11_init_5 9 _ rfl)
theorem dX11_init_90 : decode cX11_init 90 = .ok (.astore_n 2, 1) := dz_77 (bX11_init_5 10 _ rfl)
theorem dX11_init_91 : decode cX11_init 91 = .ok (.iconst 0, 1) := dz_3 (bX11_init_5 11 _ rfl)
theorem dX11_init_92 : decode cX11_init 92 = .ok (.istore_n 3, 1) := dz_62 (bX11_init_5 12 _ rfl)
theorem dX11_init_93 : decode cX11_init 93 = .ok (.iload_n 3, 1) := dz_29 (bX11_init_5 13 _ rfl)
theorem dX11_init_94 : decode cX11_init 94 = .ok (.iconst 5, 1) := dz_8 (bX11_init_5 14 _ rfl)
theorem dX11_init_95 : decode cX11_init 95 = .ok (.if_icmp .ge 32, 3) := dz_162 (bX11_init_5 15 _ rfl) (bX11_init_6 0 _ rfl) (bX11_init_6 1 _ rfl)
theorem dX11_init_98 : decode cX11_init 98 = .ok (.aload_n 0, 1) := dz_42 (bX11_init_6 2 _ rfl)
theorem dX11_init_99 : decode cX11_init 99 = .ok (.getfield 12, 3) := dz_180 (bX11_init_6 3 _ rfl) (bX11_init_6 4 _ rfl) (bX11_init_6 5 _ rfl)
theorem dX11_init_102 : decode cX11_init 102 = .ok (.new 51, 3) := dz_187 (bX11_init_6 6 _ rfl) (bX11_init_6 7 _ rfl) (bX11_init_6 8 _ rfl)
theorem dX11_init_105 : decode cX11_init 105 = .ok (.dup, 1) := dz_89 (bX11_init_6 9 _ rfl)
theorem dX11_init_106 : decode cX11_init 106 = .ok (.aload_n 1, 1) := dz_43 (bX11_init_6 10 _ rfl)
theorem dX11_init_107 : decode cX11_init 107 = .ok (.aload_n 2, 1) := dz_44 (bX11_init_6 11 _ rfl)
theorem dX11_init_108 : decode cX11_init 108 = .ok (.iload_n 3, 1) := dz_29 (bX11_init_6 12 _ rfl)
theorem dX11_init_109 : decode cX11_init 109 = .ok (.aaload, 1) := dz_50 (bX11_init_6 13 _ rfl)
theorem dX11_init_110 : decode cX11_init 110 = .ok (.invokevirtual 53, 3) := dz_182 (bX11_init_6 14 _ rfl) (bX11_init_6 15 _ rfl) (bX11_init_7 0 _ rfl)
theorem dX11_init_113 : decode cX11_init 113 = .ok (.iconst (-1), 1) := dz_2 (bX11_init_7 1 _ rfl)
theorem dX11_init_114 : decode cX11_init 114 = .ok (.invokespecial 59, 3) := dz_183 (bX11_init_7 2 _ rfl) (bX11_init_7 3 _ rfl) (bX11_init_7 4 _ rfl)
theorem dX11_init_117 : decode cX11_init 117 = .ok (.invokevirtual 62, 3) := dz_182 (bX11_init_7 5 _ rfl) (bX11_init_7 6 _ rfl) (bX11_init_7 7 _ rfl)
theorem dX11_init_120 : decode cX11_init 120 = .ok (.pop, 1) := dz_87 (bX11_init_7 8 _ rfl)
theorem dX11_init_121 : decode cX11_init 121 = .ok (.iinc 3 1, 3) := dz_132 (bX11_init_7 9 _ rfl) (bX11_init_7 10 _ rfl) (bX11_init_7 11 _ rfl)
theorem dX11_init_124 : decode cX11_init 124 = .ok (.goto (-31), 3) := dz_167 (bX11_init_7 12 _ rfl) (bX11_init_7 13 _ rfl) (bX11_init_7 14 _ rfl)
theorem dX11_init_127 : decode cX11_init 127 = .ok (.iconst 0, 1) := dz_3 (bX11_init_7 15 _ rfl)
theorem dX11_init_128 : decode cX11_init 128 = .ok (.istore_n 3, 1) := dz_62 (bX11_init_8 0 _ rfl)
theorem dX11_init_129 : decode cX11_init 129 = .ok (.iload_n 3, 1) := dz_29 (bX11_init_8 1 _ rfl)
theorem dX11_init_130 : decode cX11_init 130 = .ok (.aload_n 1, 1) := dz_43 (bX11_init_8 2 _ rfl)
theorem dX11_init_131 : decode cX11_init 131 = .ok (.getfield 66, 3) := dz_180 (bX11_init_8 3 _ rfl) (bX11_init_8 4 _ rfl) (bX11_init_8 5 _ rfl)
theorem dX11_init_134 : decode cX11_init 134 = .ok (.invokevirtual 67, 3) := dz_182 (bX11_init_8 6 _ rfl) (bX11_init_8 7 _ rfl) (bX11_init_8 8 _ rfl)
theorem dX11_init_137 : decode cX11_init 137 = .ok (.if_icmp .ge 28, 3) := dz_162 (bX11_init_8 9 _ rfl) (bX11_init_8 10 _ rfl) (bX11_init_8 11 _ rfl)
theorem dX11_init_140 : decode cX11_init 140 = .ok (.aload_n 0, 1) := dz_42 (bX11_init_8 12 _ rfl)
theorem dX11_init_141 : decode cX11_init 141 = .ok (.getfield 12, 3) := dz_180 (bX11_init_8 13 _ rfl) (bX11_init_8 14 _ rfl) (bX11_init_8 15 _ rfl)
theorem dX11_init_144 : decode cX11_init 144 = .ok (.aload_n 1, 1) := dz_43 (bX11_init_9 0 _ rfl)
theorem dX11_init_145 : decode cX11_init 145 = .ok (.getfield 66, 3) := dz_180 (bX11_init_9 1 _ rfl) (bX11_init_9 2 _ rfl) (bX11_init_9 3 _ rfl)
theorem dX11_init_148 : decode cX11_init 148 = .ok (.iload_n 3, 1) := dz_29 (bX11_init_9 4 _ rfl)
theorem dX11_init_149 : decode cX11_init 149 = .ok (.invokevirtual 71, 3) := dz_182 (bX11_init_9 5 _ rfl) (bX11_init_9 6 _ rfl) (bX11_init_9 7 _ rfl)
theorem dX11_init_152 : decode cX11_init 152 = .ok (.checkcast 51, 3) := dz_192 (bX11_init_9 8 _ rfl) (bX11_init_9 9 _ rfl) (bX11_init_9 10 _ rfl)
theorem dX11_init_155 : decode cX11_init 155 = .ok (.invokevirtual 62, 3) := dz_182 (bX11_init_9 11 _ rfl) (bX11_init_9 12 _ rfl) (bX11_init_9 13 _ rfl)
theorem dX11_init_158 : decode cX11_init 158 = .ok (.pop, 1) := dz_87 (bX11_init_9 14 _ rfl)
theorem dX11_init_159 : decode cX11_init 159 = .ok (.iinc 3 1, 3) := dz_132 (bX11_init_9 15 _ rfl) (bX11_init_10 0 _ rfl) (bX11_init_10 1 _ rfl)
theorem dX11_init_162 : decode cX11_init 162 = .ok (.goto (-33), 3) := dz_167 (bX11_init_10 2 _ rfl) (bX11_init_10 3 _ rfl) (bX11_init_10 4 _ rfl)
theorem dX11_init_165 : decode cX11_init 165 = .ok (.iconst 0, 1) := dz_3 (bX11_init_10 5 _ rfl)
theorem dX11_init_166 : decode cX11_init 166 = .ok (.istore_n 3, 1) := dz_62 (bX11_init_10 6 _ rfl)
theorem dX11_init_167 : decode cX11_init 167 = .ok (.iload_n 3, 1) := dz_29 (bX11_init_10 7 _ rfl)
theorem dX11_init_168 : decode cX11_init 168 = .ok (.aload_n 0, 1) := dz_42 (bX11_init_10 8 _ rfl)
theorem dX11_init_169 : decode cX11_init 169 = .ok (.getfield 12, 3) := dz_180 (bX11_init_10 9 _ rfl) (bX11_init_10 10 _ rfl) (bX11_init_10 11 _ rfl)
theorem dX11_init_172 : decode cX11_init 172 = .ok (.invokevirtual 67, 3) := dz_182 (bX11_init_10 12 _ rfl) (bX11_init_10 13 _ rfl) (bX11_init_10 14 _ rfl)
theorem dX11_init_175 : decode cX11_init 175 = .ok (.if_icmp .ge 24, 3) := dz_162 (bX11_init_10 15 _ rfl) (bX11_init_11 0 _ rfl) (bX11_init_11 1 _ rfl)
theorem dX11_init_178 : decode cX11_init 178 = .ok (.aload_n 0, 1) := dz_42 (bX11_init_11 2 _ rfl)
theorem dX11_init_179 : decode cX11_init 179 = .ok (.getfield 12, 3) := dz_180 (bX11_init_11 3 _ rfl) (bX11_init_11 4 _ rfl) (bX11_init_11 5 _ rfl)
theorem dX11_init_182 : decode cX11_init 182 = .ok (.iload_n 3, 1) := dz_29 (bX11_init_11 6 _ rfl)
theorem dX11_init_183 : decode cX11_init 183 = .ok (.invokevirtual 71, 3) := dz_182 (bX11_init_11 7 _ rfl) (bX11_init_11 8 _ rfl) (bX11_init_11 9 _ rfl)
theorem dX11_init_186 : decode cX11_init 186 = .ok (.checkcast 51, 3) := dz_192 (bX11_init_11 10 _ rfl) (bX11_init_11 11 _ rfl) (bX11_init_11 12 _ rfl)
theorem dX11_init_189 : decode cX11_init 189 = .ok (.iload_n 3, 1) := dz_29 (bX11_init_11 13 _ rfl)
theorem dX11_init_190 : decode cX11_init 190 = .ok (.putfield 75, 3) := dz_181 (bX11_init_11 14 _ rfl) (bX11_init_11 15 _ rfl) (bX11_init_12 0 _ rfl)
theorem dX11_init_193 : decode cX11_init 193 = .ok (.iinc 3 1, 3) := dz_132 (bX11_init_12 1 _ rfl) (bX11_init_12 2 _ rfl) (bX11_init_12 3 _ rfl)
theorem dX11_init_196 : decode cX11_init 196 = .ok (.goto (-29), 3) := dz_167 (bX11_init_12 4 _ rfl) (bX11_init_12 5 _ rfl) (bX11_init_12 6 _ rfl)
theorem dX11_init_199 : decode cX11_init 199 = .ok (.aload_n 0, 1) := dz_42 (bX11_init_12 7 _ rfl)
theorem dX11_init_200 : decode cX11_init 200 = .ok (.aload_n 1, 1) := dz_43 (bX11_init_12 8 _ rfl)
theorem dX11_init_201 : decode cX11_init 201 = .ok (.ldc 79, 2) := dz_18 (bX11_init_12 9 _ rfl) (bX11_init_12 10 _ rfl)
theorem dX11_init_203 : decode cX11_init 203 = .ok (.invokevirtual 53, 3) := dz_182 (bX11_init_12 11 _ rfl) (bX11_init_12 12 _ rfl) (bX11_init_12 13 _ rfl)
theorem dX11_init_206 : decode cX11_init 206 = .ok (.putfield 80, 3) := dz_181 (bX11_init_12 14 _ rfl) (bX11_init_12 15 _ rfl) (bX11_init_13 0 _ rfl)
theorem dX11_init_209 : decode cX11_init 209 = .ok (.return_, 1) := dz_177 (bX11_init_13 1 _ rfl)
def c_X11_init_167 (g : State) (t0 : Nat) (x1 : Option Nat) (x3 : Int32)  (w : ch_W) : Option ((Int32 × ch_W) ⊕ (ch_W)) := (ch_gR w (some t0) 12 fX11_kinds).bind fun v1 => (ch_rc w v1 14).bind fun b3 => (c_J5_size b3 w).bind fun v4 => if x3 < v4 then ((ch_gR w (some t0) 12 fX11_kinds).bind fun v11 => (ch_rc w v11 14).bind fun b13 => (c_J5_get b13 x3 w).bind fun v14 => (ch_cast w v14 7).bind fun _ => (ch_pI w v14 7 fX6_number x3).bind fun w16 => some (.inl (x3 + 1, w16))) else ((ch_rc w x1 5).bind fun b7 => (c_X4_nameOf g b7 (some (ch_sa g RX11 79)) w).bind fun p8 => (ch_pI p8.2 (some t0) 12 fX11_sizeName p8.1).bind fun w10 => some (.inr (w10)))
theorem s_X11_init_167 {g : State} {t0 : Nat} {x1 : Option Nat} {x3 : Int32} {w : ch_W} {res : (Int32 × ch_W) ⊕ (ch_W)} {Q : Outcome → ch_W → Prop} (h : c_X11_init_167 g t0 x1 x3 w = some res) (hk : (ch_sm (fun s => ch_FT g true mX11_init 11 167 [some (va_rf (some t0)), some (va_rf x1), none, some (.int s.1)] [] (s.2) Q) (ch_eV Q)) res) : ch_FT g true mX11_init 11 167 [some (va_rf (some t0)), some (va_rf x1), none, some (.int x3)] [] (w) Q := by
  unfold c_X11_init_167 at h
  refine ch_iload_n 3 _ dX11_init_167 rfl (ch_aload_n 0 (some t0) dX11_init_168 rfl (cp_gR (ci := 11) (k := 1) dX11_init_169 fl_X11_12 rfl h (fun v1 h => ?_)))
  obtain ⟨b3, hb2, h⟩ := ch_bd h
  obtain ⟨v4, hp5, h⟩ := ch_bd h
  refine ch_iv yJ5_size prog_32_method_8_code 1 (some .int) (ci := 13) (q := (RJ5, TJ5, 3)) (b := b3) (d' := 2) (av := []) (rest := [.int x3]) (by rw [ch_rs hb2]; rfl) dX11_init_172 q1061 q608 rfl q609 q610 can_J5_size (Nat.le_of_ble_eq_true rfl) (ch_hw (Nat.le_of_ble_eq_true rfl)) (ch_rtg hb2) (cp_kI (v := v4) (w1 := w) (fun Q' hq => s_J5_size hp5 hq) ?_)
  refine cp_icmp_ge _ _ (tgt := 199) dX11_init_175 rfl h (fun h => ?_) (fun h => ?_)
  · obtain ⟨b7, hb6, h⟩ := ch_bd h
    obtain ⟨p8, hp9, h⟩ := ch_bd h
    refine ch_aload_n 0 (some t0) dX11_init_199 rfl (ch_aload_n 1 x1 dX11_init_200 rfl (ch_ldcS q1063 dX11_init_201 (ch_iv yX4_nameOf prog_7_method_12_code 4 (some .int) (ci := 4) (q := (RX4, TX4, 9)) (b := b7) (d' := 10) (av := [va_rf (some (ch_sa g RX11 79))]) (rest := [va_rf (some t0)]) (by rw [ch_rs hb6]; rfl) dX11_init_203 q1055 q1056 rfl q1057 q1058 can_X4_nameOf (Nat.le_of_ble_eq_true rfl) (ch_hw (Nat.le_of_ble_eq_true rfl)) (ch_rtg hb6) (cp_kI (v := p8.1) (w1 := p8.2) (fun Q' hq => s_X4_nameOf hp9 hq) ?_))))
    refine cp_pI (ci := 11) (k := 2) dX11_init_206 fl_X11_80 rfl rfl rfl h (fun w10 h => ?_)
    obtain rfl := Option.some.inj h
    exact ch_return dX11_init_209 rfl hk
  · refine ch_aload_n 0 (some t0) dX11_init_178 rfl (cp_gR (ci := 11) (k := 1) dX11_init_179 fl_X11_12 rfl h (fun v11 h => ?_))
    obtain ⟨b13, hb12, h⟩ := ch_bd h
    obtain ⟨v14, hp15, h⟩ := ch_bd h
    refine ch_iload_n 3 _ dX11_init_182 rfl (ch_iv yJ5_get prog_32_method_20_code 2 (some (.object "java/lang/Object")) (ci := 13) (q := (RJ5, TJ5, 3)) (b := b13) (d' := 4) (av := [.int x3]) (rest := []) (by rw [ch_rs hb12]; rfl) dX11_init_183 q1062 q612 rfl q613 q614 can_J5_get (Nat.le_of_ble_eq_true rfl) (Nat.le_of_ble_eq_true rfl) (ch_rtg hb12) (cp_kR (v := v14) (w1 := w) (fun Q' hq => s_J5_get hp15 hq) ?_))
    refine cp_cast (ci := 6) (q := (RX6, TX6, 8)) dX11_init_186 rfl q1054 h (fun h => ?_)
    refine ch_iload_n 3 _ dX11_init_189 rfl (cp_pI (ci := 6) (k := 4) dX11_init_190 fl_X11_75 rfl rfl rfl h (fun w16 h => ?_))
    refine ch_iinc 3 _ _ (x3 + 1) (ls1 := [some (va_rf (some t0)), some (va_rf x1), none, some (.int (x3 + 1))]) dX11_init_193 rfl rfl (Nat.le_of_ble_eq_true rfl) rfl (ch_goto 167 dX11_init_196 rfl (ch_FT.wk (ch_wS (ch_wS (ch_wN (ch_wS ch_w0)))) ?_))
    obtain rfl := Option.some.inj h
    exact hk
theorem sl_X11_init_167 {g : State} {t0 : Nat} {x1 : Option Nat} {a : Int32 × ch_W} {res : ch_W} {Q : Outcome → ch_W → Prop} (h : ch_loop (fun (s : Int32 × ch_W) => c_X11_init_167 g t0 x1 s.1 s.2) a = some res) (hk : (ch_eV Q) res) : ch_FT g true mX11_init 11 167 [some (va_rf (some t0)), some (va_rf x1), none, some (.int a.1)] [] (a.2) Q := by
  refine ch_loop_ind (fun (a : Int32 × ch_W) (r : ch_W) => (ch_eV Q) r → ch_FT g true mX11_init 11 167 [some (va_rf (some t0)), some (va_rf x1), none, some (.int a.1)] [] (a.2) Q) ?_ ?_ a res h hk
  · intro a a2 b h1 ih hk
    exact s_X11_init_167  h1 (ih hk)
  · intro a b h1 hk
    exact s_X11_init_167  h1 hk

def c_X11_init_129 (g : State) (t0 : Nat) (x1 : Option Nat) (x3 : Int32)  (w : ch_W) : Option ((Int32 × ch_W) ⊕ (ch_W)) := (ch_gR w x1 5 fX4_kinds).bind fun v1 => (ch_rc w v1 14).bind fun b3 => (c_J5_size b3 w).bind fun v4 => if x3 < v4 then ((ch_gR w (some t0) 12 fX11_kinds).bind fun v6 => (ch_gR w x1 5 fX4_kinds).bind fun v7 => (ch_rc w v7 14).bind fun b9 => (c_J5_get b9 x3 w).bind fun v10 => (ch_cast w v10 7).bind fun _ => (ch_rc w v6 14).bind fun b13 => (c_J5_add g b13 v10 w).bind fun p14 => some (.inl (x3 + 1, p14.2))) else ((ch_loop (fun (s : Int32 × ch_W) => c_X11_init_167 g t0 x1 s.1 s.2) (0, w)).bind fun r => some (.inr (r)))
theorem s_X11_init_129 {g : State} {t0 : Nat} {x1 : Option Nat} {x3 : Int32} {w : ch_W} {res : (Int32 × ch_W) ⊕ (ch_W)} {Q : Outcome → ch_W → Prop} (h : c_X11_init_129 g t0 x1 x3 w = some res) (hk : (ch_sm (fun s => ch_FT g true mX11_init 11 129 [some (va_rf (some t0)), some (va_rf x1), none, some (.int s.1)] [] (s.2) Q) (ch_eV Q)) res) : ch_FT g true mX11_init 11 129 [some (va_rf (some t0)), some (va_rf x1), none, some (.int x3)] [] (w) Q := by
  unfold c_X11_init_129 at h
  refine ch_iload_n 3 _ dX11_init_129 rfl (ch_aload_n 1 x1 dX11_init_130 rfl (cp_gR (ci := 4) (k := 7) dX11_init_131 fl_X11_66 rfl h (fun v1 h => ?_)))
  obtain ⟨b3, hb2, h⟩ := ch_bd h
  obtain ⟨v4, hp5, h⟩ := ch_bd h
  refine ch_iv yJ5_size prog_32_method_8_code 1 (some .int) (ci := 13) (q := (RJ5, TJ5, 3)) (b := b3) (d' := 2) (av := []) (rest := [.int x3]) (by rw [ch_rs hb2]; rfl) dX11_init_134 q1061 q608 rfl q609 q610 can_J5_size (Nat.le_of_ble_eq_true rfl) (ch_hw (Nat.le_of_ble_eq_true rfl)) (ch_rtg hb2) (cp_kI (v := v4) (w1 := w) (fun Q' hq => s_J5_size hp5 hq) ?_)
  refine cp_icmp_ge _ _ (tgt := 165) dX11_init_137 rfl h (fun h => ?_) (fun h => ?_)
  · obtain ⟨r, hr, h⟩ := ch_bd h
    obtain rfl := Option.some.inj h
    exact ch_iconst _ 0 dX11_init_165 rfl (ch_istore_n 3 _ (ls1 := [some (va_rf (some t0)), some (va_rf x1), none, some (.int 0)]) dX11_init_166 (Nat.le_of_ble_eq_true rfl) rfl (ch_FT.wk (ch_wS (ch_wS (ch_wN (ch_wS ch_w0)))) (sl_X11_init_167  hr hk)))
  · refine ch_aload_n 0 (some t0) dX11_init_140 rfl (cp_gR (ci := 11) (k := 1) dX11_init_141 fl_X11_12 rfl h (fun v6 h => ?_))
    refine ch_aload_n 1 x1 dX11_init_144 rfl (cp_gR (ci := 4) (k := 7) dX11_init_145 fl_X11_66 rfl h (fun v7 h => ?_))
    obtain ⟨b9, hb8, h⟩ := ch_bd h
    obtain ⟨v10, hp11, h⟩ := ch_bd h
    refine ch_iload_n 3 _ dX11_init_148 rfl (ch_iv yJ5_get prog_32_method_20_code 2 (some (.object "java/lang/Object")) (ci := 13) (q := (RJ5, TJ5, 3)) (b := b9) (d' := 4) (av := [.int x3]) (rest := [va_rf v6]) (by rw [ch_rs hb8]; rfl) dX11_init_149 q1062 q612 rfl q613 q614 can_J5_get (Nat.le_of_ble_eq_true rfl) (ch_hw (Nat.le_of_ble_eq_true rfl)) (ch_rtg hb8) (cp_kR (v := v10) (w1 := w) (fun Q' hq => s_J5_get hp11 hq) ?_))
    refine cp_cast (ci := 6) (q := (RX6, TX6, 8)) dX11_init_152 rfl q1054 h (fun h => ?_)
    obtain ⟨b13, hb12, h⟩ := ch_bd h
    obtain ⟨p14, hp15, h⟩ := ch_bd h
    refine ch_iv yJ5_add prog_32_method_25_code 2 (some .boolean) (ci := 13) (q := (RJ5, TJ5, 3)) (b := b13) (d' := 8) (av := [va_rf v10]) (rest := []) (by rw [ch_rs hb12]; rfl) dX11_init_155 q1060 q631 rfl q632 q633 can_J5_add (Nat.le_of_ble_eq_true rfl) (Nat.le_of_ble_eq_true rfl) (ch_rtg hb12) (cp_kI (v := p14.1) (w1 := p14.2) (fun Q' hq => s_J5_add hp15 hq) ?_)
    refine ch_pop dX11_init_158 rfl (ch_iinc 3 _ _ (x3 + 1) (ls1 := [some (va_rf (some t0)), some (va_rf x1), none, some (.int (x3 + 1))]) dX11_init_159 rfl rfl (Nat.le_of_ble_eq_true rfl) rfl (ch_goto 129 dX11_init_162 rfl (ch_FT.wk (ch_wS (ch_wS (ch_wN (ch_wS ch_w0)))) ?_)))
    obtain rfl := Option.some.inj h
    exact hk
theorem sl_X11_init_129 {g : State} {t0 : Nat} {x1 : Option Nat} {a : Int32 × ch_W} {res : ch_W} {Q : Outcome → ch_W → Prop} (h : ch_loop (fun (s : Int32 × ch_W) => c_X11_init_129 g t0 x1 s.1 s.2) a = some res) (hk : (ch_eV Q) res) : ch_FT g true mX11_init 11 129 [some (va_rf (some t0)), some (va_rf x1), none, some (.int a.1)] [] (a.2) Q := by
  refine ch_loop_ind (fun (a : Int32 × ch_W) (r : ch_W) => (ch_eV Q) r → ch_FT g true mX11_init 11 129 [some (va_rf (some t0)), some (va_rf x1), none, some (.int a.1)] [] (a.2) Q) ?_ ?_ a res h hk
  · intro a a2 b h1 ih hk
    exact s_X11_init_129  h1 (ih hk)
  · intro a b h1 hk
    exact s_X11_init_129  h1 hk

def c_X11_init_93 (g : State) (t0 : Nat) (x1 : Option Nat) (x2 : Option Nat) (x3 : Int32)  (w : ch_W) : Option ((Int32 × ch_W) ⊕ (ch_W)) := if x3 < 5 then ((ch_gR w (some t0) 12 fX11_kinds).bind fun v1 => (ch_nO w 7 8).bind fun w2 => (ch_lR w2 x2 30 x3).bind fun v3 => (ch_rc w2 x1 5).bind fun b5 => (c_X4_nameOf g b5 v3 w2).bind fun p6 => (c_X6_init g (ch_nx w) p6.1 (-1) p6.2).bind fun p8 => (ch_rc p8 v1 14).bind fun b11 => (c_J5_add g b11 (some (ch_nx w)) p8).bind fun p12 => some (.inl (x3 + 1, p12.2))) else ((ch_loop (fun (s : Int32 × ch_W) => c_X11_init_129 g t0 x1 s.1 s.2) (0, w)).bind fun r => some (.inr (r)))
theorem s_X11_init_93 {g : State} {t0 : Nat} {x1 : Option Nat} {x2 : Option Nat} {x3 : Int32} {w : ch_W} {res : (Int32 × ch_W) ⊕ (ch_W)} {Q : Outcome → ch_W → Prop} (h : c_X11_init_93 g t0 x1 x2 x3 w = some res) (hk : (ch_sm (fun s => ch_FT g true mX11_init 11 93 [some (va_rf (some t0)), some (va_rf x1), some (va_rf x2), some (.int s.1)] [] (s.2) Q) (ch_eV Q)) res) : ch_FT g true mX11_init 11 93 [some (va_rf (some t0)), some (va_rf x1), some (va_rf x2), some (.int x3)] [] (w) Q := by
  unfold c_X11_init_93 at h
  refine ch_iload_n 3 _ dX11_init_93 rfl (ch_iconst _ 5 dX11_init_94 rfl (cp_icmp_ge _ _ (tgt := 127) dX11_init_95 rfl h (fun h => ?_) (fun h => ?_)))
  · obtain ⟨r, hr, h⟩ := ch_bd h
    obtain rfl := Option.some.inj h
    exact ch_iconst _ 0 dX11_init_127 rfl (ch_istore_n 3 _ (ls1 := [some (va_rf (some t0)), some (va_rf x1), some (va_rf x2), some (.int 0)]) dX11_init_128 (Nat.le_of_ble_eq_true rfl) (ch_s1o rfl rfl) (ch_FT.wk (ch_wS (ch_wS (ch_wN (ch_wS ch_w0)))) (sl_X11_init_129  hr hk)))
  · refine ch_aload_n 0 (some t0) dX11_init_98 rfl (cp_gR (ci := 11) (k := 1) dX11_init_99 fl_X11_12 rfl h (fun v1 h => ?_))
    refine cp_new (ci := 6) (n := 8) (q := (RX6, TX6, 8)) dX11_init_102 rfl q1054 q598 q216 h (fun w2 h => ?_)
    refine ch_dup dX11_init_105 (ch_cat _) (ch_aload_n 1 x1 dX11_init_106 rfl (ch_aload_n 2 x2 dX11_init_107 rfl (ch_iload_n 3 _ dX11_init_108 rfl (cp_aald (t := 30) dX11_init_109 rfl rfl h (fun v3 h => ?_)))))
    obtain ⟨b5, hb4, h⟩ := ch_bd h
    obtain ⟨p6, hp7, h⟩ := ch_bd h
    refine ch_iv yX4_nameOf prog_7_method_12_code 4 (some .int) (ci := 4) (q := (RX4, TX4, 9)) (b := b5) (d' := 10) (av := [va_rf v3]) (rest := [va_rf (some (ch_nx w)), va_rf (some (ch_nx w)), va_rf v1]) (by rw [ch_rs hb4]; rfl) dX11_init_110 q1055 q1056 rfl q1057 q1058 can_X4_nameOf (Nat.le_of_ble_eq_true rfl) (ch_hw (Nat.le_of_ble_eq_true rfl)) (ch_rtg hb4) (cp_kI (v := p6.1) (w1 := p6.2) (fun Q' hq => s_X4_nameOf hp7 hq) ?_)
    obtain ⟨p8, hp9, h⟩ := ch_bd h
    refine ch_iconst _ (-1) dX11_init_113 rfl (ch_ii yX6_init prog_4_method_1_code 3 (b := (ch_nx w)) (d' := 5) (av := [.int p6.1, .int (-1)]) (rest := [va_rf (some (ch_nx w)), va_rf v1]) rfl dX11_init_114 rfl q1059 q690 q691 can_X6_init (Nat.le_of_ble_eq_true rfl) (ch_hw (Nat.le_of_ble_eq_true rfl)) (cp_kV (w1 := p8) (fun Q' hq => s_X6_init hp9 hq) ?_))
    obtain ⟨b11, hb10, h⟩ := ch_bd h
    obtain ⟨p12, hp13, h⟩ := ch_bd h
    refine ch_iv yJ5_add prog_32_method_25_code 2 (some .boolean) (ci := 13) (q := (RJ5, TJ5, 3)) (b := b11) (d' := 8) (av := [va_rf (some (ch_nx w))]) (rest := []) (by rw [ch_rs hb10]; rfl) dX11_init_117 q1060 q631 rfl q632 q633 can_J5_add (Nat.le_of_ble_eq_true rfl) (Nat.le_of_ble_eq_true rfl) (ch_rtg hb10) (cp_kI (v := p12.1) (w1 := p12.2) (fun Q' hq => s_J5_add hp13 hq) ?_)
    refine ch_pop dX11_init_120 rfl (ch_iinc 3 _ _ (x3 + 1) (ls1 := [some (va_rf (some t0)), some (va_rf x1), some (va_rf x2), some (.int (x3 + 1))]) dX11_init_121 rfl rfl (Nat.le_of_ble_eq_true rfl) (ch_s1o rfl rfl) (ch_goto 93 dX11_init_124 rfl (ch_FT.wk (ch_wS (ch_wS (ch_wS (ch_wS ch_w0)))) ?_)))
    obtain rfl := Option.some.inj h
    exact hk
theorem sl_X11_init_93 {g : State} {t0 : Nat} {x1 : Option Nat} {x2 : Option Nat} {a : Int32 × ch_W} {res : ch_W} {Q : Outcome → ch_W → Prop} (h : ch_loop (fun (s : Int32 × ch_W) => c_X11_init_93 g t0 x1 x2 s.1 s.2) a = some res) (hk : (ch_eV Q) res) : ch_FT g true mX11_init 11 93 [some (va_rf (some t0)), some (va_rf x1), some (va_rf x2), some (.int a.1)] [] (a.2) Q := by
  refine ch_loop_ind (fun (a : Int32 × ch_W) (r : ch_W) => (ch_eV Q) r → ch_FT g true mX11_init 11 93 [some (va_rf (some t0)), some (va_rf x1), some (va_rf x2), some (.int a.1)] [] (a.2) Q) ?_ ?_ a res h hk
  · intro a a2 b h1 ih hk
    exact s_X11_init_93  h1 (ih hk)
  · intro a b h1 hk
    exact s_X11_init_93  h1 hk

def c_X11_init (g : State) (t0 : Nat) (x1 : Option Nat) (w : ch_W) : Option (ch_W) := (ch_nO w 14 3).bind fun w1 => (c_J5_init g (ch_nx w) w1).bind fun p2 => (ch_pR p2 (some t0) 12 fX11_kinds (some (ch_nx w))).bind fun w4 => (ch_nO w4 9 2).bind fun w5 => (c_X8_init (ch_nx w4) w5).bind fun p6 => (ch_pR p6 (some t0) 12 fX11_names (some (ch_nx w4))).bind fun w8 => (ch_nO w8 9 2).bind fun w9 => (c_X8_init (ch_nx w8) w9).bind fun p10 => (ch_pR p10 (some t0) 12 fX11_types (some (ch_nx w8))).bind fun w12 => (ch_nA w12 23 64).bind fun w13 => (ch_pR w13 (some t0) 12 fX11_set (some (ch_nx w12))).bind fun w14 => (ch_nO w14 14 3).bind fun w15 => (c_J5_init g (ch_nx w14) w15).bind fun p16 => (ch_pR p16 (some t0) 12 fX11_spine (some (ch_nx w14))).bind fun w18 => (ch_pR w18 (some t0) 12 fX11_reader x1).bind fun w19 => (ch_nA w19 30 5).bind fun w20 => (ch_wR w20 (some (ch_nx w19)) 30 20 0 (some (ch_sa g RX11 41))).bind fun w21 => (ch_wR w21 (some (ch_nx w19)) 30 20 1 (some (ch_sa g RX11 43))).bind fun w22 => (ch_wR w22 (some (ch_nx w19)) 30 20 2 (some (ch_sa g RX11 45))).bind fun w23 => (ch_wR w23 (some (ch_nx w19)) 30 20 3 (some (ch_sa g RX11 47))).bind fun w24 => (ch_wR w24 (some (ch_nx w19)) 30 20 4 (some (ch_sa g RX11 49))).bind fun w25 => ch_loop (fun (s : Int32 × ch_W) => c_X11_init_93 g t0 x1 (some (ch_nx w19)) s.1 s.2) (0, w25)
theorem s_X11_init {g : State} {t0 : Nat} {x1 : Option Nat} {w : ch_W} {res : ch_W} {Q : Outcome → ch_W → Prop} (h : c_X11_init g t0 x1 w = some res) (hk : (ch_eV Q) res) : ch_CT g true yX11_init 11 [.ref t0, va_rf x1] (w) Q := by
  unfold c_X11_init at h
  refine ch_ctL mX11_init (ls := [some (va_rf (some t0)), some (va_rf x1), none, none]) q1041 rfl (ch_lyr (r := some t0) (ch_lyr (r := x1) ch_ly0)) (Nat.le_of_ble_eq_true rfl) rfl ?_
  refine ch_aload_n 0 (some t0) dX11_init_0 rfl (ch_objInit (some t0) rfl dX11_init_1 q1042 q234 q235 (Nat.le_of_ble_eq_true rfl) (Nat.le_of_ble_eq_true rfl) (ch_aload_n 0 (some t0) dX11_init_4 rfl (cp_new (ci := 13) (n := 3) (q := (RJ5, TJ5, 3)) dX11_init_5 rfl q1043 q439 q210 h (fun w1 h => ?_))))
  obtain ⟨p2, hp3, h⟩ := ch_bd h
  refine ch_dup dX11_init_8 (ch_cat _) (ch_ii yJ5_init prog_32_method_2_code 1 (b := (ch_nx w)) (d' := 4) (av := []) (rest := [va_rf (some (ch_nx w)), va_rf (some t0)]) rfl dX11_init_9 rfl q1044 q441 q442 can_J5_init (Nat.le_of_ble_eq_true rfl) (ch_hw (Nat.le_of_ble_eq_true rfl)) (cp_kV (w1 := p2) (fun Q' hq => s_J5_init hp3 hq) ?_))
  refine cp_pR (ci := 11) (k := 1) dX11_init_12 fl_X11_12 rfl rfl rfl h (fun w4 h => ?_)
  refine ch_aload_n 0 (some t0) dX11_init_15 rfl (cp_new (ci := 8) (n := 2) (q := (RX8, TX8, 2)) dX11_init_16 rfl q1045 q768 q223 h (fun w5 h => ?_))
  obtain ⟨p6, hp7, h⟩ := ch_bd h
  refine ch_dup dX11_init_19 (ch_cat _) (ch_iiN yX8_init prog_9_method_1_code 1 (b := (ch_nx w4)) (d' := 2) (av := []) (rest := [va_rf (some (ch_nx w4)), va_rf (some t0)]) rfl dX11_init_20 rfl q1046 q770 q771 can_X8_init (Nat.le_of_ble_eq_true rfl) (ch_hw (Nat.le_of_ble_eq_true rfl)) (cp_kV (w1 := p6) (fun Q' hq => s_X8_init hp7 hq) ?_))
  refine cp_pR (ci := 11) (k := 7) dX11_init_23 fl_X11_21 rfl rfl rfl h (fun w8 h => ?_)
  refine ch_aload_n 0 (some t0) dX11_init_26 rfl (cp_new (ci := 8) (n := 2) (q := (RX8, TX8, 2)) dX11_init_27 rfl q1045 q768 q223 h (fun w9 h => ?_))
  obtain ⟨p10, hp11, h⟩ := ch_bd h
  refine ch_dup dX11_init_30 (ch_cat _) (ch_iiN yX8_init prog_9_method_1_code 1 (b := (ch_nx w8)) (d' := 2) (av := []) (rest := [va_rf (some (ch_nx w8)), va_rf (some t0)]) rfl dX11_init_31 rfl q1046 q770 q771 can_X8_init (Nat.le_of_ble_eq_true rfl) (ch_hw (Nat.le_of_ble_eq_true rfl)) (cp_kV (w1 := p10) (fun Q' hq => s_X8_init hp11 hq) ?_))
  refine cp_pR (ci := 11) (k := 8) dX11_init_34 fl_X11_25 rfl rfl rfl h (fun w12 h => ?_)
  refine ch_aload_n 0 (some t0) dX11_init_37 rfl (ch_bipush _ 64 dX11_init_38 rfl (cp_newA (t := 23) (ty := .boolean) dX11_init_40 rfl rfl (Nat.le_of_ble_eq_true rfl) rfl (Nat.le_of_ble_eq_true rfl) q1110 h (fun w13 h => ?_)))
  refine cp_pR (ci := 11) (k := 9) dX11_init_42 fl_X11_28 rfl rfl rfl h (fun w14 h => ?_)
  refine ch_aload_n 0 (some t0) dX11_init_45 rfl (cp_new (ci := 13) (n := 3) (q := (RJ5, TJ5, 3)) dX11_init_46 rfl q1043 q439 q210 h (fun w15 h => ?_))
  obtain ⟨p16, hp17, h⟩ := ch_bd h
  refine ch_dup dX11_init_49 (ch_cat _) (ch_ii yJ5_init prog_32_method_2_code 1 (b := (ch_nx w14)) (d' := 4) (av := []) (rest := [va_rf (some (ch_nx w14)), va_rf (some t0)]) rfl dX11_init_50 rfl q1044 q441 q442 can_J5_init (Nat.le_of_ble_eq_true rfl) (ch_hw (Nat.le_of_ble_eq_true rfl)) (cp_kV (w1 := p16) (fun Q' hq => s_J5_init hp17 hq) ?_))
  refine cp_pR (ci := 11) (k := 11) dX11_init_53 fl_X11_32 rfl rfl rfl h (fun w18 h => ?_)
  refine ch_aload_n 0 (some t0) dX11_init_56 rfl (ch_aload_n 1 x1 dX11_init_57 rfl (cp_pR (ci := 11) (k := 0) dX11_init_58 fl_X11_35 rfl rfl rfl h (fun w19 h => ?_)))
  refine ch_iconst _ 5 dX11_init_61 rfl (cp_newR (t := 30) (C := "java/lang/String") dX11_init_62 rfl (Nat.le_of_ble_eq_true rfl) q1047 q1048 h (fun w20 h => ?_))
  refine ch_dup dX11_init_65 (ch_cat _) (ch_iconst _ 0 dX11_init_66 rfl (ch_ldcS q1049 dX11_init_67 (cp_aast (t := 30) (c := 20) dX11_init_69 rfl (Nat.le_of_ble_eq_true rfl) rfl el_20 h (fun w21 h => ?_))))
  refine ch_dup dX11_init_70 (ch_cat _) (ch_iconst _ 1 dX11_init_71 rfl (ch_ldcS q1050 dX11_init_72 (cp_aast (t := 30) (c := 20) dX11_init_74 rfl (Nat.le_of_ble_eq_true rfl) rfl el_20 h (fun w22 h => ?_))))
  refine ch_dup dX11_init_75 (ch_cat _) (ch_iconst _ 2 dX11_init_76 rfl (ch_ldcS q1051 dX11_init_77 (cp_aast (t := 30) (c := 20) dX11_init_79 rfl (Nat.le_of_ble_eq_true rfl) rfl el_20 h (fun w23 h => ?_))))
  refine ch_dup dX11_init_80 (ch_cat _) (ch_iconst _ 3 dX11_init_81 rfl (ch_ldcS q1052 dX11_init_82 (cp_aast (t := 30) (c := 20) dX11_init_84 rfl (Nat.le_of_ble_eq_true rfl) rfl el_20 h (fun w24 h => ?_))))
  refine ch_dup dX11_init_85 (ch_cat _) (ch_iconst _ 4 dX11_init_86 rfl (ch_ldcS q1053 dX11_init_87 (cp_aast (t := 30) (c := 20) dX11_init_89 rfl (Nat.le_of_ble_eq_true rfl) rfl el_20 h (fun w25 h => ?_))))
  exact ch_astore_n 2 (some (ch_nx w19)) (ls1 := [some (va_rf (some t0)), some (va_rf x1), some (va_rf (some (ch_nx w19))), none]) dX11_init_90 (Nat.le_of_ble_eq_true rfl) (ch_s1o rfl rfl) (ch_iconst _ 0 dX11_init_91 rfl (ch_istore_n 3 _ (ls1 := [some (va_rf (some t0)), some (va_rf x1), some (va_rf (some (ch_nx w19))), some (.int 0)]) dX11_init_92 (Nat.le_of_ble_eq_true rfl) rfl (ch_FT.wk (ch_wS (ch_wS (ch_wS (ch_wS ch_w0)))) (sl_X11_init_93  h hk))))

theorem bX11_kindOf_0 : ch_ck cX11_kindOf 0 [3, 61, 28, 42, 180, 0, 12, 182, 0, 67, 162, 0, 39, 42, 180, 0] := ch_ckof (by decide +kernel)
theorem bX11_kindOf_1 : ch_ck cX11_kindOf 16 [12, 28, 182, 0, 71, 192, 0, 51, 180, 0, 95, 27, 160, 0, 15, 42] := ch_ckof (by decide +kernel)
theorem bX11_kindOf_2 : ch_ck cX11_kindOf 32 [180, 0, 12, 28, 182, 0, 71, 192, 0, 51, 176, 132, 2, 1, 167, 255] := ch_ckof (by decide +kernel)
theorem bX11_kindOf_3 : ch_ck cX11_kindOf 48 [212, 1, 176] := ch_ckof (by decide +kernel)
theorem dX11_kindOf_0 : decode cX11_kindOf 0 = .ok (.iconst 0, 1) := dz_3 (bX11_kindOf_0 0 _ rfl)
theorem dX11_kindOf_1 : decode cX11_kindOf 1 = .ok (.istore_n 2, 1) := dz_61 (bX11_kindOf_0 1 _ rfl)
theorem dX11_kindOf_2 : decode cX11_kindOf 2 = .ok (.iload_n 2, 1) := dz_28 (bX11_kindOf_0 2 _ rfl)
theorem dX11_kindOf_3 : decode cX11_kindOf 3 = .ok (.aload_n 0, 1) := dz_42 (bX11_kindOf_0 3 _ rfl)
theorem dX11_kindOf_4 : decode cX11_kindOf 4 = .ok (.getfield 12, 3) := dz_180 (bX11_kindOf_0 4 _ rfl) (bX11_kindOf_0 5 _ rfl) (bX11_kindOf_0 6 _ rfl)
theorem dX11_kindOf_7 : decode cX11_kindOf 7 = .ok (.invokevirtual 67, 3) := dz_182 (bX11_kindOf_0 7 _ rfl) (bX11_kindOf_0 8 _ rfl) (bX11_kindOf_0 9 _ rfl)
theorem dX11_kindOf_10 : decode cX11_kindOf 10 = .ok (.if_icmp .ge 39, 3) := dz_162 (bX11_kindOf_0 10 _ rfl) (bX11_kindOf_0 11 _ rfl) (bX11_kindOf_0 12 _ rfl)
theorem dX11_kindOf_13 : decode cX11_kindOf 13 = .ok (.aload_n 0, 1) := dz_42 (bX11_kindOf_0 13 _ rfl)
theorem dX11_kindOf_14 : decode cX11_kindOf 14 = .ok (.getfield 12, 3) := dz_180 (bX11_kindOf_0 14 _ rfl) (bX11_kindOf_0 15 _ rfl) (bX11_kindOf_1 0 _ rfl)
theorem dX11_kindOf_17 : decode cX11_kindOf 17 = .ok (.iload_n 2, 1) := dz_28 (bX11_kindOf_1 1 _ rfl)
theorem dX11_kindOf_18 : decode cX11_kindOf 18 = .ok (.invokevirtual 71, 3) := dz_182 (bX11_kindOf_1 2 _ rfl) (bX11_kindOf_1 3 _ rfl) (bX11_kindOf_1 4 _ rfl)
theorem dX11_kindOf_21 : decode cX11_kindOf 21 = .ok (.checkcast 51, 3) := dz_192 (bX11_kindOf_1 5 _ rfl) (bX11_kindOf_1 6 _ rfl) (bX11_kindOf_1 7 _ rfl)
theorem dX11_kindOf_24 : decode cX11_kindOf 24 = .ok (.getfield 95, 3) := dz_180 (bX11_kindOf_1 8 _ rfl) (bX11_kindOf_1 9 _ rfl) (bX11_kindOf_1 10 _ rfl)
theorem dX11_kindOf_27 : decode cX11_kindOf 27 = .ok (.iload_n 1, 1) := dz_27 (bX11_kindOf_1 11 _ rfl)
theorem dX11_kindOf_28 : decode cX11_kindOf 28 = .ok (.if_icmp .ne 15, 3) := dz_160 (bX11_kindOf_1 12 _ rfl) (bX11_kindOf_1 13 _ rfl) (bX11_kindOf_1 14 _ rfl)
theorem dX11_kindOf_31 : decode cX11_kindOf 31 = .ok (.aload_n 0, 1) := dz_42 (bX11_kindOf_1 15 _ rfl)
theorem dX11_kindOf_32 : decode cX11_kindOf 32 = .ok (.getfield 12, 3) := dz_180 (bX11_kindOf_2 0 _ rfl) (bX11_kindOf_2 1 _ rfl) (bX11_kindOf_2 2 _ rfl)
theorem dX11_kindOf_35 : decode cX11_kindOf 35 = .ok (.iload_n 2, 1) := dz_28 (bX11_kindOf_2 3 _ rfl)
theorem dX11_kindOf_36 : decode cX11_kindOf 36 = .ok (.invokevirtual 71, 3) := dz_182 (bX11_kindOf_2 4 _ rfl) (bX11_kindOf_2 5 _ rfl) (bX11_kindOf_2 6 _ rfl)
theorem dX11_kindOf_39 : decode cX11_kindOf 39 = .ok (.checkcast 51, 3) := dz_192 (bX11_kindOf_2 7 _ rfl) (bX11_kindOf_2 8 _ rfl) (bX11_kindOf_2 9 _ rfl)
theorem dX11_kindOf_42 : decode cX11_kindOf 42 = .ok (.areturn, 1) := dz_176 (bX11_kindOf_2 10 _ rfl)
theorem dX11_kindOf_43 : decode cX11_kindOf 43 = .ok (.iinc 2 1, 3) := dz_132 (bX11_kindOf_2 11 _ rfl) (bX11_kindOf_2 12 _ rfl) (bX11_kindOf_2 13 _ rfl)
theorem dX11_kindOf_46 : decode cX11_kindOf 46 = .ok (.goto (-44), 3) := dz_167 (bX11_kindOf_2 14 _ rfl) (bX11_kindOf_2 15 _ rfl) (bX11_kindOf_3 0 _ rfl)
theorem dX11_kindOf_49 : decode cX11_kindOf 49 = .ok (.aconst_null, 1) := dz_1 (bX11_kindOf_3 1 _ rfl)
theorem dX11_kindOf_50 : decode cX11_kindOf 50 = .ok (.areturn, 1) := dz_176 (bX11_kindOf_3 2 _ rfl)
def c_X11_kindOf_2 (t0 : Nat) (x1 : Int32) (x2 : Int32)  (w : ch_W) : Option (Int32 ⊕ (Option Nat)) := (ch_gR w (some t0) 12 fX11_kinds).bind fun v1 => (ch_rc w v1 14).bind fun b3 => (c_J5_size b3 w).bind fun v4 => if x2 < v4 then ((ch_gR w (some t0) 12 fX11_kinds).bind fun v6 => (ch_rc w v6 14).bind fun b8 => (c_J5_get b8 x2 w).bind fun v9 => (ch_cast w v9 7).bind fun _ => (ch_gI w v9 7 fX6_name).bind fun v11 => if v11 = x1 then ((ch_gR w (some t0) 12 fX11_kinds).bind fun v12 => (ch_rc w v12 14).bind fun b14 => (c_J5_get b14 x2 w).bind fun v15 => (ch_cast w v15 7).bind fun _ => some (.inr (v15))) else (some (.inl (x2 + 1)))) else (some (.inr (none)))
theorem s_X11_kindOf_2 {g : State} {kb : Bool} {t0 : Nat} {x1 : Int32} {x2 : Int32} {w : ch_W} {res : Int32 ⊕ (Option Nat)} {Q : Outcome → ch_W → Prop} (h : c_X11_kindOf_2 t0 x1 x2 w = some res) (hk : (ch_sm (fun s => ch_FT g kb mX11_kindOf 5 2 [some (va_rf (some t0)), some (.int x1), some (.int s)] [] (w) Q) (fun r => ch_eR Q (r, w))) res) : ch_FT g kb mX11_kindOf 5 2 [some (va_rf (some t0)), some (.int x1), some (.int x2)] [] (w) Q := by
  unfold c_X11_kindOf_2 at h
  refine ch_iload_n 2 _ dX11_kindOf_2 rfl (ch_aload_n 0 (some t0) dX11_kindOf_3 rfl (cp_gR (ci := 11) (k := 1) dX11_kindOf_4 fl_X11_12 rfl h (fun v1 h => ?_)))
  obtain ⟨b3, hb2, h⟩ := ch_bd h
  obtain ⟨v4, hp5, h⟩ := ch_bd h
  refine ch_iv yJ5_size prog_32_method_8_code 1 (some .int) (ci := 13) (q := (RJ5, TJ5, 3)) (b := b3) (d' := 2) (av := []) (rest := [.int x2]) (by rw [ch_rs hb2]; rfl) dX11_kindOf_7 q1061 q608 rfl q609 q610 can_J5_size (Nat.le_of_ble_eq_true rfl) (ch_hw (Nat.le_of_ble_eq_true rfl)) (ch_rtg hb2) (cp_kI (v := v4) (w1 := w) (fun Q' hq => s_J5_size hp5 hq) ?_)
  refine cp_icmp_ge _ _ (tgt := 49) dX11_kindOf_10 rfl h (fun h => ?_) (fun h => ?_)
  · obtain rfl := Option.some.inj h
    exact ch_null dX11_kindOf_49 (ch_areturn none dX11_kindOf_50 rfl (Or.inl ⟨_, rfl⟩) hk)
  · refine ch_aload_n 0 (some t0) dX11_kindOf_13 rfl (cp_gR (ci := 11) (k := 1) dX11_kindOf_14 fl_X11_12 rfl h (fun v6 h => ?_))
    obtain ⟨b8, hb7, h⟩ := ch_bd h
    obtain ⟨v9, hp10, h⟩ := ch_bd h
    refine ch_iload_n 2 _ dX11_kindOf_17 rfl (ch_iv yJ5_get prog_32_method_20_code 2 (some (.object "java/lang/Object")) (ci := 13) (q := (RJ5, TJ5, 3)) (b := b8) (d' := 4) (av := [.int x2]) (rest := []) (by rw [ch_rs hb7]; rfl) dX11_kindOf_18 q1062 q612 rfl q613 q614 can_J5_get (Nat.le_of_ble_eq_true rfl) (Nat.le_of_ble_eq_true rfl) (ch_rtg hb7) (cp_kR (v := v9) (w1 := w) (fun Q' hq => s_J5_get hp10 hq) ?_))
    refine cp_cast (ci := 6) (q := (RX6, TX6, 8)) dX11_kindOf_21 rfl q1054 h (fun h => ?_)
    refine cp_gI (ci := 6) (k := 0) dX11_kindOf_24 fl_X11_95 rfl h (fun v11 h => ?_)
    refine ch_iload_n 1 _ dX11_kindOf_27 rfl (cp_icmp_ne _ _ (tgt := 43) dX11_kindOf_28 rfl h (fun h => ?_) (fun h => ?_))
    · refine ch_iinc 2 _ _ (x2 + 1) (ls1 := [some (va_rf (some t0)), some (.int x1), some (.int (x2 + 1))]) dX11_kindOf_43 rfl rfl (Nat.le_of_ble_eq_true rfl) rfl (ch_goto 2 dX11_kindOf_46 rfl (ch_FT.wk (ch_wS (ch_wS (ch_wS ch_w0))) ?_))
      obtain rfl := Option.some.inj h
      exact hk
    · refine ch_aload_n 0 (some t0) dX11_kindOf_31 rfl (cp_gR (ci := 11) (k := 1) dX11_kindOf_32 fl_X11_12 rfl h (fun v12 h => ?_))
      obtain ⟨b14, hb13, h⟩ := ch_bd h
      obtain ⟨v15, hp16, h⟩ := ch_bd h
      refine ch_iload_n 2 _ dX11_kindOf_35 rfl (ch_iv yJ5_get prog_32_method_20_code 2 (some (.object "java/lang/Object")) (ci := 13) (q := (RJ5, TJ5, 3)) (b := b14) (d' := 4) (av := [.int x2]) (rest := []) (by rw [ch_rs hb13]; rfl) dX11_kindOf_36 q1062 q612 rfl q613 q614 can_J5_get (Nat.le_of_ble_eq_true rfl) (Nat.le_of_ble_eq_true rfl) (ch_rtg hb13) (cp_kR (v := v15) (w1 := w) (fun Q' hq => s_J5_get hp16 hq) ?_))
      refine cp_cast (ci := 6) (q := (RX6, TX6, 8)) dX11_kindOf_39 rfl q1054 h (fun h => ?_)
      obtain rfl := Option.some.inj h
      exact ch_areturn v15 dX11_kindOf_42 rfl (Or.inl ⟨_, rfl⟩) hk
theorem sl_X11_kindOf_2 {g : State} {kb : Bool} {t0 : Nat} {x1 : Int32} {w : ch_W} {a : Int32} {res : Option Nat} {Q : Outcome → ch_W → Prop} (h : ch_loop (fun (s : Int32) => c_X11_kindOf_2 t0 x1 s w) a = some res) (hk : (fun r => ch_eR Q (r, w)) res) : ch_FT g kb mX11_kindOf 5 2 [some (va_rf (some t0)), some (.int x1), some (.int a)] [] (w) Q := by
  refine ch_loop_ind (fun (a : Int32) (r : Option Nat) => (fun r => ch_eR Q (r, w)) r → ch_FT g kb mX11_kindOf 5 2 [some (va_rf (some t0)), some (.int x1), some (.int a)] [] (w) Q) ?_ ?_ a res h hk
  · intro a a2 b h1 ih hk
    exact s_X11_kindOf_2  h1 (ih hk)
  · intro a b h1 hk
    exact s_X11_kindOf_2  h1 hk

def c_X11_kindOf (t0 : Nat) (x1 : Int32) (w : ch_W) : Option (Option Nat) := ch_loop (fun (s : Int32) => c_X11_kindOf_2 t0 x1 s w) (0)
theorem s_X11_kindOf {g : State} {kb : Bool} {t0 : Nat} {x1 : Int32} {w : ch_W} {res : Option Nat} {Q : Outcome → ch_W → Prop} (h : c_X11_kindOf t0 x1 w = some res) (hk : (fun r => ch_eR Q (r, w)) res) : ch_CT g kb yX11_kindOf 5 [.ref t0, .int x1] (w) Q := by
  unfold c_X11_kindOf at h
  refine ch_ctL mX11_kindOf (ls := [some (va_rf (some t0)), some (.int x1), none]) q1122 rfl (ch_lyr (r := some t0) (ch_lyi ch_ly0)) (Nat.le_of_ble_eq_true rfl) rfl ?_
  exact ch_iconst _ 0 dX11_kindOf_0 rfl (ch_istore_n 2 _ (ls1 := [some (va_rf (some t0)), some (.int x1), some (.int 0)]) dX11_kindOf_1 (Nat.le_of_ble_eq_true rfl) rfl (ch_FT.wk (ch_wS (ch_wS (ch_wS ch_w0))) (sl_X11_kindOf_2  h hk)))

theorem bX11_must_0 : ch_ck cX11_must 0 [26, 154, 0, 16, 187, 0, 83, 89, 17, 216, 240, 27, 100, 183, 0, 85] := ch_ckof (by decide +kernel)
theorem bX11_must_1 : ch_ck cX11_must 16 [191, 177] := ch_ckof (by decide +kernel)
theorem dX11_must_0 : decode cX11_must 0 = .ok (.iload_n 0, 1) := dz_26 (bX11_must_0 0 _ rfl)
theorem dX11_must_1 : decode cX11_must 1 = .ok (.ifCond .ne 16, 3) := dz_154 (bX11_must_0 1 _ rfl) (bX11_must_0 2 _ rfl) (bX11_must_0 3 _ rfl)
theorem dX11_must_4 : decode cX11_must 4 = .ok (.new 83, 3) := dz_187 (bX11_must_0 4 _ rfl) (bX11_must_0 5 _ rfl) (bX11_must_0 6 _ rfl)
theorem dX11_must_7 : decode cX11_must 7 = .ok (.dup, 1) := dz_89 (bX11_must_0 7 _ rfl)
theorem dX11_must_8 : decode cX11_must 8 = .ok (.sipush (-10000), 3) := dz_17 (bX11_must_0 8 _ rfl) (bX11_must_0 9 _ rfl) (bX11_must_0 10 _ rfl)
theorem dX11_must_11 : decode cX11_must 11 = .ok (.iload_n 1, 1) := dz_27 (bX11_must_0 11 _ rfl)
theorem dX11_must_12 : decode cX11_must 12 = .ok (.isub, 1) := dz_100 (bX11_must_0 12 _ rfl)
theorem dX11_must_13 : decode cX11_must 13 = .ok (.invokespecial 85, 3) := dz_183 (bX11_must_0 13 _ rfl) (bX11_must_0 14 _ rfl) (bX11_must_0 15 _ rfl)
theorem dX11_must_16 : decode cX11_must 16 = .ok (.athrow, 1) := dz_191 (bX11_must_1 0 _ rfl)
theorem dX11_must_17 : decode cX11_must 17 = .ok (.return_, 1) := dz_177 (bX11_must_1 1 _ rfl)
def c_X11_must (g : State) (x0 : Int32) (x1 : Int32) (w : ch_W) : Option (Except Nat Unit × ch_W) := if x0 = 0 then ((ch_nO w 6 7).bind fun w1 => (c_X5_init g (ch_nx w) ((-10000) - x1) w1).bind fun p2 => (some (ch_nx w)).bind fun a4 => some ((.error a4, p2))) else (some ((.ok (), w)))
theorem s_X11_must {g : State} {x0 : Int32} {x1 : Int32} {w : ch_W} {res : Except Nat Unit × ch_W} {Q : Outcome → ch_W → Prop} (h : c_X11_must g x0 x1 w = some res) (hk : (ch_xV Q) res) : ch_CT g true yX11_must 7 [.int x0, .int x1] (w) Q := by
  unfold c_X11_must at h
  refine ch_ctL mX11_must (ls := [some (.int x0), some (.int x1)]) q1125 rfl (ch_lyi (ch_lyi ch_ly0)) (Nat.le_of_ble_eq_true rfl) rfl ?_
  refine ch_iload_n 0 _ dX11_must_0 rfl (cp_if_ne _ (tgt := 17) dX11_must_1 rfl h (fun h => ?_) (fun h => ?_))
  · obtain rfl := Option.some.inj h
    exact ch_return dX11_must_17 rfl hk
  · refine cp_new (ci := 5) (n := 7) (q := (RX5, TX5, 7)) dX11_must_4 rfl q1126 q566 q215 h (fun w1 h => ?_)
    obtain ⟨p2, hp3, h⟩ := ch_bd h
    refine ch_dup dX11_must_7 (ch_cat _) (ch_sipush _ (-10000) dX11_must_8 rfl (ch_iload_n 1 _ dX11_must_11 rfl (ch_isub _ _ dX11_must_12 (ch_ii yX5_init prog_8_method_1_code 2 (b := (ch_nx w)) (d' := 6) (av := [.int ((-10000) - x1)]) (rest := [va_rf (some (ch_nx w))]) rfl dX11_must_13 rfl q1127 q575 q576 can_X5_init (Nat.le_of_ble_eq_true rfl) (ch_hw (Nat.le_of_ble_eq_true rfl)) (cp_kV (w1 := p2) (fun Q' hq => s_X5_init hp3 hq) ?_)))))
    obtain ⟨a4, ha, h⟩ := ch_bd h
    obtain rfl := Option.some.inj h
    exact ch_athrow (some (ch_nx w)) ha dX11_must_16 rfl hk

theorem bX11_fieldsOf_0 : ch_ck cX11_fieldsOf 0 [3, 60, 3, 61, 28, 42, 180, 0, 116, 182, 0, 67, 162, 0, 34, 27] := ch_ckof (by decide +kernel)
theorem bX11_fieldsOf_1 : ch_ck cX11_fieldsOf 16 [42, 180, 0, 116, 28, 182, 0, 71, 192, 0, 119, 180, 0, 121, 153, 0] := ch_ckof (by decide +kernel)
theorem bX11_fieldsOf_2 : ch_ck cX11_fieldsOf 32 [7, 3, 167, 0, 4, 4, 96, 60, 132, 2, 1, 167, 255, 217, 27, 172] := ch_ckof (by decide +kernel)
theorem dX11_fieldsOf_0 : decode cX11_fieldsOf 0 = .ok (.iconst 0, 1) := dz_3 (bX11_fieldsOf_0 0 _ rfl)
theorem dX11_fieldsOf_1 : decode cX11_fieldsOf 1 = .ok (.istore_n 1, 1) := dz_60 (bX11_fieldsOf_0 1 _ rfl)
theorem dX11_fieldsOf_2 : decode cX11_fieldsOf 2 = .ok (.iconst 0, 1) := dz_3 (bX11_fieldsOf_0 2 _ rfl)
theorem dX11_fieldsOf_3 : decode cX11_fieldsOf 3 = .ok (.istore_n 2, 1) := dz_61 (bX11_fieldsOf_0 3 _ rfl)
theorem dX11_fieldsOf_4 : decode cX11_fieldsOf 4 = .ok (.iload_n 2, 1) := dz_28 (bX11_fieldsOf_0 4 _ rfl)
theorem dX11_fieldsOf_5 : decode cX11_fieldsOf 5 = .ok (.aload_n 0, 1) := dz_42 (bX11_fieldsOf_0 5 _ rfl)
theorem dX11_fieldsOf_6 : decode cX11_fieldsOf 6 = .ok (.getfield 116, 3) := dz_180 (bX11_fieldsOf_0 6 _ rfl) (bX11_fieldsOf_0 7 _ rfl) (bX11_fieldsOf_0 8 _ rfl)
theorem dX11_fieldsOf_9 : decode cX11_fieldsOf 9 = .ok (.invokevirtual 67, 3) := dz_182 (bX11_fieldsOf_0 9 _ rfl) (bX11_fieldsOf_0 10 _ rfl) (bX11_fieldsOf_0 11 _ rfl)
theorem dX11_fieldsOf_12 : decode cX11_fieldsOf 12 = .ok (.if_icmp .ge 34, 3) := dz_162 (bX11_fieldsOf_0 12 _ rfl) (bX11_fieldsOf_0 13 _ rfl) (bX11_fieldsOf_0 14 _ rfl)
theorem dX11_fieldsOf_15 : decode cX11_fieldsOf 15 = .ok (.iload_n 1, 1) := dz_27 (bX11_fieldsOf_0 15 _ rfl)
theorem dX11_fieldsOf_16 : decode cX11_fieldsOf 16 = .ok (.aload_n 0, 1) := dz_42 (bX11_fieldsOf_1 0 _ rfl)
theorem dX11_fieldsOf_17 : decode cX11_fieldsOf 17 = .ok (.getfield 116, 3) := dz_180 (bX11_fieldsOf_1 1 _ rfl) (bX11_fieldsOf_1 2 _ rfl) (bX11_fieldsOf_1 3 _ rfl)
theorem dX11_fieldsOf_20 : decode cX11_fieldsOf 20 = .ok (.iload_n 2, 1) := dz_28 (bX11_fieldsOf_1 4 _ rfl)
theorem dX11_fieldsOf_21 : decode cX11_fieldsOf 21 = .ok (.invokevirtual 71, 3) := dz_182 (bX11_fieldsOf_1 5 _ rfl) (bX11_fieldsOf_1 6 _ rfl) (bX11_fieldsOf_1 7 _ rfl)
theorem dX11_fieldsOf_24 : decode cX11_fieldsOf 24 = .ok (.checkcast 119, 3) := dz_192 (bX11_fieldsOf_1 8 _ rfl) (bX11_fieldsOf_1 9 _ rfl) (bX11_fieldsOf_1 10 _ rfl)
theorem dX11_fieldsOf_27 : decode cX11_fieldsOf 27 = .ok (.getfield 121, 3) := dz_180 (bX11_fieldsOf_1 11 _ rfl) (bX11_fieldsOf_1 12 _ rfl) (bX11_fieldsOf_1 13 _ rfl)
theorem dX11_fieldsOf_30 : decode cX11_fieldsOf 30 = .ok (.ifCond .eq 7, 3) := dz_153 (bX11_fieldsOf_1 14 _ rfl) (bX11_fieldsOf_1 15 _ rfl) (bX11_fieldsOf_2 0 _ rfl)
theorem dX11_fieldsOf_33 : decode cX11_fieldsOf 33 = .ok (.iconst 0, 1) := dz_3 (bX11_fieldsOf_2 1 _ rfl)
theorem dX11_fieldsOf_34 : decode cX11_fieldsOf 34 = .ok (.goto 4, 3) := dz_167 (bX11_fieldsOf_2 2 _ rfl) (bX11_fieldsOf_2 3 _ rfl) (bX11_fieldsOf_2 4 _ rfl)
theorem dX11_fieldsOf_37 : decode cX11_fieldsOf 37 = .ok (.iconst 1, 1) := dz_4 (bX11_fieldsOf_2 5 _ rfl)
theorem dX11_fieldsOf_38 : decode cX11_fieldsOf 38 = .ok (.iadd, 1) := dz_96 (bX11_fieldsOf_2 6 _ rfl)
theorem dX11_fieldsOf_39 : decode cX11_fieldsOf 39 = .ok (.istore_n 1, 1) := dz_60 (bX11_fieldsOf_2 7 _ rfl)
theorem dX11_fieldsOf_40 : decode cX11_fieldsOf 40 = .ok (.iinc 2 1, 3) := dz_132 (bX11_fieldsOf_2 8 _ rfl) (bX11_fieldsOf_2 9 _ rfl) (bX11_fieldsOf_2 10 _ rfl)
theorem dX11_fieldsOf_43 : decode cX11_fieldsOf 43 = .ok (.goto (-39), 3) := dz_167 (bX11_fieldsOf_2 11 _ rfl) (bX11_fieldsOf_2 12 _ rfl) (bX11_fieldsOf_2 13 _ rfl)
theorem dX11_fieldsOf_46 : decode cX11_fieldsOf 46 = .ok (.iload_n 1, 1) := dz_27 (bX11_fieldsOf_2 14 _ rfl)
theorem dX11_fieldsOf_47 : decode cX11_fieldsOf 47 = .ok (.ireturn, 1) := dz_172 (bX11_fieldsOf_2 15 _ rfl)
def c_X11_fieldsOf_4 (x0 : Option Nat) (x1 : Int32) (x2 : Int32)  (w : ch_W) : Option ((Int32 × Int32) ⊕ (Int32)) := (ch_gR w x0 7 fX6_members).bind fun v1 => (ch_rc w v1 14).bind fun b3 => (c_J5_size b3 w).bind fun v4 => if x2 < v4 then ((ch_gR w x0 7 fX6_members).bind fun v6 => (ch_rc w v6 14).bind fun b8 => (c_J5_get b8 x2 w).bind fun v9 => (ch_cast w v9 8).bind fun _ => (ch_gI w v9 8 fX7_isMethod).bind fun v11 => if v11 = 0 then (some (.inl (x1 + 1, x2 + 1))) else (some (.inl (x1 + 0, x2 + 1)))) else (some (.inr (x1)))
theorem s_X11_fieldsOf_4 {g : State} {kb : Bool} {x0 : Option Nat} {x1 : Int32} {x2 : Int32} {w : ch_W} {res : (Int32 × Int32) ⊕ (Int32)} {Q : Outcome → ch_W → Prop} (h : c_X11_fieldsOf_4 x0 x1 x2 w = some res) (hk : (ch_sm (fun s => ch_FT g kb mX11_fieldsOf 5 4 [some (va_rf x0), some (.int s.1), some (.int s.2)] [] (w) Q) (fun r => ch_eI Q (r, w))) res) : ch_FT g kb mX11_fieldsOf 5 4 [some (va_rf x0), some (.int x1), some (.int x2)] [] (w) Q := by
  unfold c_X11_fieldsOf_4 at h
  refine ch_iload_n 2 _ dX11_fieldsOf_4 rfl (ch_aload_n 0 x0 dX11_fieldsOf_5 rfl (cp_gR (ci := 6) (k := 5) dX11_fieldsOf_6 fl_X11_116 rfl h (fun v1 h => ?_)))
  obtain ⟨b3, hb2, h⟩ := ch_bd h
  obtain ⟨v4, hp5, h⟩ := ch_bd h
  refine ch_iv yJ5_size prog_32_method_8_code 1 (some .int) (ci := 13) (q := (RJ5, TJ5, 3)) (b := b3) (d' := 2) (av := []) (rest := [.int x2]) (by rw [ch_rs hb2]; rfl) dX11_fieldsOf_9 q1061 q608 rfl q609 q610 can_J5_size (Nat.le_of_ble_eq_true rfl) (ch_hw (Nat.le_of_ble_eq_true rfl)) (ch_rtg hb2) (cp_kI (v := v4) (w1 := w) (fun Q' hq => s_J5_size hp5 hq) ?_)
  refine cp_icmp_ge _ _ (tgt := 46) dX11_fieldsOf_12 rfl h (fun h => ?_) (fun h => ?_)
  · obtain rfl := Option.some.inj h
    exact ch_iload_n 1 _ dX11_fieldsOf_46 rfl (ch_ireturn _ dX11_fieldsOf_47 rfl rfl hk)
  · refine ch_iload_n 1 _ dX11_fieldsOf_15 rfl (ch_aload_n 0 x0 dX11_fieldsOf_16 rfl (cp_gR (ci := 6) (k := 5) dX11_fieldsOf_17 fl_X11_116 rfl h (fun v6 h => ?_)))
    obtain ⟨b8, hb7, h⟩ := ch_bd h
    obtain ⟨v9, hp10, h⟩ := ch_bd h
    refine ch_iload_n 2 _ dX11_fieldsOf_20 rfl (ch_iv yJ5_get prog_32_method_20_code 2 (some (.object "java/lang/Object")) (ci := 13) (q := (RJ5, TJ5, 3)) (b := b8) (d' := 4) (av := [.int x2]) (rest := [.int x1]) (by rw [ch_rs hb7]; rfl) dX11_fieldsOf_21 q1062 q612 rfl q613 q614 can_J5_get (Nat.le_of_ble_eq_true rfl) (ch_hw (Nat.le_of_ble_eq_true rfl)) (ch_rtg hb7) (cp_kR (v := v9) (w1 := w) (fun Q' hq => s_J5_get hp10 hq) ?_))
    refine cp_cast (ci := 7) (q := (RX7, TX7, 12)) dX11_fieldsOf_24 rfl q1131 h (fun h => ?_)
    refine cp_gI (ci := 7) (k := 0) dX11_fieldsOf_27 fl_X11_121 rfl h (fun v11 h => ?_)
    refine cp_if_eq _ (tgt := 37) dX11_fieldsOf_30 rfl h (fun h => ?_) (fun h => ?_)
    · refine ch_iconst _ 1 dX11_fieldsOf_37 rfl (ch_iadd _ _ dX11_fieldsOf_38 (ch_istore_n 1 _ (ls1 := [some (va_rf x0), some (.int (x1 + 1)), some (.int x2)]) dX11_fieldsOf_39 (Nat.le_of_ble_eq_true rfl) (ch_s1o rfl rfl) (ch_iinc 2 _ _ (x2 + 1) (ls1 := [some (va_rf x0), some (.int (x1 + 1)), some (.int (x2 + 1))]) dX11_fieldsOf_40 rfl rfl (Nat.le_of_ble_eq_true rfl) rfl (ch_goto 4 dX11_fieldsOf_43 rfl (ch_FT.wk (ch_wS (ch_wS (ch_wS ch_w0))) ?_)))))
      obtain rfl := Option.some.inj h
      exact hk
    · refine ch_iconst _ 0 dX11_fieldsOf_33 rfl (ch_goto 38 dX11_fieldsOf_34 rfl (ch_iadd _ _ dX11_fieldsOf_38 (ch_istore_n 1 _ (ls1 := [some (va_rf x0), some (.int (x1 + 0)), some (.int x2)]) dX11_fieldsOf_39 (Nat.le_of_ble_eq_true rfl) (ch_s1o rfl rfl) (ch_iinc 2 _ _ (x2 + 1) (ls1 := [some (va_rf x0), some (.int (x1 + 0)), some (.int (x2 + 1))]) dX11_fieldsOf_40 rfl rfl (Nat.le_of_ble_eq_true rfl) rfl (ch_goto 4 dX11_fieldsOf_43 rfl (ch_FT.wk (ch_wS (ch_wS (ch_wS ch_w0))) ?_))))))
      obtain rfl := Option.some.inj h
      exact hk
theorem sl_X11_fieldsOf_4 {g : State} {kb : Bool} {x0 : Option Nat} {w : ch_W} {a : Int32 × Int32} {res : Int32} {Q : Outcome → ch_W → Prop} (h : ch_loop (fun (s : Int32 × Int32) => c_X11_fieldsOf_4 x0 s.1 s.2 w) a = some res) (hk : (fun r => ch_eI Q (r, w)) res) : ch_FT g kb mX11_fieldsOf 5 4 [some (va_rf x0), some (.int a.1), some (.int a.2)] [] (w) Q := by
  refine ch_loop_ind (fun (a : Int32 × Int32) (r : Int32) => (fun r => ch_eI Q (r, w)) r → ch_FT g kb mX11_fieldsOf 5 4 [some (va_rf x0), some (.int a.1), some (.int a.2)] [] (w) Q) ?_ ?_ a res h hk
  · intro a a2 b h1 ih hk
    exact s_X11_fieldsOf_4  h1 (ih hk)
  · intro a b h1 hk
    exact s_X11_fieldsOf_4  h1 hk

def c_X11_fieldsOf (x0 : Option Nat) (w : ch_W) : Option (Int32) := ch_loop (fun (s : Int32 × Int32) => c_X11_fieldsOf_4 x0 s.1 s.2 w) (0, 0)
theorem s_X11_fieldsOf {g : State} {kb : Bool} {x0 : Option Nat} {w : ch_W} {res : Int32} {Q : Outcome → ch_W → Prop} (h : c_X11_fieldsOf x0 w = some res) (hk : (fun r => ch_eI Q (r, w)) res) : ch_CT g kb yX11_fieldsOf 5 [va_rf x0] (w) Q := by
  unfold c_X11_fieldsOf at h
  refine ch_ctL mX11_fieldsOf (ls := [some (va_rf x0), none, none]) q1130 rfl (ch_lyr (r := x0) ch_ly0) (Nat.le_of_ble_eq_true rfl) rfl ?_
  exact ch_iconst _ 0 dX11_fieldsOf_0 rfl (ch_istore_n 1 _ (ls1 := [some (va_rf x0), some (.int 0), none]) dX11_fieldsOf_1 (Nat.le_of_ble_eq_true rfl) (ch_s1o rfl rfl) (ch_iconst _ 0 dX11_fieldsOf_2 rfl (ch_istore_n 2 _ (ls1 := [some (va_rf x0), some (.int 0), some (.int 0)]) dX11_fieldsOf_3 (Nat.le_of_ble_eq_true rfl) rfl (ch_FT.wk (ch_wS (ch_wS (ch_wS ch_w0))) (sl_X11_fieldsOf_4  h hk)))))

theorem bX11_checkClasses_0 : ch_ck cX11_checkClasses 0 [8, 60, 27, 42, 180, 0, 12, 182, 0, 67, 162, 0, 44, 42, 180, 0] := ch_ckof (by decide +kernel)
theorem bX11_checkClasses_1 : ch_ck cX11_checkClasses 16 [12, 27, 182, 0, 71, 192, 0, 51, 77, 44, 44, 180, 0, 129, 156, 0] := ch_ckof (by decide +kernel)
theorem bX11_checkClasses_2 : ch_ck cX11_checkClasses 32 [7, 1, 167, 0, 11, 42, 44, 180, 0, 129, 182, 0, 98, 181, 0, 132] := ch_ckof (by decide +kernel)
theorem bX11_checkClasses_3 : ch_ck cX11_checkClasses 48 [132, 1, 1, 167, 255, 207, 8, 60, 27, 42, 180, 0, 12, 182, 0, 67] := ch_ckof (by decide +kernel)
theorem bX11_checkClasses_4 : ch_ck cX11_checkClasses 64 [162, 0, 60, 42, 42, 180, 0, 12, 27, 182, 0, 71, 192, 0, 51, 180] := ch_ckof (by decide +kernel)
theorem bX11_checkClasses_5 : ch_ck cX11_checkClasses 80 [0, 95, 182, 0, 98, 42, 180, 0, 12, 27, 182, 0, 71, 166, 0, 7] := ch_ckof (by decide +kernel)
theorem bX11_checkClasses_6 : ch_ck cX11_checkClasses 96 [4, 167, 0, 4, 3, 42, 180, 0, 12, 27, 182, 0, 71, 192, 0, 51] := ch_ckof (by decide +kernel)
theorem bX11_checkClasses_7 : ch_ck cX11_checkClasses 112 [180, 0, 136, 184, 0, 91, 132, 1, 1, 167, 255, 191, 8, 60, 27, 42] := ch_ckof (by decide +kernel)
theorem bX11_checkClasses_8 : ch_ck cX11_checkClasses 128 [180, 0, 12, 182, 0, 67, 162, 0, 65, 42, 180, 0, 12, 27, 182, 0] := ch_ckof (by decide +kernel)
theorem bX11_checkClasses_9 : ch_ck cX11_checkClasses 144 [71, 192, 0, 51, 180, 0, 129, 155, 0, 20, 42, 180, 0, 12, 27, 182] := ch_ckof (by decide +kernel)
theorem bX11_checkClasses_10 : ch_ck cX11_checkClasses 160 [0, 71, 192, 0, 51, 180, 0, 132, 198, 0, 7, 4, 167, 0, 4, 3] := ch_ckof (by decide +kernel)
theorem bX11_checkClasses_11 : ch_ck cX11_checkClasses 176 [42, 180, 0, 12, 27, 182, 0, 71, 192, 0, 51, 180, 0, 136, 184, 0] := ch_ckof (by decide +kernel)
theorem bX11_checkClasses_12 : ch_ck cX11_checkClasses 192 [91, 132, 1, 1, 167, 255, 186, 8, 60, 27, 42, 180, 0, 12, 182, 0] := ch_ckof (by decide +kernel)
theorem bX11_checkClasses_13 : ch_ck cX11_checkClasses 208 [67, 162, 0, 73, 42, 180, 0, 12, 27, 182, 0, 71, 192, 0, 51, 77] := ch_ckof (by decide +kernel)
theorem bX11_checkClasses_14 : ch_ck cX11_checkClasses 224 [44, 180, 0, 132, 78, 3, 54, 4, 21, 4, 42, 180, 0, 12, 182, 0] := ch_ckof (by decide +kernel)
theorem bX11_checkClasses_15 : ch_ck cX11_checkClasses 240 [67, 162, 0, 35, 45, 198, 0, 31, 45, 44, 165, 0, 7, 4, 167, 0] := ch_ckof (by decide +kernel)
theorem bX11_checkClasses_16 : ch_ck cX11_checkClasses 256 [4, 3, 44, 180, 0, 136, 184, 0, 91, 45, 180, 0, 132, 78, 132, 4] := ch_ckof (by decide +kernel)
theorem bX11_checkClasses_17 : ch_ck cX11_checkClasses 272 [1, 167, 255, 215, 132, 1, 1, 167, 255, 178, 8, 60, 27, 42, 180, 0] := ch_ckof (by decide +kernel)
theorem bX11_checkClasses_18 : ch_ck cX11_checkClasses 288 [12, 182, 0, 67, 162, 0, 90, 3, 61, 42, 180, 0, 12, 27, 182, 0] := ch_ckof (by decide +kernel)
theorem bX11_checkClasses_19 : ch_ck cX11_checkClasses 304 [71, 192, 0, 51, 180, 0, 132, 78, 45, 198, 0, 18, 28, 45, 184, 0] := ch_ckof (by decide +kernel)
theorem bX11_checkClasses_20 : ch_ck cX11_checkClasses 320 [139, 96, 61, 45, 180, 0, 132, 78, 167, 255, 240, 42, 180, 0, 12, 27] := ch_ckof (by decide +kernel)
theorem bX11_checkClasses_21 : ch_ck cX11_checkClasses 336 [182, 0, 71, 192, 0, 51, 28, 181, 0, 143, 42, 180, 0, 12, 27, 182] := ch_ckof (by decide +kernel)
theorem bX11_checkClasses_22 : ch_ck cX11_checkClasses 352 [0, 71, 192, 0, 51, 28, 42, 180, 0, 12, 27, 182, 0, 71, 192, 0] := ch_ckof (by decide +kernel)
theorem bX11_checkClasses_23 : ch_ck cX11_checkClasses 368 [51, 184, 0, 139, 96, 181, 0, 146, 132, 1, 1, 167, 255, 161, 177] := ch_ckof (by decide +kernel)
theorem dX11_checkClasses_0 : decode cX11_checkClasses 0 = .ok (.iconst 5, 1) := dz_8 (bX11_checkClasses_0 0 _ rfl)
theorem dX11_checkClasses_1 : decode cX11_checkClasses 1 = .ok (.istore_n 1, 1) := dz_60 (bX11_checkClasses_0 1 _ rfl)
theorem dX11_checkClasses_2 : decode cX11_checkClasses 2 = .ok (.iload_n 1, 1) := dz_27 (bX11_checkClasses_0 2 _ rfl)
theorem dX11_checkClasses_3 : decode cX11_checkClasses 3 = .ok (.aload_n 0, 1) := dz_42 (bX11_checkClasses_0 3 _ rfl)
theorem dX11_checkClasses_4 : decode cX11_checkClasses 4 = .ok (.getfield 12, 3) := dz_180 (bX11_checkClasses_0 4 _ rfl) (bX11_checkClasses_0 5 _ rfl) (bX11_checkClasses_0 6 _ rfl)
theorem dX11_checkClasses_7 : decode cX11_checkClasses 7 = .ok (.invokevirtual 67, 3) := dz_182 (bX11_checkClasses_0 7 _ rfl) (bX11_checkClasses_0 8 _ rfl) (bX11_checkClasses_0 9 _ rfl)
theorem dX11_checkClasses_10 : decode cX11_checkClasses 10 = .ok (.if_icmp .ge 44, 3) := dz_162 (bX11_checkClasses_0 10 _ rfl) (bX11_checkClasses_0 11 _ rfl) (bX11_checkClasses_0 12 _ rfl)
theorem dX11_checkClasses_13 : decode cX11_checkClasses 13 = .ok (.aload_n 0, 1) := dz_42 (bX11_checkClasses_0 13 _ rfl)
theorem dX11_checkClasses_14 : decode cX11_checkClasses 14 = .ok (.getfield 12, 3) := dz_180 (bX11_checkClasses_0 14 _ rfl) (bX11_checkClasses_0 15 _ rfl) (bX11_checkClasses_1 0 _ rfl)
theorem dX11_checkClasses_17 : decode cX11_checkClasses 17 = .ok (.iload_n 1, 1) := dz_27 (bX11_checkClasses_1 1 _ rfl)
theorem dX11_checkClasses_18 : decode cX11_checkClasses 18 = .ok (.invokevirtual 71, 3) := dz_182 (bX11_checkClasses_1 2 _ rfl) (bX11_checkClasses_1 3 _ rfl) (bX11_checkClasses_1 4 _ rfl)
theorem dX11_checkClasses_21 : decode cX11_checkClasses 21 = .ok (.checkcast 51, 3) := dz_192 (bX11_checkClasses_1 5 _ rfl) (bX11_checkClasses_1 6 _ rfl) (bX11_checkClasses_1 7 _ rfl)
theorem dX11_checkClasses_24 : decode cX11_checkClasses 24 = .ok (.astore_n 2, 1) := dz_77 (bX11_checkClasses_1 8 _ rfl)
theorem dX11_checkClasses_25 : decode cX11_checkClasses 25 = .ok (.aload_n 2, 1) := dz_44 (bX11_checkClasses_1 9 _ rfl)
theorem dX11_checkClasses_26 : decode cX11_checkClasses 26 = .ok (.aload_n 2, 1) := dz_44 (bX11_checkClasses_1 10 _ rfl)
theorem dX11_checkClasses_27 : decode cX11_checkClasses 27 = .ok (.getfield 129, 3) := dz_180 (bX11_checkClasses_1 11 _ rfl) (bX11_checkClasses_1 12 _ rfl) (bX11_checkClasses_1 13 _ rfl)
theorem dX11_checkClasses_30 : decode cX11_checkClasses 30 = .ok (.ifCond .ge 7, 3) := dz_156 (bX11_checkClasses_1 14 _ rfl) (bX11_checkClasses_1 15 _ rfl) (bX11_checkClasses_2 0 _ rfl)
theorem dX11_checkClasses_33 : decode cX11_checkClasses 33 = .ok (.aconst_null, 1) := dz_1 (bX11_checkClasses_2 1 _ rfl)
theorem dX11_checkClasses_34 : decode cX11_checkClasses 34 = .ok (.goto 11, 3) := dz_167 (bX11_checkClasses_2 2 _ rfl) (bX11_checkClasses_2 3 _ rfl) (bX11_checkClasses_2 4 _ rfl)
theorem dX11_checkClasses_37 : decode cX11_checkClasses 37 = .ok (.aload_n 0, 1) := dz_42 (bX11_checkClasses_2 5 _ rfl)
theorem dX11_checkClasses_38 : decode cX11_checkClasses 38 = .ok (.aload_n 2, 1) := dz_44 (bX11_checkClasses_2 6 _ rfl)
theorem dX11_checkClasses_39 : decode cX11_checkClasses 39 = .ok (.getfield 129, 3) := dz_180 (bX11_checkClasses_2 7 _ rfl) (bX11_checkClasses_2 8 _ rfl) (bX11_checkClasses_2 9 _ rfl)
theorem dX11_checkClasses_42 : decode cX11_checkClasses 42 = .ok (.invokevirtual 98, 3) := dz_182 (bX11_checkClasses_2 10 _ rfl) (bX11_checkClasses_2 11 _ rfl) (bX11_checkClasses_2 12 _ rfl)
theorem dX11_checkClasses_45 : decode cX11_checkClasses 45 = .ok (.putfield 132, 3) := dz_181 (bX11_checkClasses_2 13 _ rfl) (bX11_checkClasses_2 14 _ rfl) (bX11_checkClasses_2 15 _ rfl)
theorem dX11_checkClasses_48 : decode cX11_checkClasses 48 = .ok (.iinc 1 1, 3) := dz_132 (bX11_checkClasses_3 0 _ rfl) (bX11_checkClasses_3 1 _ rfl) (bX11_checkClasses_3 2 _ rfl)
theorem dX11_checkClasses_51 : decode cX11_checkClasses 51 = .ok (.goto (-49), 3) := dz_167 (bX11_checkClasses_3 3 _ rfl) (bX11_checkClasses_3 4 _ rfl) (bX11_checkClasses_3 5 _ rfl)
theorem dX11_checkClasses_54 : decode cX11_checkClasses 54 = .ok (.iconst 5, 1) := dz_8 (bX11_checkClasses_3 6 _ rfl)
theorem dX11_checkClasses_55 : decode cX11_checkClasses 55 = .ok (.istore_n 1, 1) := dz_60 (bX11_checkClasses_3 7 _ rfl)
theorem dX11_checkClasses_56 : decode cX11_checkClasses 56 = .ok (.iload_n 1, 1) := dz_27 (bX11_checkClasses_3 8 _ rfl)
theorem dX11_checkClasses_57 : decode cX11_checkClasses 57 = .ok (.aload_n 0, 1) := dz_42 (bX11_checkClasses_3 9 _ rfl)
theorem dX11_checkClasses_58 : decode cX11_checkClasses 58 = .ok (.getfield 12, 3) := dz_180 (bX11_checkClasses_3 10 _ rfl) (bX11_checkClasses_3 11 _ rfl) (bX11_checkClasses_3 12 _ rfl)
theorem dX11_checkClasses_61 : decode cX11_checkClasses 61 = .ok (.invokevirtual 67, 3) := dz_182 (bX11_checkClasses_3 13 _ rfl) (bX11_checkClasses_3 14 _ rfl) (bX11_checkClasses_3 15 _ rfl)
theorem dX11_checkClasses_64 : decode cX11_checkClasses 64 = .ok (.if_icmp .ge 60, 3) := dz_162 (bX11_checkClasses_4 0 _ rfl) (bX11_checkClasses_4 1 _ rfl) (bX11_checkClasses_4 2 _ rfl)
theorem dX11_checkClasses_67 : decode cX11_checkClasses 67 = .ok (.aload_n 0, 1) := dz_42 (bX11_checkClasses_4 3 _ rfl)
theorem dX11_checkClasses_68 : decode cX11_checkClasses 68 = .ok (.aload_n 0, 1) := dz_42 (bX11_checkClasses_4 4 _ rfl)
theorem dX11_checkClasses_69 : decode cX11_checkClasses 69 = .ok (.getfield 12, 3) := dz_180 (bX11_checkClasses_4 5 _ rfl) (bX11_checkClasses_4 6 _ rfl) (bX11_checkClasses_4 7 _ rfl)
theorem dX11_checkClasses_72 : decode cX11_checkClasses 72 = .ok (.iload_n 1, 1) := dz_27 (bX11_checkClasses_4 8 _ rfl)
theorem dX11_checkClasses_73 : decode cX11_checkClasses 73 = .ok (.invokevirtual 71, 3) := dz_182 (bX11_checkClasses_4 9 _ rfl) (bX11_checkClasses_4 10 _ rfl) (bX11_checkClasses_4 11 _ rfl)
theorem dX11_checkClasses_76 : decode cX11_checkClasses 76 = .ok (.checkcast 51, 3) := dz_192 (bX11_checkClasses_4 12 _ rfl) (bX11_checkClasses_4 13 _ rfl) (bX11_checkClasses_4 14 _ rfl)
theorem dX11_checkClasses_79 : decode cX11_checkClasses 79 = .ok (.getfield 95, 3) := dz_180 (bX11_checkClasses_4 15 _ rfl) (bX11_checkClasses_5 0 _ rfl) (bX11_checkClasses_5 1 _ rfl)
theorem dX11_checkClasses_82 : decode cX11_checkClasses 82 = .ok (.invokevirtual 98, 3) := dz_182 (bX11_checkClasses_5 2 _ rfl) (bX11_checkClasses_5 3 _ rfl) (bX11_checkClasses_5 4 _ rfl)
theorem dX11_checkClasses_85 : decode cX11_checkClasses 85 = .ok (.aload_n 0, 1) := dz_42 (bX11_checkClasses_5 5 _ rfl)
theorem dX11_checkClasses_86 : decode cX11_checkClasses 86 = .ok (.getfield 12, 3) := dz_180 (bX11_checkClasses_5 6 _ rfl) (bX11_checkClasses_5 7 _ rfl) (bX11_checkClasses_5 8 _ rfl)
theorem dX11_checkClasses_89 : decode cX11_checkClasses 89 = .ok (.iload_n 1, 1) := dz_27 (bX11_checkClasses_5 9 _ rfl)
theorem dX11_checkClasses_90 : decode cX11_checkClasses 90 = .ok (.invokevirtual 71, 3) := dz_182 (bX11_checkClasses_5 10 _ rfl) (bX11_checkClasses_5 11 _ rfl) (bX11_checkClasses_5 12 _ rfl)
theorem dX11_checkClasses_93 : decode cX11_checkClasses 93 = .ok (.if_acmp .ne 7, 3) := dz_166 (bX11_checkClasses_5 13 _ rfl) (bX11_checkClasses_5 14 _ rfl) (bX11_checkClasses_5 15 _ rfl)
theorem dX11_checkClasses_96 : decode cX11_checkClasses 96 = .ok (.iconst 1, 1) := dz_4 (bX11_checkClasses_6 0 _ rfl)
theorem dX11_checkClasses_97 : decode cX11_checkClasses 97 = .ok (.goto 4, 3) := dz_167 (bX11_checkClasses_6 1 _ rfl) (bX11_checkClasses_6 2 _ rfl) (bX11_checkClasses_6 3 _ rfl)
theorem dX11_checkClasses_100 : decode cX11_checkClasses 100 = .ok (.iconst 0, 1) := dz_3 (bX11_checkClasses_6 4 _ rfl)
theorem dX11_checkClasses_101 : decode cX11_checkClasses 101 = .ok (.aload_n 0, 1) := dz_42 (bX11_checkClasses_6 5 _ rfl)
theorem dX11_checkClasses_102 : decode cX11_checkClasses 102 = .ok (.getfield 12, 3) := dz_180 (bX11_checkClasses_6 6 _ rfl) (bX11_checkClasses_6 7 _ rfl) (bX11_checkClasses_6 8 _ rfl)
theorem dX11_checkClasses_105 : decode cX11_checkClasses 105 = .ok (.iload_n 1, 1) := dz_27 (bX11_checkClasses_6 9 _ rfl)
theorem dX11_checkClasses_106 : decode cX11_checkClasses 106 = .ok (.invokevirtual 71, 3) := dz_182 (bX11_checkClasses_6 10 _ rfl) (bX11_checkClasses_6 11 _ rfl) (bX11_checkClasses_6 12 _ rfl)
theorem dX11_checkClasses_109 : decode cX11_checkClasses 109 = .ok (.checkcast 51, 3) := dz_192 (bX11_checkClasses_6 13 _ rfl) (bX11_checkClasses_6 14 _ rfl) (bX11_checkClasses_6 15 _ rfl)
theorem dX11_checkClasses_112 : decode cX11_checkClasses 112 = .ok (.getfield 136, 3) := dz_180 (bX11_checkClasses_7 0 _ rfl) (bX11_checkClasses_7 1 _ rfl) (bX11_checkClasses_7 2 _ rfl)
theorem dX11_checkClasses_115 : decode cX11_checkClasses 115 = .ok (.invokestatic 91, 3) := dz_184 (bX11_checkClasses_7 3 _ rfl) (bX11_checkClasses_7 4 _ rfl) (bX11_checkClasses_7 5 _ rfl)
theorem dX11_checkClasses_118 : decode cX11_checkClasses 118 = .ok (.iinc 1 1, 3) := dz_132 (bX11_checkClasses_7 6 _ rfl) (bX11_checkClasses_7 7 _ rfl) (bX11_checkClasses_7 8 _ rfl)
theorem dX11_checkClasses_121 : decode cX11_checkClasses 121 = .ok (.goto (-65), 3) := dz_167 (bX11_checkClasses_7 9 _ rfl) (bX11_checkClasses_7 10 _ rfl) (bX11_checkClasses_7 11 _ rfl)
theorem dX11_checkClasses_124 : decode cX11_checkClasses 124 = .ok (.iconst 5, 1) := dz_8 (bX11_checkClasses_7 12 _ rfl)
theorem dX11_checkClasses_125 : decode cX11_checkClasses 125 = .ok (.istore_n 1, 1) := dz_60 (bX11_checkClasses_7 13 _ rfl)
theorem dX11_checkClasses_126 : decode cX11_checkClasses 126 = .ok (.iload_n 1, 1) := dz_27 (bX11_checkClasses_7 14 _ rfl)
theorem dX11_checkClasses_127 : decode cX11_checkClasses 127 = .ok (.aload_n 0, 1) := dz_42 (bX11_checkClasses_7 15 _ rfl)
theorem dX11_checkClasses_128 : decode cX11_checkClasses 128 = .ok (.getfield 12, 3) := dz_180 (bX11_checkClasses_8 0 _ rfl) (bX11_checkClasses_8 1 _ rfl) (bX11_checkClasses_8 2 _ rfl)
theorem dX11_checkClasses_131 : decode cX11_checkClasses 131 = .ok (.invokevirtual 67, 3) := dz_182 (bX11_checkClasses_8 3 _ rfl) (bX11_checkClasses_8 4 _ rfl) (bX11_checkClasses_8 5 _ rfl)
theorem dX11_checkClasses_134 : decode cX11_checkClasses 134 = .ok (.if_icmp .ge 65, 3) := dz_162 (bX11_checkClasses_8 6 _ rfl) (bX11_checkClasses_8 7 _ rfl) (bX11_checkClasses_8 8 _ rfl)
theorem dX11_checkClasses_137 : decode cX11_checkClasses 137 = .ok (.aload_n 0, 1) := dz_42 (bX11_checkClasses_8 9 _ rfl)
theorem dX11_checkClasses_138 : decode cX11_checkClasses 138 = .ok (.getfield 12, 3) := dz_180 (bX11_checkClasses_8 10 _ rfl) (bX11_checkClasses_8 11 _ rfl) (bX11_checkClasses_8 12 _ rfl)
theorem dX11_checkClasses_141 : decode cX11_checkClasses 141 = .ok (.iload_n 1, 1) := dz_27 (bX11_checkClasses_8 13 _ rfl)
theorem dX11_checkClasses_142 : decode cX11_checkClasses 142 = .ok (.invokevirtual 71, 3) := dz_182 (bX11_checkClasses_8 14 _ rfl) (bX11_checkClasses_8 15 _ rfl) (bX11_checkClasses_9 0 _ rfl)
theorem dX11_checkClasses_145 : decode cX11_checkClasses 145 = .ok (.checkcast 51, 3) := dz_192 (bX11_checkClasses_9 1 _ rfl) (bX11_checkClasses_9 2 _ rfl) (bX11_checkClasses_9 3 _ rfl)
theorem dX11_checkClasses_148 : decode cX11_checkClasses 148 = .ok (.getfield 129, 3) := dz_180 (bX11_checkClasses_9 4 _ rfl) (bX11_checkClasses_9 5 _ rfl) (bX11_checkClasses_9 6 _ rfl)
theorem dX11_checkClasses_151 : decode cX11_checkClasses 151 = .ok (.ifCond .lt 20, 3) := dz_155 (bX11_checkClasses_9 7 _ rfl) (bX11_checkClasses_9 8 _ rfl) (bX11_checkClasses_9 9 _ rfl)
theorem dX11_checkClasses_154 : decode cX11_checkClasses 154 = .ok (.aload_n 0, 1) := dz_42 (bX11_checkClasses_9 10 _ rfl)
theorem dX11_checkClasses_155 : decode cX11_checkClasses 155 = .ok (.getfield 12, 3) := dz_180 (bX11_checkClasses_9 11 _ rfl) (bX11_checkClasses_9 12 _ rfl) (bX11_checkClasses_9 13 _ rfl)
theorem dX11_checkClasses_158 : decode cX11_checkClasses 158 = .ok (.iload_n 1, 1) := dz_27 (bX11_checkClasses_9 14 _ rfl)
theorem dX11_checkClasses_159 : decode cX11_checkClasses 159 = .ok (.invokevirtual 71, 3) := dz_182 (bX11_checkClasses_9 15 _ rfl) (bX11_checkClasses_10 0 _ rfl) (bX11_checkClasses_10 1 _ rfl)
theorem dX11_checkClasses_162 : decode cX11_checkClasses 162 = .ok (.checkcast 51, 3) := dz_192 (bX11_checkClasses_10 2 _ rfl) (bX11_checkClasses_10 3 _ rfl) (bX11_checkClasses_10 4 _ rfl)
theorem dX11_checkClasses_165 : decode cX11_checkClasses 165 = .ok (.getfield 132, 3) := dz_180 (bX11_checkClasses_10 5 _ rfl) (bX11_checkClasses_10 6 _ rfl) (bX11_checkClasses_10 7 _ rfl)
theorem dX11_checkClasses_168 : decode cX11_checkClasses 168 = .ok (.ifnull 7, 3) := dz_198 (bX11_checkClasses_10 8 _ rfl) (bX11_checkClasses_10 9 _ rfl) (bX11_checkClasses_10 10 _ rfl)
theorem dX11_checkClasses_171 : decode cX11_checkClasses 171 = .ok (.iconst 1, 1) := dz_4 (bX11_checkClasses_10 11 _ rfl)
theorem dX11_checkClasses_172 : decode cX11_checkClasses 172 = .ok (.goto 4, 3) := dz_167 (bX11_checkClasses_10 12 _ rfl) (bX11_checkClasses_10 13 _ rfl) (bX11_checkClasses_10 14 _ rfl)
theorem dX11_checkClasses_175 : decode cX11_checkClasses 175 = .ok (.iconst 0, 1) := dz_3 (bX11_checkClasses_10 15 _ rfl)
theorem dX11_checkClasses_176 : decode cX11_checkClasses 176 = .ok (.aload_n 0, 1) := dz_42 (bX11_checkClasses_11 0 _ rfl)
theorem dX11_checkClasses_177 : decode cX11_checkClasses 177 = .ok (.getfield 12, 3) := dz_180 (bX11_checkClasses_11 1 _ rfl) (bX11_checkClasses_11 2 _ rfl) (bX11_checkClasses_11 3 _ rfl)
theorem dX11_checkClasses_180 : decode cX11_checkClasses 180 = .ok (.iload_n 1, 1) := dz_27 (bX11_checkClasses_11 4 _ rfl)
theorem dX11_checkClasses_181 : decode cX11_checkClasses 181 = .ok (.invokevirtual 71, 3) := dz_182 (bX11_checkClasses_11 5 _ rfl) (bX11_checkClasses_11 6 _ rfl) (bX11_checkClasses_11 7 _ rfl)
theorem dX11_checkClasses_184 : decode cX11_checkClasses 184 = .ok (.checkcast 51, 3) := dz_192 (bX11_checkClasses_11 8 _ rfl) (bX11_checkClasses_11 9 _ rfl) (bX11_checkClasses_11 10 _ rfl)
theorem dX11_checkClasses_187 : decode cX11_checkClasses 187 = .ok (.getfield 136, 3) := dz_180 (bX11_checkClasses_11 11 _ rfl) (bX11_checkClasses_11 12 _ rfl) (bX11_checkClasses_11 13 _ rfl)
theorem dX11_checkClasses_190 : decode cX11_checkClasses 190 = .ok (.invokestatic 91, 3) := dz_184 (bX11_checkClasses_11 14 _ rfl) (bX11_checkClasses_11 15 _ rfl) (bX11_checkClasses_12 0 _ rfl)
theorem dX11_checkClasses_193 : decode cX11_checkClasses 193 = .ok (.iinc 1 1, 3) := dz_132 (bX11_checkClasses_12 1 _ rfl) (bX11_checkClasses_12 2 _ rfl) (bX11_checkClasses_12 3 _ rfl)
theorem dX11_checkClasses_196 : decode cX11_checkClasses 196 = .ok (.goto (-70), 3) := dz_167 (bX11_checkClasses_12 4 _ rfl) (bX11_checkClasses_12 5 _ rfl) (bX11_checkClasses_12 6 _ rfl)
theorem dX11_checkClasses_199 : decode cX11_checkClasses 199 = .ok (.iconst 5, 1) := dz_8 (bX11_checkClasses_12 7 _ rfl)
theorem dX11_checkClasses_200 : decode cX11_checkClasses 200 = .ok (.istore_n 1, 1) := dz_60 (bX11_checkClasses_12 8 _ rfl)
theorem dX11_checkClasses_201 : decode cX11_checkClasses 201 = .ok (.iload_n 1, 1) := dz_27 (bX11_checkClasses_12 9 _ rfl)
theorem dX11_checkClasses_202 : decode cX11_checkClasses 202 = .ok (.aload_n 0, 1) := dz_42 (bX11_checkClasses_12 10 _ rfl)
theorem dX11_checkClasses_203 : decode cX11_checkClasses 203 = .ok (.getfield 12, 3) := dz_180 (bX11_checkClasses_12 11 _ rfl) (bX11_checkClasses_12 12 _ rfl) (bX11_checkClasses_12 13 _ rfl)
theorem dX11_checkClasses_206 : decode cX11_checkClasses 206 = .ok (.invokevirtual 67, 3) := dz_182 (bX11_checkClasses_12 14 _ rfl) (bX11_checkClasses_12 15 _ rfl) (bX11_checkClasses_13 0 _ rfl)
theorem dX11_checkClasses_209 : decode cX11_checkClasses 209 = .ok (.if_icmp .ge 73, 3) := dz_162 (bX11_checkClasses_13 1 _ rfl) (bX11_checkClasses_13 2 _ rfl) (bX11_checkClasses_13 3 _ rfl)
theorem dX11_checkClasses_212 : decode cX11_checkClasses 212 = .ok (.aload_n 0, 1) := dz_42 (bX11_checkClasses_13 4 _ rfl)
theorem dX11_checkClasses_213 : decode cX11_checkClasses 213 = .ok (.getfield 12, 3) := dz_180 (bX11_checkClasses_13 5 _ rfl) (bX11_checkClasses_13 6 _ rfl) (bX11_checkClasses_13 7 _ rfl)
theorem dX11_checkClasses_216 : decode cX11_checkClasses 216 = .ok (.iload_n 1, 1) := dz_27 (bX11_checkClasses_13 8 _ rfl)
theorem dX11_checkClasses_217 : decode cX11_checkClasses 217 = .ok (.invokevirtual 71, 3) := dz_182 (bX11_checkClasses_13 9 _ rfl) (bX11_checkClasses_13 10 _ rfl) (bX11_checkClasses_13 11 _ rfl)
theorem dX11_checkClasses_220 : decode cX11_checkClasses 220 = .ok (.checkcast 51, 3) := dz_192 (bX11_checkClasses_13 12 _ rfl) (bX11_checkClasses_13 13 _ rfl) (bX11_checkClasses_13 14 _ rfl)
theorem dX11_checkClasses_223 : decode cX11_checkClasses 223 = .ok (.astore_n 2, 1) := dz_77 (bX11_checkClasses_13 15 _ rfl)
theorem dX11_checkClasses_224 : decode cX11_checkClasses 224 = .ok (.aload_n 2, 1) := dz_44 (bX11_checkClasses_14 0 _ rfl)
theorem dX11_checkClasses_225 : decode cX11_checkClasses 225 = .ok (.getfield 132, 3) := dz_180 (bX11_checkClasses_14 1 _ rfl) (bX11_checkClasses_14 2 _ rfl) (bX11_checkClasses_14 3 _ rfl)
theorem dX11_checkClasses_228 : decode cX11_checkClasses 228 = .ok (.astore_n 3, 1) := dz_78 (bX11_checkClasses_14 4 _ rfl)
theorem dX11_checkClasses_229 : decode cX11_checkClasses 229 = .ok (.iconst 0, 1) := dz_3 (bX11_checkClasses_14 5 _ rfl)
theorem dX11_checkClasses_230 : decode cX11_checkClasses 230 = .ok (.istore 4, 2) := dz_54 (bX11_checkClasses_14 6 _ rfl) (bX11_checkClasses_14 7 _ rfl)
theorem dX11_checkClasses_232 : decode cX11_checkClasses 232 = .ok (.iload 4, 2) := dz_21 (bX11_checkClasses_14 8 _ rfl) (bX11_checkClasses_14 9 _ rfl)
theorem dX11_checkClasses_234 : decode cX11_checkClasses 234 = .ok (.aload_n 0, 1) := dz_42 (bX11_checkClasses_14 10 _ rfl)
theorem dX11_checkClasses_235 : decode cX11_checkClasses 235 = .ok (.getfield 12, 3) := dz_180 (bX11_checkClasses_14 11 _ rfl) (bX11_checkClasses_14 12 _ rfl) (bX11_checkClasses_14 13 _ rfl)
theorem dX11_checkClasses_238 : decode cX11_checkClasses 238 = .ok (.invokevirtual 67, 3) := dz_182 (bX11_checkClasses_14 14 _ rfl) (bX11_checkClasses_14 15 _ rfl) (bX11_checkClasses_15 0 _ rfl)
theorem dX11_checkClasses_241 : decode cX11_checkClasses 241 = .ok (.if_icmp .ge 35, 3) := dz_162 (bX11_checkClasses_15 1 _ rfl) (bX11_checkClasses_15 2 _ rfl) (bX11_checkClasses_15 3 _ rfl)
theorem dX11_checkClasses_244 : decode cX11_checkClasses 244 = .ok (.aload_n 3, 1) := dz_45 (bX11_checkClasses_15 4 _ rfl)
theorem dX11_checkClasses_245 : decode cX11_checkClasses 245 = .ok (.ifnull 31, 3) := dz_198 (bX11_checkClasses_15 5 _ rfl) (bX11_checkClasses_15 6 _ rfl) (bX11_checkClasses_15 7 _ rfl)
theorem dX11_checkClasses_248 : decode cX11_checkClasses 248 = .ok (.aload_n 3, 1) := dz_45 (bX11_checkClasses_15 8 _ rfl)
theorem dX11_checkClasses_249 : decode cX11_checkClasses 249 = .ok (.aload_n 2, 1) := dz_44 (bX11_checkClasses_15 9 _ rfl)
theorem dX11_checkClasses_250 : decode cX11_checkClasses 250 = .ok (.if_acmp .eq 7, 3) := dz_165 (bX11_checkClasses_15 10 _ rfl) (bX11_checkClasses_15 11 _ rfl) (bX11_checkClasses_15 12 _ rfl)
theorem dX11_checkClasses_253 : decode cX11_checkClasses 253 = .ok (.iconst 1, 1) := dz_4 (bX11_checkClasses_15 13 _ rfl)
theorem dX11_checkClasses_254 : decode cX11_checkClasses 254 = .ok (.goto 4, 3) := dz_167 (bX11_checkClasses_15 14 _ rfl) (bX11_checkClasses_15 15 _ rfl) (bX11_checkClasses_16 0 _ rfl)
theorem dX11_checkClasses_257 : decode cX11_checkClasses 257 = .ok (.iconst 0, 1) := dz_3 (bX11_checkClasses_16 1 _ rfl)
theorem dX11_checkClasses_258 : decode cX11_checkClasses 258 = .ok (.aload_n 2, 1) := dz_44 (bX11_checkClasses_16 2 _ rfl)
theorem dX11_checkClasses_259 : decode cX11_checkClasses 259 = .ok (.getfield 136, 3) := dz_180 (bX11_checkClasses_16 3 _ rfl) (bX11_checkClasses_16 4 _ rfl) (bX11_checkClasses_16 5 _ rfl)
theorem dX11_checkClasses_262 : decode cX11_checkClasses 262 = .ok (.invokestatic 91, 3) := dz_184 (bX11_checkClasses_16 6 _ rfl) (bX11_checkClasses_16 7 _ rfl) (bX11_checkClasses_16 8 _ rfl)
theorem dX11_checkClasses_265 : decode cX11_checkClasses 265 = .ok (.aload_n 3, 1) := dz_45 (bX11_checkClasses_16 9 _ rfl)
theorem dX11_checkClasses_266 : decode cX11_checkClasses 266 = .ok (.getfield 132, 3) := dz_180 (bX11_checkClasses_16 10 _ rfl) (bX11_checkClasses_16 11 _ rfl) (bX11_checkClasses_16 12 _ rfl)
theorem dX11_checkClasses_269 : decode cX11_checkClasses 269 = .ok (.astore_n 3, 1) := dz_78 (bX11_checkClasses_16 13 _ rfl)
theorem dX11_checkClasses_270 : decode cX11_checkClasses 270 = .ok (.iinc 4 1, 3) := dz_132 (bX11_checkClasses_16 14 _ rfl) (bX11_checkClasses_16 15 _ rfl) (bX11_checkClasses_17 0 _ rfl)
theorem dX11_checkClasses_273 : decode cX11_checkClasses 273 = .ok (.goto (-41), 3) := dz_167 (bX11_checkClasses_17 1 _ rfl) (bX11_checkClasses_17 2 _ rfl) (bX11_checkClasses_17 3 _ rfl)
theorem dX11_checkClasses_276 : decode cX11_checkClasses 276 = .ok (.iinc 1 1, 3) := dz_132 (bX11_checkClasses_17 4 _ rfl) (bX11_checkClasses_17 5 _ rfl) (bX11_checkClasses_17 6 _ rfl)
theorem dX11_checkClasses_279 : decode cX11_checkClasses 279 = .ok (.goto (-78), 3) := dz_167 (bX11_checkClasses_17 7 _ rfl) (bX11_checkClasses_17 8 _ rfl) (bX11_checkClasses_17 9 _ rfl)
theorem dX11_checkClasses_282 : decode cX11_checkClasses 282 = .ok (.iconst 5, 1) := dz_8 (bX11_checkClasses_17 10 _ rfl)
theorem dX11_checkClasses_283 : decode cX11_checkClasses 283 = .ok (.istore_n 1, 1) := dz_60 (bX11_checkClasses_17 11 _ rfl)
theorem dX11_checkClasses_284 : decode cX11_checkClasses 284 = .ok (.iload_n 1, 1) := dz_27 (bX11_checkClasses_17 12 _ rfl)
theorem dX11_checkClasses_285 : decode cX11_checkClasses 285 = .ok (.aload_n 0, 1) := dz_42 (bX11_checkClasses_17 13 _ rfl)
theorem dX11_checkClasses_286 : decode cX11_checkClasses 286 = .ok (.getfield 12, 3) := dz_180 (bX11_checkClasses_17 14 _ rfl) (bX11_checkClasses_17 15 _ rfl) (bX11_checkClasses_18 0 _ rfl)
theorem dX11_checkClasses_289 : decode cX11_checkClasses 289 = .ok (.invokevirtual 67, 3) := dz_182 (bX11_checkClasses_18 1 _ rfl) (bX11_checkClasses_18 2 _ rfl) (bX11_checkClasses_18 3 _ rfl)
theorem dX11_checkClasses_292 : decode cX11_checkClasses 292 = .ok (.if_icmp .ge 90, 3) := dz_162 (bX11_checkClasses_18 4 _ rfl) (bX11_checkClasses_18 5 _ rfl) (bX11_checkClasses_18 6 _ rfl)
theorem dX11_checkClasses_295 : decode cX11_checkClasses 295 = .ok (.iconst 0, 1) := dz_3 (bX11_checkClasses_18 7 _ rfl)
theorem dX11_checkClasses_296 : decode cX11_checkClasses 296 = .ok (.istore_n 2, 1) := dz_61 (bX11_checkClasses_18 8 _ rfl)
theorem dX11_checkClasses_297 : decode cX11_checkClasses 297 = .ok (.aload_n 0, 1) := dz_42 (bX11_checkClasses_18 9 _ rfl)
theorem dX11_checkClasses_298 : decode cX11_checkClasses 298 = .ok (.getfield 12, 3) := dz_180 (bX11_checkClasses_18 10 _ rfl) (bX11_checkClasses_18 11 _ rfl) (bX11_checkClasses_18 12 _ rfl)
theorem dX11_checkClasses_301 : decode cX11_checkClasses 301 = .ok (.iload_n 1, 1) := dz_27 (bX11_checkClasses_18 13 _ rfl)
theorem dX11_checkClasses_302 : decode cX11_checkClasses 302 = .ok (.invokevirtual 71, 3) := dz_182 (bX11_checkClasses_18 14 _ rfl) (bX11_checkClasses_18 15 _ rfl) (bX11_checkClasses_19 0 _ rfl)
theorem dX11_checkClasses_305 : decode cX11_checkClasses 305 = .ok (.checkcast 51, 3) := dz_192 (bX11_checkClasses_19 1 _ rfl) (bX11_checkClasses_19 2 _ rfl) (bX11_checkClasses_19 3 _ rfl)
theorem dX11_checkClasses_308 : decode cX11_checkClasses 308 = .ok (.getfield 132, 3) := dz_180 (bX11_checkClasses_19 4 _ rfl) (bX11_checkClasses_19 5 _ rfl) (bX11_checkClasses_19 6 _ rfl)
theorem dX11_checkClasses_311 : decode cX11_checkClasses 311 = .ok (.astore_n 3, 1) := dz_78 (bX11_checkClasses_19 7 _ rfl)
theorem dX11_checkClasses_312 : decode cX11_checkClasses 312 = .ok (.aload_n 3, 1) := dz_45 (bX11_checkClasses_19 8 _ rfl)
theorem dX11_checkClasses_313 : decode cX11_checkClasses 313 = .ok (.ifnull 18, 3) := dz_198 (bX11_checkClasses_19 9 _ rfl) (bX11_checkClasses_19 10 _ rfl) (bX11_checkClasses_19 11 _ rfl)
theorem dX11_checkClasses_316 : decode cX11_checkClasses 316 = .ok (.iload_n 2, 1) := dz_28 (bX11_checkClasses_19 12 _ rfl)
theorem dX11_checkClasses_317 : decode cX11_checkClasses 317 = .ok (.aload_n 3, 1) := dz_45 (bX11_checkClasses_19 13 _ rfl)
theorem dX11_checkClasses_318 : decode cX11_checkClasses 318 = .ok (.invokestatic 139, 3) := dz_184 (bX11_checkClasses_19 14 _ rfl) (bX11_checkClasses_19 15 _ rfl) (bX11_checkClasses_20 0 _ rfl)
theorem dX11_checkClasses_321 : decode cX11_checkClasses 321 = .ok (.iadd, 1) := dz_96 (bX11_checkClasses_20 1 _ rfl)
theorem dX11_checkClasses_322 : decode cX11_checkClasses 322 = .ok (.istore_n 2, 1) := dz_61 (bX11_checkClasses_20 2 _ rfl)
theorem dX11_checkClasses_323 : decode cX11_checkClasses 323 = .ok (.aload_n 3, 1) := dz_45 (bX11_checkClasses_20 3 _ rfl)
theorem dX11_checkClasses_324 : decode cX11_checkClasses 324 = .ok (.getfield 132, 3) := dz_180 (bX11_checkClasses_20 4 _ rfl) (bX11_checkClasses_20 5 _ rfl) (bX11_checkClasses_20 6 _ rfl)
theorem dX11_checkClasses_327 : decode cX11_checkClasses 327 = .ok (.astore_n 3, 1) := dz_78 (bX11_checkClasses_20 7 _ rfl)
theorem dX11_checkClasses_328 : decode cX11_checkClasses 328 = .ok (.goto (-16), 3) := dz_167 (bX11_checkClasses_20 8 _ rfl) (bX11_checkClasses_20 9 _ rfl) (bX11_checkClasses_20 10 _ rfl)
theorem dX11_checkClasses_331 : decode cX11_checkClasses 331 = .ok (.aload_n 0, 1) := dz_42 (bX11_checkClasses_20 11 _ rfl)
theorem dX11_checkClasses_332 : decode cX11_checkClasses 332 = .ok (.getfield 12, 3) := dz_180 (bX11_checkClasses_20 12 _ rfl) (bX11_checkClasses_20 13 _ rfl) (bX11_checkClasses_20 14 _ rfl)
theorem dX11_checkClasses_335 : decode cX11_checkClasses 335 = .ok (.iload_n 1, 1) := dz_27 (bX11_checkClasses_20 15 _ rfl)
theorem dX11_checkClasses_336 : decode cX11_checkClasses 336 = .ok (.invokevirtual 71, 3) := dz_182 (bX11_checkClasses_21 0 _ rfl) (bX11_checkClasses_21 1 _ rfl) (bX11_checkClasses_21 2 _ rfl)
theorem dX11_checkClasses_339 : decode cX11_checkClasses 339 = .ok (.checkcast 51, 3) := dz_192 (bX11_checkClasses_21 3 _ rfl) (bX11_checkClasses_21 4 _ rfl) (bX11_checkClasses_21 5 _ rfl)
theorem dX11_checkClasses_342 : decode cX11_checkClasses 342 = .ok (.iload_n 2, 1) := dz_28 (bX11_checkClasses_21 6 _ rfl)
theorem dX11_checkClasses_343 : decode cX11_checkClasses 343 = .ok (.putfield 143, 3) := dz_181 (bX11_checkClasses_21 7 _ rfl) (bX11_checkClasses_21 8 _ rfl) (bX11_checkClasses_21 9 _ rfl)
theorem dX11_checkClasses_346 : decode cX11_checkClasses 346 = .ok (.aload_n 0, 1) := dz_42 (bX11_checkClasses_21 10 _ rfl)
theorem dX11_checkClasses_347 : decode cX11_checkClasses 347 = .ok (.getfield 12, 3) := dz_180 (bX11_checkClasses_21 11 _ rfl) (bX11_checkClasses_21 12 _ rfl) (bX11_checkClasses_21 13 _ rfl)
theorem dX11_checkClasses_350 : decode cX11_checkClasses 350 = .ok (.iload_n 1, 1) := dz_27 (bX11_checkClasses_21 14 _ rfl)
theorem dX11_checkClasses_351 : decode cX11_checkClasses 351 = .ok (.invokevirtual 71, 3) := dz_182 (bX11_checkClasses_21 15 _ rfl) (bX11_checkClasses_22 0 _ rfl) (bX11_checkClasses_22 1 _ rfl)
theorem dX11_checkClasses_354 : decode cX11_checkClasses 354 = .ok (.checkcast 51, 3) := dz_192 (bX11_checkClasses_22 2 _ rfl) (bX11_checkClasses_22 3 _ rfl) (bX11_checkClasses_22 4 _ rfl)
theorem dX11_checkClasses_357 : decode cX11_checkClasses 357 = .ok (.iload_n 2, 1) := dz_28 (bX11_checkClasses_22 5 _ rfl)
theorem dX11_checkClasses_358 : decode cX11_checkClasses 358 = .ok (.aload_n 0, 1) := dz_42 (bX11_checkClasses_22 6 _ rfl)
theorem dX11_checkClasses_359 : decode cX11_checkClasses 359 = .ok (.getfield 12, 3) := dz_180 (bX11_checkClasses_22 7 _ rfl) (bX11_checkClasses_22 8 _ rfl) (bX11_checkClasses_22 9 _ rfl)
theorem dX11_checkClasses_362 : decode cX11_checkClasses 362 = .ok (.iload_n 1, 1) := dz_27 (bX11_checkClasses_22 10 _ rfl)
theorem dX11_checkClasses_363 : decode cX11_checkClasses 363 = .ok (.invokevirtual 71, 3) := dz_182 (bX11_checkClasses_22 11 _ rfl) (bX11_checkClasses_22 12 _ rfl) (bX11_checkClasses_22 13 _ rfl)
theorem dX11_checkClasses_366 : decode cX11_checkClasses 366 = .ok (.checkcast 51, 3) := dz_192 (bX11_checkClasses_22 14 _ rfl) (bX11_checkClasses_22 15 _ rfl) (bX11_checkClasses_23 0 _ rfl)
theorem dX11_checkClasses_369 : decode cX11_checkClasses 369 = .ok (.invokestatic 139, 3) := dz_184 (bX11_checkClasses_23 1 _ rfl) (bX11_checkClasses_23 2 _ rfl) (bX11_checkClasses_23 3 _ rfl)
theorem dX11_checkClasses_372 : decode cX11_checkClasses 372 = .ok (.iadd, 1) := dz_96 (bX11_checkClasses_23 4 _ rfl)
theorem dX11_checkClasses_373 : decode cX11_checkClasses 373 = .ok (.putfield 146, 3) := dz_181 (bX11_checkClasses_23 5 _ rfl) (bX11_checkClasses_23 6 _ rfl) (bX11_checkClasses_23 7 _ rfl)
theorem dX11_checkClasses_376 : decode cX11_checkClasses 376 = .ok (.iinc 1 1, 3) := dz_132 (bX11_checkClasses_23 8 _ rfl) (bX11_checkClasses_23 9 _ rfl) (bX11_checkClasses_23 10 _ rfl)
theorem dX11_checkClasses_379 : decode cX11_checkClasses 379 = .ok (.goto (-95), 3) := dz_167 (bX11_checkClasses_23 11 _ rfl) (bX11_checkClasses_23 12 _ rfl) (bX11_checkClasses_23 13 _ rfl)
theorem dX11_checkClasses_382 : decode cX11_checkClasses 382 = .ok (.return_, 1) := dz_177 (bX11_checkClasses_23 14 _ rfl)
def c_X11_checkClasses_312 (g : State) (t0 : Nat) (x1 : Int32) (x2 : Int32) (x3 : Option Nat)  (w : ch_W) : Option ((Int32 × (Option Nat)) ⊕ ((Int32 × ch_W) ⊕ (Except Nat Unit × ch_W))) := if x3 = none then ((ch_gR w (some t0) 12 fX11_kinds).bind fun v1 => (ch_rc w v1 14).bind fun b3 => (c_J5_get b3 x1 w).bind fun v4 => (ch_cast w v4 7).bind fun _ => (ch_pI w v4 7 fX6_before x2).bind fun w6 => (ch_gR w6 (some t0) 12 fX11_kinds).bind fun v7 => (ch_rc w6 v7 14).bind fun b9 => (c_J5_get b9 x1 w6).bind fun v10 => (ch_cast w6 v10 7).bind fun _ => (ch_gR w6 (some t0) 12 fX11_kinds).bind fun v12 => (ch_rc w6 v12 14).bind fun b14 => (c_J5_get b14 x1 w6).bind fun v15 => (ch_cast w6 v15 7).bind fun _ => (c_X11_fieldsOf v15 w6).bind fun v17 => (ch_pI w6 v10 7 fX6_fields (x2 + v17)).bind fun w19 => some (.inr (.inl (x1 + 1, w19)))) else ((c_X11_fieldsOf x3 w).bind fun v20 => (ch_gR w x3 7 fX6_parent).bind fun v22 => some (.inl (x2 + v20, v22)))
theorem s_X11_checkClasses_312 {g : State} {t0 : Nat} {x1 : Int32} {x2 : Int32} {x3 : Option Nat} {w : ch_W} {res : (Int32 × (Option Nat)) ⊕ ((Int32 × ch_W) ⊕ (Except Nat Unit × ch_W))} {Q : Outcome → ch_W → Prop} (h : c_X11_checkClasses_312 g t0 x1 x2 x3 w = some res) (hk : (ch_sm (fun s => ch_FT g true mX11_checkClasses 8 312 [some (va_rf (some t0)), some (.int x1), some (.int s.1), some (va_rf s.2), none] [] (w) Q) (ch_sm (fun s => ch_FT g true mX11_checkClasses 8 284 [some (va_rf (some t0)), some (.int s.1), none, none, none] [] (s.2) Q) (ch_xV Q))) res) : ch_FT g true mX11_checkClasses 8 312 [some (va_rf (some t0)), some (.int x1), some (.int x2), some (va_rf x3), none] [] (w) Q := by
  unfold c_X11_checkClasses_312 at h
  refine ch_aload_n 3 x3 dX11_checkClasses_312 rfl (cp_ifnull x3 (tgt := 331) dX11_checkClasses_313 rfl h (fun h => ?_) (fun h => ?_))
  · refine ch_aload_n 0 (some t0) dX11_checkClasses_331 rfl (cp_gR (ci := 11) (k := 1) dX11_checkClasses_332 fl_X11_12 rfl h (fun v1 h => ?_))
    obtain ⟨b3, hb2, h⟩ := ch_bd h
    obtain ⟨v4, hp5, h⟩ := ch_bd h
    refine ch_iload_n 1 _ dX11_checkClasses_335 rfl (ch_iv yJ5_get prog_32_method_20_code 2 (some (.object "java/lang/Object")) (ci := 13) (q := (RJ5, TJ5, 3)) (b := b3) (d' := 4) (av := [.int x1]) (rest := []) (by rw [ch_rs hb2]; rfl) dX11_checkClasses_336 q1062 q612 rfl q613 q614 can_J5_get (Nat.le_of_ble_eq_true rfl) (Nat.le_of_ble_eq_true rfl) (ch_rtg hb2) (cp_kR (v := v4) (w1 := w) (fun Q' hq => s_J5_get hp5 hq) ?_))
    refine cp_cast (ci := 6) (q := (RX6, TX6, 8)) dX11_checkClasses_339 rfl q1054 h (fun h => ?_)
    refine ch_iload_n 2 _ dX11_checkClasses_342 rfl (cp_pI (ci := 6) (k := 6) dX11_checkClasses_343 fl_X11_143 rfl rfl rfl h (fun w6 h => ?_))
    refine ch_aload_n 0 (some t0) dX11_checkClasses_346 rfl (cp_gR (ci := 11) (k := 1) dX11_checkClasses_347 fl_X11_12 rfl h (fun v7 h => ?_))
    obtain ⟨b9, hb8, h⟩ := ch_bd h
    obtain ⟨v10, hp11, h⟩ := ch_bd h
    refine ch_iload_n 1 _ dX11_checkClasses_350 rfl (ch_iv yJ5_get prog_32_method_20_code 2 (some (.object "java/lang/Object")) (ci := 13) (q := (RJ5, TJ5, 3)) (b := b9) (d' := 4) (av := [.int x1]) (rest := []) (by rw [ch_rs hb8]; rfl) dX11_checkClasses_351 q1062 q612 rfl q613 q614 can_J5_get (Nat.le_of_ble_eq_true rfl) (Nat.le_of_ble_eq_true rfl) (ch_rtg hb8) (cp_kR (v := v10) (w1 := w6) (fun Q' hq => s_J5_get hp11 hq) ?_))
    refine cp_cast (ci := 6) (q := (RX6, TX6, 8)) dX11_checkClasses_354 rfl q1054 h (fun h => ?_)
    refine ch_iload_n 2 _ dX11_checkClasses_357 rfl (ch_aload_n 0 (some t0) dX11_checkClasses_358 rfl (cp_gR (ci := 11) (k := 1) dX11_checkClasses_359 fl_X11_12 rfl h (fun v12 h => ?_)))
    obtain ⟨b14, hb13, h⟩ := ch_bd h
    obtain ⟨v15, hp16, h⟩ := ch_bd h
    refine ch_iload_n 1 _ dX11_checkClasses_362 rfl (ch_iv yJ5_get prog_32_method_20_code 2 (some (.object "java/lang/Object")) (ci := 13) (q := (RJ5, TJ5, 3)) (b := b14) (d' := 4) (av := [.int x1]) (rest := [.int x2, va_rf v10]) (by rw [ch_rs hb13]; rfl) dX11_checkClasses_363 q1062 q612 rfl q613 q614 can_J5_get (Nat.le_of_ble_eq_true rfl) (ch_hw (Nat.le_of_ble_eq_true rfl)) (ch_rtg hb13) (cp_kR (v := v15) (w1 := w6) (fun Q' hq => s_J5_get hp16 hq) ?_))
    refine cp_cast (ci := 6) (q := (RX6, TX6, 8)) dX11_checkClasses_366 rfl q1054 h (fun h => ?_)
    obtain ⟨v17, hp18, h⟩ := ch_bd h
    refine ch_is yX11_fieldsOf prog_2_method_9_code 3 (some .int) (d' := 5) (av := [va_rf v15]) (rest := [.int x2, va_rf v10]) rfl dX11_checkClasses_369 q1128 q1129 q226 q1130 can_X11_fieldsOf (Nat.le_of_ble_eq_true rfl) (ch_hw (Nat.le_of_ble_eq_true rfl)) (cp_kI (v := v17) (w1 := w6) (fun Q' hq => s_X11_fieldsOf hp18 hq) ?_)
    refine ch_iadd _ _ dX11_checkClasses_372 (cp_pI (ci := 6) (k := 7) dX11_checkClasses_373 fl_X11_146 rfl rfl rfl h (fun w19 h => ?_))
    refine ch_iinc 1 _ _ (x1 + 1) (ls1 := [some (va_rf (some t0)), some (.int (x1 + 1)), some (.int x2), some (va_rf x3), none]) dX11_checkClasses_376 rfl rfl (Nat.le_of_ble_eq_true rfl) rfl (ch_goto 284 dX11_checkClasses_379 rfl (ch_FT.wk (ch_wS (ch_wS (ch_wN (ch_wN (ch_wN ch_w0))))) ?_))
    obtain rfl := Option.some.inj h
    exact hk
  · obtain ⟨v20, hp21, h⟩ := ch_bd h
    refine ch_iload_n 2 _ dX11_checkClasses_316 rfl (ch_aload_n 3 x3 dX11_checkClasses_317 rfl (ch_is yX11_fieldsOf prog_2_method_9_code 3 (some .int) (d' := 5) (av := [va_rf x3]) (rest := [.int x2]) rfl dX11_checkClasses_318 q1128 q1129 q226 q1130 can_X11_fieldsOf (Nat.le_of_ble_eq_true rfl) (ch_hw (Nat.le_of_ble_eq_true rfl)) (cp_kI (v := v20) (w1 := w) (fun Q' hq => s_X11_fieldsOf hp21 hq) ?_)))
    refine ch_iadd _ _ dX11_checkClasses_321 (ch_istore_n 2 _ (ls1 := [some (va_rf (some t0)), some (.int x1), some (.int (x2 + v20)), some (va_rf x3), none]) dX11_checkClasses_322 (Nat.le_of_ble_eq_true rfl) rfl (ch_aload_n 3 x3 dX11_checkClasses_323 rfl (cp_gR (ci := 6) (k := 3) dX11_checkClasses_324 fl_X11_132 rfl h (fun v22 h => ?_))))
    refine ch_astore_n 3 v22 (ls1 := [some (va_rf (some t0)), some (.int x1), some (.int (x2 + v20)), some (va_rf v22), none]) dX11_checkClasses_327 (Nat.le_of_ble_eq_true rfl) rfl (ch_goto 312 dX11_checkClasses_328 rfl (ch_FT.wk (ch_wS (ch_wS (ch_wS (ch_wS (ch_wN ch_w0))))) ?_))
    obtain rfl := Option.some.inj h
    exact hk
theorem sl_X11_checkClasses_312 {g : State} {t0 : Nat} {x1 : Int32} {w : ch_W} {a : Int32 × (Option Nat)} {res : (Int32 × ch_W) ⊕ (Except Nat Unit × ch_W)} {Q : Outcome → ch_W → Prop} (h : ch_loop (fun (s : Int32 × (Option Nat)) => c_X11_checkClasses_312 g t0 x1 s.1 s.2 w) a = some res) (hk : (ch_sm (fun s => ch_FT g true mX11_checkClasses 8 284 [some (va_rf (some t0)), some (.int s.1), none, none, none] [] (s.2) Q) (ch_xV Q)) res) : ch_FT g true mX11_checkClasses 8 312 [some (va_rf (some t0)), some (.int x1), some (.int a.1), some (va_rf a.2), none] [] (w) Q := by
  refine ch_loop_ind (fun (a : Int32 × (Option Nat)) (r : (Int32 × ch_W) ⊕ (Except Nat Unit × ch_W)) => (ch_sm (fun s => ch_FT g true mX11_checkClasses 8 284 [some (va_rf (some t0)), some (.int s.1), none, none, none] [] (s.2) Q) (ch_xV Q)) r → ch_FT g true mX11_checkClasses 8 312 [some (va_rf (some t0)), some (.int x1), some (.int a.1), some (va_rf a.2), none] [] (w) Q) ?_ ?_ a res h hk
  · intro a a2 b h1 ih hk
    exact s_X11_checkClasses_312  h1 (ih hk)
  · intro a b h1 hk
    exact s_X11_checkClasses_312  h1 hk

def c_X11_checkClasses_284 (g : State) (t0 : Nat) (x1 : Int32)  (w : ch_W) : Option ((Int32 × ch_W) ⊕ (Except Nat Unit × ch_W)) := (ch_gR w (some t0) 12 fX11_kinds).bind fun v1 => (ch_rc w v1 14).bind fun b3 => (c_J5_size b3 w).bind fun v4 => if x1 < v4 then ((ch_gR w (some t0) 12 fX11_kinds).bind fun v6 => (ch_rc w v6 14).bind fun b8 => (c_J5_get b8 x1 w).bind fun v9 => (ch_cast w v9 7).bind fun _ => (ch_gR w v9 7 fX6_parent).bind fun v11 => ch_loop (fun (s : Int32 × (Option Nat)) => c_X11_checkClasses_312 g t0 x1 s.1 s.2 w) (0, v11)) else (some (.inr ((.ok (), w))))
theorem s_X11_checkClasses_284 {g : State} {t0 : Nat} {x1 : Int32} {w : ch_W} {res : (Int32 × ch_W) ⊕ (Except Nat Unit × ch_W)} {Q : Outcome → ch_W → Prop} (h : c_X11_checkClasses_284 g t0 x1 w = some res) (hk : (ch_sm (fun s => ch_FT g true mX11_checkClasses 8 284 [some (va_rf (some t0)), some (.int s.1), none, none, none] [] (s.2) Q) (ch_xV Q)) res) : ch_FT g true mX11_checkClasses 8 284 [some (va_rf (some t0)), some (.int x1), none, none, none] [] (w) Q := by
  unfold c_X11_checkClasses_284 at h
  refine ch_iload_n 1 _ dX11_checkClasses_284 rfl (ch_aload_n 0 (some t0) dX11_checkClasses_285 rfl (cp_gR (ci := 11) (k := 1) dX11_checkClasses_286 fl_X11_12 rfl h (fun v1 h => ?_)))
  obtain ⟨b3, hb2, h⟩ := ch_bd h
  obtain ⟨v4, hp5, h⟩ := ch_bd h
  refine ch_iv yJ5_size prog_32_method_8_code 1 (some .int) (ci := 13) (q := (RJ5, TJ5, 3)) (b := b3) (d' := 2) (av := []) (rest := [.int x1]) (by rw [ch_rs hb2]; rfl) dX11_checkClasses_289 q1061 q608 rfl q609 q610 can_J5_size (Nat.le_of_ble_eq_true rfl) (ch_hw (Nat.le_of_ble_eq_true rfl)) (ch_rtg hb2) (cp_kI (v := v4) (w1 := w) (fun Q' hq => s_J5_size hp5 hq) ?_)
  refine cp_icmp_ge _ _ (tgt := 382) dX11_checkClasses_292 rfl h (fun h => ?_) (fun h => ?_)
  · obtain rfl := Option.some.inj h
    exact ch_return dX11_checkClasses_382 rfl hk
  · refine ch_iconst _ 0 dX11_checkClasses_295 rfl (ch_istore_n 2 _ (ls1 := [some (va_rf (some t0)), some (.int x1), some (.int 0), none, none]) dX11_checkClasses_296 (Nat.le_of_ble_eq_true rfl) rfl (ch_aload_n 0 (some t0) dX11_checkClasses_297 rfl (cp_gR (ci := 11) (k := 1) dX11_checkClasses_298 fl_X11_12 rfl h (fun v6 h => ?_))))
    obtain ⟨b8, hb7, h⟩ := ch_bd h
    obtain ⟨v9, hp10, h⟩ := ch_bd h
    refine ch_iload_n 1 _ dX11_checkClasses_301 rfl (ch_iv yJ5_get prog_32_method_20_code 2 (some (.object "java/lang/Object")) (ci := 13) (q := (RJ5, TJ5, 3)) (b := b8) (d' := 4) (av := [.int x1]) (rest := []) (by rw [ch_rs hb7]; rfl) dX11_checkClasses_302 q1062 q612 rfl q613 q614 can_J5_get (Nat.le_of_ble_eq_true rfl) (Nat.le_of_ble_eq_true rfl) (ch_rtg hb7) (cp_kR (v := v9) (w1 := w) (fun Q' hq => s_J5_get hp10 hq) ?_))
    refine cp_cast (ci := 6) (q := (RX6, TX6, 8)) dX11_checkClasses_305 rfl q1054 h (fun h => ?_)
    refine cp_gR (ci := 6) (k := 3) dX11_checkClasses_308 fl_X11_132 rfl h (fun v11 h => ?_)
    exact ch_astore_n 3 v11 (ls1 := [some (va_rf (some t0)), some (.int x1), some (.int 0), some (va_rf v11), none]) dX11_checkClasses_311 (Nat.le_of_ble_eq_true rfl) rfl (ch_FT.wk (ch_wS (ch_wS (ch_wS (ch_wS (ch_wN ch_w0))))) (sl_X11_checkClasses_312  h hk))
theorem sl_X11_checkClasses_284 {g : State} {t0 : Nat} {a : Int32 × ch_W} {res : Except Nat Unit × ch_W} {Q : Outcome → ch_W → Prop} (h : ch_loop (fun (s : Int32 × ch_W) => c_X11_checkClasses_284 g t0 s.1 s.2) a = some res) (hk : (ch_xV Q) res) : ch_FT g true mX11_checkClasses 8 284 [some (va_rf (some t0)), some (.int a.1), none, none, none] [] (a.2) Q := by
  refine ch_loop_ind (fun (a : Int32 × ch_W) (r : Except Nat Unit × ch_W) => (ch_xV Q) r → ch_FT g true mX11_checkClasses 8 284 [some (va_rf (some t0)), some (.int a.1), none, none, none] [] (a.2) Q) ?_ ?_ a res h hk
  · intro a a2 b h1 ih hk
    exact s_X11_checkClasses_284  h1 (ih hk)
  · intro a b h1 hk
    exact s_X11_checkClasses_284  h1 hk

def c_X11_checkClasses_258 (g : State) (t0 : Nat) (x1 : Int32) (x2 : Option Nat) (x3 : Option Nat) (x4 : Int32) (y0 : Int32) (w : ch_W) : Option (((Option Nat) × Int32 × ch_W) ⊕ ((Int32 × ch_W) ⊕ (Except Nat Unit × ch_W))) := (ch_gI w x2 7 fX6_place).bind fun v1 => ch_tb (c_X11_must g y0 v1 w) (fun a w => .inr (.inr ((.error a, w)))) fun _ w3 => (ch_gR w3 x3 7 fX6_parent).bind fun v4 => some (.inl (v4, x4 + 1, w3))
theorem s_X11_checkClasses_258 {g : State} {t0 : Nat} {x1 : Int32} {x2 : Option Nat} {x3 : Option Nat} {x4 : Int32} {y0 : Int32} {w : ch_W} {res : ((Option Nat) × Int32 × ch_W) ⊕ ((Int32 × ch_W) ⊕ (Except Nat Unit × ch_W))} {Q : Outcome → ch_W → Prop} (h : c_X11_checkClasses_258 g t0 x1 x2 x3 x4 y0 w = some res) (hk : (ch_sm (fun s => ch_FT g true mX11_checkClasses 8 232 [some (va_rf (some t0)), some (.int x1), some (va_rf x2), some (va_rf s.1), some (.int s.2.1)] [] (s.2.2) Q) (ch_sm (fun s => ch_FT g true mX11_checkClasses 8 201 [some (va_rf (some t0)), some (.int s.1), none, none, none] [] (s.2) Q) (ch_xV Q))) res) : ch_FT g true mX11_checkClasses 8 258 [some (va_rf (some t0)), some (.int x1), some (va_rf x2), some (va_rf x3), some (.int x4)] [.int y0] (w) Q := by
  unfold c_X11_checkClasses_258 at h
  refine ch_aload_n 2 x2 dX11_checkClasses_258 rfl (cp_gI (ci := 6) (k := 1) dX11_checkClasses_259 fl_X11_136 rfl h (fun v1 h => ?_))
  refine ch_is yX11_must prog_2_method_2_code 2 none (d' := 7) (av := [.int y0, .int v1]) (rest := []) rfl dX11_checkClasses_262 q1123 q1124 q226 q1125 can_X11_must (Nat.le_of_ble_eq_true rfl) (Nat.le_of_ble_eq_true rfl) (cp_tV h (fun p hp Q' hq => s_X11_must hp hq) (fun w3 h => ?_) (fun a w1 h => ?_))
  · refine ch_aload_n 3 x3 dX11_checkClasses_265 rfl (cp_gR (ci := 6) (k := 3) dX11_checkClasses_266 fl_X11_132 rfl h (fun v4 h => ?_))
    refine ch_astore_n 3 v4 (ls1 := [some (va_rf (some t0)), some (.int x1), some (va_rf x2), some (va_rf v4), some (.int x4)]) dX11_checkClasses_269 (Nat.le_of_ble_eq_true rfl) (ch_s1o rfl rfl) (ch_iinc 4 _ _ (x4 + 1) (ls1 := [some (va_rf (some t0)), some (.int x1), some (va_rf x2), some (va_rf v4), some (.int (x4 + 1))]) dX11_checkClasses_270 rfl rfl (Nat.le_of_ble_eq_true rfl) (ch_s1o rfl rfl) (ch_goto 232 dX11_checkClasses_273 rfl (ch_FT.wk (ch_wS (ch_wS (ch_wS (ch_wS (ch_wS ch_w0))))) ?_)))
    obtain rfl := Option.some.inj h
    exact hk
  · subst h
    exact ch_th rfl hk

def c_X11_checkClasses_232 (g : State) (t0 : Nat) (x1 : Int32) (x2 : Option Nat) (x3 : Option Nat) (x4 : Int32)  (w : ch_W) : Option (((Option Nat) × Int32 × ch_W) ⊕ ((Int32 × ch_W) ⊕ (Except Nat Unit × ch_W))) := (ch_gR w (some t0) 12 fX11_kinds).bind fun v1 => (ch_rc w v1 14).bind fun b3 => (c_J5_size b3 w).bind fun v4 => if x4 < v4 then (if x3 = none then (some (.inr (.inl (x1 + 1, w)))) else (if x3 = x2 then (c_X11_checkClasses_258 g t0 x1 x2 x3 x4 0 w) else (c_X11_checkClasses_258 g t0 x1 x2 x3 x4 1 w))) else (some (.inr (.inl (x1 + 1, w))))
theorem s_X11_checkClasses_232 {g : State} {t0 : Nat} {x1 : Int32} {x2 : Option Nat} {x3 : Option Nat} {x4 : Int32} {w : ch_W} {res : ((Option Nat) × Int32 × ch_W) ⊕ ((Int32 × ch_W) ⊕ (Except Nat Unit × ch_W))} {Q : Outcome → ch_W → Prop} (h : c_X11_checkClasses_232 g t0 x1 x2 x3 x4 w = some res) (hk : (ch_sm (fun s => ch_FT g true mX11_checkClasses 8 232 [some (va_rf (some t0)), some (.int x1), some (va_rf x2), some (va_rf s.1), some (.int s.2.1)] [] (s.2.2) Q) (ch_sm (fun s => ch_FT g true mX11_checkClasses 8 201 [some (va_rf (some t0)), some (.int s.1), none, none, none] [] (s.2) Q) (ch_xV Q))) res) : ch_FT g true mX11_checkClasses 8 232 [some (va_rf (some t0)), some (.int x1), some (va_rf x2), some (va_rf x3), some (.int x4)] [] (w) Q := by
  unfold c_X11_checkClasses_232 at h
  refine ch_iload 4 _ dX11_checkClasses_232 rfl (ch_aload_n 0 (some t0) dX11_checkClasses_234 rfl (cp_gR (ci := 11) (k := 1) dX11_checkClasses_235 fl_X11_12 rfl h (fun v1 h => ?_)))
  obtain ⟨b3, hb2, h⟩ := ch_bd h
  obtain ⟨v4, hp5, h⟩ := ch_bd h
  refine ch_iv yJ5_size prog_32_method_8_code 1 (some .int) (ci := 13) (q := (RJ5, TJ5, 3)) (b := b3) (d' := 2) (av := []) (rest := [.int x4]) (by rw [ch_rs hb2]; rfl) dX11_checkClasses_238 q1061 q608 rfl q609 q610 can_J5_size (Nat.le_of_ble_eq_true rfl) (ch_hw (Nat.le_of_ble_eq_true rfl)) (ch_rtg hb2) (cp_kI (v := v4) (w1 := w) (fun Q' hq => s_J5_size hp5 hq) ?_)
  refine cp_icmp_ge _ _ (tgt := 276) dX11_checkClasses_241 rfl h (fun h => ?_) (fun h => ?_)
  · refine ch_iinc 1 _ _ (x1 + 1) (ls1 := [some (va_rf (some t0)), some (.int (x1 + 1)), some (va_rf x2), some (va_rf x3), some (.int x4)]) dX11_checkClasses_276 rfl rfl (Nat.le_of_ble_eq_true rfl) rfl (ch_goto 201 dX11_checkClasses_279 rfl (ch_FT.wk (ch_wS (ch_wS (ch_wN (ch_wN (ch_wN ch_w0))))) ?_))
    obtain rfl := Option.some.inj h
    exact hk
  · refine ch_aload_n 3 x3 dX11_checkClasses_244 rfl (cp_ifnull x3 (tgt := 276) dX11_checkClasses_245 rfl h (fun h => ?_) (fun h => ?_))
    · refine ch_iinc 1 _ _ (x1 + 1) (ls1 := [some (va_rf (some t0)), some (.int (x1 + 1)), some (va_rf x2), some (va_rf x3), some (.int x4)]) dX11_checkClasses_276 rfl rfl (Nat.le_of_ble_eq_true rfl) rfl (ch_goto 201 dX11_checkClasses_279 rfl (ch_FT.wk (ch_wS (ch_wS (ch_wN (ch_wN (ch_wN ch_w0))))) ?_))
      obtain rfl := Option.some.inj h
      exact hk
    · refine ch_aload_n 3 x3 dX11_checkClasses_248 rfl (ch_aload_n 2 x2 dX11_checkClasses_249 rfl (cp_acmp_eq x3 x2 (tgt := 257) dX11_checkClasses_250 rfl h (fun h => ?_) (fun h => ?_)))
      · exact ch_iconst _ 0 dX11_checkClasses_257 rfl (ch_FT.wk (ch_wS (ch_wS (ch_wS (ch_wS (ch_wS ch_w0))))) (s_X11_checkClasses_258  h hk))
      · exact ch_iconst _ 1 dX11_checkClasses_253 rfl (ch_goto 258 dX11_checkClasses_254 rfl (ch_FT.wk (ch_wS (ch_wS (ch_wS (ch_wS (ch_wS ch_w0))))) (s_X11_checkClasses_258  h hk)))
theorem sl_X11_checkClasses_232 {g : State} {t0 : Nat} {x1 : Int32} {x2 : Option Nat} {a : (Option Nat) × Int32 × ch_W} {res : (Int32 × ch_W) ⊕ (Except Nat Unit × ch_W)} {Q : Outcome → ch_W → Prop} (h : ch_loop (fun (s : (Option Nat) × Int32 × ch_W) => c_X11_checkClasses_232 g t0 x1 x2 s.1 s.2.1 s.2.2) a = some res) (hk : (ch_sm (fun s => ch_FT g true mX11_checkClasses 8 201 [some (va_rf (some t0)), some (.int s.1), none, none, none] [] (s.2) Q) (ch_xV Q)) res) : ch_FT g true mX11_checkClasses 8 232 [some (va_rf (some t0)), some (.int x1), some (va_rf x2), some (va_rf a.1), some (.int a.2.1)] [] (a.2.2) Q := by
  refine ch_loop_ind (fun (a : (Option Nat) × Int32 × ch_W) (r : (Int32 × ch_W) ⊕ (Except Nat Unit × ch_W)) => (ch_sm (fun s => ch_FT g true mX11_checkClasses 8 201 [some (va_rf (some t0)), some (.int s.1), none, none, none] [] (s.2) Q) (ch_xV Q)) r → ch_FT g true mX11_checkClasses 8 232 [some (va_rf (some t0)), some (.int x1), some (va_rf x2), some (va_rf a.1), some (.int a.2.1)] [] (a.2.2) Q) ?_ ?_ a res h hk
  · intro a a2 b h1 ih hk
    exact s_X11_checkClasses_232  h1 (ih hk)
  · intro a b h1 hk
    exact s_X11_checkClasses_232  h1 hk

def c_X11_checkClasses_201 (g : State) (t0 : Nat) (x1 : Int32)  (w : ch_W) : Option ((Int32 × ch_W) ⊕ (Except Nat Unit × ch_W)) := (ch_gR w (some t0) 12 fX11_kinds).bind fun v1 => (ch_rc w v1 14).bind fun b3 => (c_J5_size b3 w).bind fun v4 => if x1 < v4 then ((ch_gR w (some t0) 12 fX11_kinds).bind fun v6 => (ch_rc w v6 14).bind fun b8 => (c_J5_get b8 x1 w).bind fun v9 => (ch_cast w v9 7).bind fun _ => (ch_gR w v9 7 fX6_parent).bind fun v11 => ch_loop (fun (s : (Option Nat) × Int32 × ch_W) => c_X11_checkClasses_232 g t0 x1 v9 s.1 s.2.1 s.2.2) (v11, 0, w)) else ((ch_loop (fun (s : Int32 × ch_W) => c_X11_checkClasses_284 g t0 s.1 s.2) (5, w)).bind fun r => some (.inr (r)))
theorem s_X11_checkClasses_201 {g : State} {t0 : Nat} {x1 : Int32} {w : ch_W} {res : (Int32 × ch_W) ⊕ (Except Nat Unit × ch_W)} {Q : Outcome → ch_W → Prop} (h : c_X11_checkClasses_201 g t0 x1 w = some res) (hk : (ch_sm (fun s => ch_FT g true mX11_checkClasses 8 201 [some (va_rf (some t0)), some (.int s.1), none, none, none] [] (s.2) Q) (ch_xV Q)) res) : ch_FT g true mX11_checkClasses 8 201 [some (va_rf (some t0)), some (.int x1), none, none, none] [] (w) Q := by
  unfold c_X11_checkClasses_201 at h
  refine ch_iload_n 1 _ dX11_checkClasses_201 rfl (ch_aload_n 0 (some t0) dX11_checkClasses_202 rfl (cp_gR (ci := 11) (k := 1) dX11_checkClasses_203 fl_X11_12 rfl h (fun v1 h => ?_)))
  obtain ⟨b3, hb2, h⟩ := ch_bd h
  obtain ⟨v4, hp5, h⟩ := ch_bd h
  refine ch_iv yJ5_size prog_32_method_8_code 1 (some .int) (ci := 13) (q := (RJ5, TJ5, 3)) (b := b3) (d' := 2) (av := []) (rest := [.int x1]) (by rw [ch_rs hb2]; rfl) dX11_checkClasses_206 q1061 q608 rfl q609 q610 can_J5_size (Nat.le_of_ble_eq_true rfl) (ch_hw (Nat.le_of_ble_eq_true rfl)) (ch_rtg hb2) (cp_kI (v := v4) (w1 := w) (fun Q' hq => s_J5_size hp5 hq) ?_)
  refine cp_icmp_ge _ _ (tgt := 282) dX11_checkClasses_209 rfl h (fun h => ?_) (fun h => ?_)
  · obtain ⟨r, hr, h⟩ := ch_bd h
    obtain rfl := Option.some.inj h
    exact ch_iconst _ 5 dX11_checkClasses_282 rfl (ch_istore_n 1 _ (ls1 := [some (va_rf (some t0)), some (.int 5), none, none, none]) dX11_checkClasses_283 (Nat.le_of_ble_eq_true rfl) rfl (ch_FT.wk (ch_wS (ch_wS (ch_wN (ch_wN (ch_wN ch_w0))))) (sl_X11_checkClasses_284  hr hk)))
  · refine ch_aload_n 0 (some t0) dX11_checkClasses_212 rfl (cp_gR (ci := 11) (k := 1) dX11_checkClasses_213 fl_X11_12 rfl h (fun v6 h => ?_))
    obtain ⟨b8, hb7, h⟩ := ch_bd h
    obtain ⟨v9, hp10, h⟩ := ch_bd h
    refine ch_iload_n 1 _ dX11_checkClasses_216 rfl (ch_iv yJ5_get prog_32_method_20_code 2 (some (.object "java/lang/Object")) (ci := 13) (q := (RJ5, TJ5, 3)) (b := b8) (d' := 4) (av := [.int x1]) (rest := []) (by rw [ch_rs hb7]; rfl) dX11_checkClasses_217 q1062 q612 rfl q613 q614 can_J5_get (Nat.le_of_ble_eq_true rfl) (Nat.le_of_ble_eq_true rfl) (ch_rtg hb7) (cp_kR (v := v9) (w1 := w) (fun Q' hq => s_J5_get hp10 hq) ?_))
    refine cp_cast (ci := 6) (q := (RX6, TX6, 8)) dX11_checkClasses_220 rfl q1054 h (fun h => ?_)
    refine ch_astore_n 2 v9 (ls1 := [some (va_rf (some t0)), some (.int x1), some (va_rf v9), none, none]) dX11_checkClasses_223 (Nat.le_of_ble_eq_true rfl) rfl (ch_aload_n 2 v9 dX11_checkClasses_224 rfl (cp_gR (ci := 6) (k := 3) dX11_checkClasses_225 fl_X11_132 rfl h (fun v11 h => ?_)))
    exact ch_astore_n 3 v11 (ls1 := [some (va_rf (some t0)), some (.int x1), some (va_rf v9), some (va_rf v11), none]) dX11_checkClasses_228 (Nat.le_of_ble_eq_true rfl) (ch_s1o rfl rfl) (ch_iconst _ 0 dX11_checkClasses_229 rfl (ch_istore 4 _ (ls1 := [some (va_rf (some t0)), some (.int x1), some (va_rf v9), some (va_rf v11), some (.int 0)]) dX11_checkClasses_230 (Nat.le_of_ble_eq_true rfl) (ch_s1o rfl rfl) (ch_FT.wk (ch_wS (ch_wS (ch_wS (ch_wS (ch_wS ch_w0))))) (sl_X11_checkClasses_232  h hk))))
theorem sl_X11_checkClasses_201 {g : State} {t0 : Nat} {a : Int32 × ch_W} {res : Except Nat Unit × ch_W} {Q : Outcome → ch_W → Prop} (h : ch_loop (fun (s : Int32 × ch_W) => c_X11_checkClasses_201 g t0 s.1 s.2) a = some res) (hk : (ch_xV Q) res) : ch_FT g true mX11_checkClasses 8 201 [some (va_rf (some t0)), some (.int a.1), none, none, none] [] (a.2) Q := by
  refine ch_loop_ind (fun (a : Int32 × ch_W) (r : Except Nat Unit × ch_W) => (ch_xV Q) r → ch_FT g true mX11_checkClasses 8 201 [some (va_rf (some t0)), some (.int a.1), none, none, none] [] (a.2) Q) ?_ ?_ a res h hk
  · intro a a2 b h1 ih hk
    exact s_X11_checkClasses_201  h1 (ih hk)
  · intro a b h1 hk
    exact s_X11_checkClasses_201  h1 hk

def c_X11_checkClasses_176 (g : State) (t0 : Nat) (x1 : Int32) (y0 : Int32) (w : ch_W) : Option ((Int32 × ch_W) ⊕ (Except Nat Unit × ch_W)) := (ch_gR w (some t0) 12 fX11_kinds).bind fun v1 => (ch_rc w v1 14).bind fun b3 => (c_J5_get b3 x1 w).bind fun v4 => (ch_cast w v4 7).bind fun _ => (ch_gI w v4 7 fX6_place).bind fun v6 => ch_tb (c_X11_must g y0 v6 w) (fun a w => .inr ((.error a, w))) fun _ w8 => some (.inl (x1 + 1, w8))
theorem s_X11_checkClasses_176 {g : State} {t0 : Nat} {x1 : Int32} {y0 : Int32} {w : ch_W} {res : (Int32 × ch_W) ⊕ (Except Nat Unit × ch_W)} {Q : Outcome → ch_W → Prop} (h : c_X11_checkClasses_176 g t0 x1 y0 w = some res) (hk : (ch_sm (fun s => ch_FT g true mX11_checkClasses 8 126 [some (va_rf (some t0)), some (.int s.1), none, none, none] [] (s.2) Q) (ch_xV Q)) res) : ch_FT g true mX11_checkClasses 8 176 [some (va_rf (some t0)), some (.int x1), none, none, none] [.int y0] (w) Q := by
  unfold c_X11_checkClasses_176 at h
  refine ch_aload_n 0 (some t0) dX11_checkClasses_176 rfl (cp_gR (ci := 11) (k := 1) dX11_checkClasses_177 fl_X11_12 rfl h (fun v1 h => ?_))
  obtain ⟨b3, hb2, h⟩ := ch_bd h
  obtain ⟨v4, hp5, h⟩ := ch_bd h
  refine ch_iload_n 1 _ dX11_checkClasses_180 rfl (ch_iv yJ5_get prog_32_method_20_code 2 (some (.object "java/lang/Object")) (ci := 13) (q := (RJ5, TJ5, 3)) (b := b3) (d' := 4) (av := [.int x1]) (rest := [.int y0]) (by rw [ch_rs hb2]; rfl) dX11_checkClasses_181 q1062 q612 rfl q613 q614 can_J5_get (Nat.le_of_ble_eq_true rfl) (ch_hw (Nat.le_of_ble_eq_true rfl)) (ch_rtg hb2) (cp_kR (v := v4) (w1 := w) (fun Q' hq => s_J5_get hp5 hq) ?_))
  refine cp_cast (ci := 6) (q := (RX6, TX6, 8)) dX11_checkClasses_184 rfl q1054 h (fun h => ?_)
  refine cp_gI (ci := 6) (k := 1) dX11_checkClasses_187 fl_X11_136 rfl h (fun v6 h => ?_)
  refine ch_is yX11_must prog_2_method_2_code 2 none (d' := 7) (av := [.int y0, .int v6]) (rest := []) rfl dX11_checkClasses_190 q1123 q1124 q226 q1125 can_X11_must (Nat.le_of_ble_eq_true rfl) (Nat.le_of_ble_eq_true rfl) (cp_tV h (fun p hp Q' hq => s_X11_must hp hq) (fun w8 h => ?_) (fun a w1 h => ?_))
  · refine ch_iinc 1 _ _ (x1 + 1) (ls1 := [some (va_rf (some t0)), some (.int (x1 + 1)), none, none, none]) dX11_checkClasses_193 rfl rfl (Nat.le_of_ble_eq_true rfl) rfl (ch_goto 126 dX11_checkClasses_196 rfl (ch_FT.wk (ch_wS (ch_wS (ch_wN (ch_wN (ch_wN ch_w0))))) ?_))
    obtain rfl := Option.some.inj h
    exact hk
  · subst h
    exact ch_th rfl hk

def c_X11_checkClasses_171 (g : State) (t0 : Nat) (x1 : Int32)  (w : ch_W) : Option ((Int32 × ch_W) ⊕ (Except Nat Unit × ch_W)) := c_X11_checkClasses_176 g t0 x1 1 w
theorem s_X11_checkClasses_171 {g : State} {t0 : Nat} {x1 : Int32} {w : ch_W} {res : (Int32 × ch_W) ⊕ (Except Nat Unit × ch_W)} {Q : Outcome → ch_W → Prop} (h : c_X11_checkClasses_171 g t0 x1 w = some res) (hk : (ch_sm (fun s => ch_FT g true mX11_checkClasses 8 126 [some (va_rf (some t0)), some (.int s.1), none, none, none] [] (s.2) Q) (ch_xV Q)) res) : ch_FT g true mX11_checkClasses 8 171 [some (va_rf (some t0)), some (.int x1), none, none, none] [] (w) Q := by
  unfold c_X11_checkClasses_171 at h
  exact ch_iconst _ 1 dX11_checkClasses_171 rfl (ch_goto 176 dX11_checkClasses_172 rfl (ch_FT.wk (ch_wS (ch_wS (ch_wN (ch_wN (ch_wN ch_w0))))) (s_X11_checkClasses_176  h hk)))

def c_X11_checkClasses_126 (g : State) (t0 : Nat) (x1 : Int32)  (w : ch_W) : Option ((Int32 × ch_W) ⊕ (Except Nat Unit × ch_W)) := (ch_gR w (some t0) 12 fX11_kinds).bind fun v1 => (ch_rc w v1 14).bind fun b3 => (c_J5_size b3 w).bind fun v4 => if x1 < v4 then ((ch_gR w (some t0) 12 fX11_kinds).bind fun v6 => (ch_rc w v6 14).bind fun b8 => (c_J5_get b8 x1 w).bind fun v9 => (ch_cast w v9 7).bind fun _ => (ch_gI w v9 7 fX6_parentName).bind fun v11 => if v11 < 0 then (c_X11_checkClasses_171 g t0 x1 w) else ((ch_gR w (some t0) 12 fX11_kinds).bind fun v12 => (ch_rc w v12 14).bind fun b14 => (c_J5_get b14 x1 w).bind fun v15 => (ch_cast w v15 7).bind fun _ => (ch_gR w v15 7 fX6_parent).bind fun v17 => if v17 = none then (c_X11_checkClasses_176 g t0 x1 0 w) else (c_X11_checkClasses_171 g t0 x1 w))) else ((ch_loop (fun (s : Int32 × ch_W) => c_X11_checkClasses_201 g t0 s.1 s.2) (5, w)).bind fun r => some (.inr (r)))
theorem s_X11_checkClasses_126 {g : State} {t0 : Nat} {x1 : Int32} {w : ch_W} {res : (Int32 × ch_W) ⊕ (Except Nat Unit × ch_W)} {Q : Outcome → ch_W → Prop} (h : c_X11_checkClasses_126 g t0 x1 w = some res) (hk : (ch_sm (fun s => ch_FT g true mX11_checkClasses 8 126 [some (va_rf (some t0)), some (.int s.1), none, none, none] [] (s.2) Q) (ch_xV Q)) res) : ch_FT g true mX11_checkClasses 8 126 [some (va_rf (some t0)), some (.int x1), none, none, none] [] (w) Q := by
  unfold c_X11_checkClasses_126 at h
  refine ch_iload_n 1 _ dX11_checkClasses_126 rfl (ch_aload_n 0 (some t0) dX11_checkClasses_127 rfl (cp_gR (ci := 11) (k := 1) dX11_checkClasses_128 fl_X11_12 rfl h (fun v1 h => ?_)))
  obtain ⟨b3, hb2, h⟩ := ch_bd h
  obtain ⟨v4, hp5, h⟩ := ch_bd h
  refine ch_iv yJ5_size prog_32_method_8_code 1 (some .int) (ci := 13) (q := (RJ5, TJ5, 3)) (b := b3) (d' := 2) (av := []) (rest := [.int x1]) (by rw [ch_rs hb2]; rfl) dX11_checkClasses_131 q1061 q608 rfl q609 q610 can_J5_size (Nat.le_of_ble_eq_true rfl) (ch_hw (Nat.le_of_ble_eq_true rfl)) (ch_rtg hb2) (cp_kI (v := v4) (w1 := w) (fun Q' hq => s_J5_size hp5 hq) ?_)
  refine cp_icmp_ge _ _ (tgt := 199) dX11_checkClasses_134 rfl h (fun h => ?_) (fun h => ?_)
  · obtain ⟨r, hr, h⟩ := ch_bd h
    obtain rfl := Option.some.inj h
    exact ch_iconst _ 5 dX11_checkClasses_199 rfl (ch_istore_n 1 _ (ls1 := [some (va_rf (some t0)), some (.int 5), none, none, none]) dX11_checkClasses_200 (Nat.le_of_ble_eq_true rfl) rfl (ch_FT.wk (ch_wS (ch_wS (ch_wN (ch_wN (ch_wN ch_w0))))) (sl_X11_checkClasses_201  hr hk)))
  · refine ch_aload_n 0 (some t0) dX11_checkClasses_137 rfl (cp_gR (ci := 11) (k := 1) dX11_checkClasses_138 fl_X11_12 rfl h (fun v6 h => ?_))
    obtain ⟨b8, hb7, h⟩ := ch_bd h
    obtain ⟨v9, hp10, h⟩ := ch_bd h
    refine ch_iload_n 1 _ dX11_checkClasses_141 rfl (ch_iv yJ5_get prog_32_method_20_code 2 (some (.object "java/lang/Object")) (ci := 13) (q := (RJ5, TJ5, 3)) (b := b8) (d' := 4) (av := [.int x1]) (rest := []) (by rw [ch_rs hb7]; rfl) dX11_checkClasses_142 q1062 q612 rfl q613 q614 can_J5_get (Nat.le_of_ble_eq_true rfl) (Nat.le_of_ble_eq_true rfl) (ch_rtg hb7) (cp_kR (v := v9) (w1 := w) (fun Q' hq => s_J5_get hp10 hq) ?_))
    refine cp_cast (ci := 6) (q := (RX6, TX6, 8)) dX11_checkClasses_145 rfl q1054 h (fun h => ?_)
    refine cp_gI (ci := 6) (k := 2) dX11_checkClasses_148 fl_X11_129 rfl h (fun v11 h => ?_)
    refine cp_if_lt _ (tgt := 171) dX11_checkClasses_151 rfl h (fun h => ?_) (fun h => ?_)
    · exact ch_FT.wk (ch_wS (ch_wS (ch_wN (ch_wN (ch_wN ch_w0))))) (s_X11_checkClasses_171  h hk)
    · refine ch_aload_n 0 (some t0) dX11_checkClasses_154 rfl (cp_gR (ci := 11) (k := 1) dX11_checkClasses_155 fl_X11_12 rfl h (fun v12 h => ?_))
      obtain ⟨b14, hb13, h⟩ := ch_bd h
      obtain ⟨v15, hp16, h⟩ := ch_bd h
      refine ch_iload_n 1 _ dX11_checkClasses_158 rfl (ch_iv yJ5_get prog_32_method_20_code 2 (some (.object "java/lang/Object")) (ci := 13) (q := (RJ5, TJ5, 3)) (b := b14) (d' := 4) (av := [.int x1]) (rest := []) (by rw [ch_rs hb13]; rfl) dX11_checkClasses_159 q1062 q612 rfl q613 q614 can_J5_get (Nat.le_of_ble_eq_true rfl) (Nat.le_of_ble_eq_true rfl) (ch_rtg hb13) (cp_kR (v := v15) (w1 := w) (fun Q' hq => s_J5_get hp16 hq) ?_))
      refine cp_cast (ci := 6) (q := (RX6, TX6, 8)) dX11_checkClasses_162 rfl q1054 h (fun h => ?_)
      refine cp_gR (ci := 6) (k := 3) dX11_checkClasses_165 fl_X11_132 rfl h (fun v17 h => ?_)
      refine cp_ifnull v17 (tgt := 175) dX11_checkClasses_168 rfl h (fun h => ?_) (fun h => ?_)
      · exact ch_iconst _ 0 dX11_checkClasses_175 rfl (ch_FT.wk (ch_wS (ch_wS (ch_wN (ch_wN (ch_wN ch_w0))))) (s_X11_checkClasses_176  h hk))
      · exact ch_FT.wk (ch_wS (ch_wS (ch_wN (ch_wN (ch_wN ch_w0))))) (s_X11_checkClasses_171  h hk)
theorem sl_X11_checkClasses_126 {g : State} {t0 : Nat} {a : Int32 × ch_W} {res : Except Nat Unit × ch_W} {Q : Outcome → ch_W → Prop} (h : ch_loop (fun (s : Int32 × ch_W) => c_X11_checkClasses_126 g t0 s.1 s.2) a = some res) (hk : (ch_xV Q) res) : ch_FT g true mX11_checkClasses 8 126 [some (va_rf (some t0)), some (.int a.1), none, none, none] [] (a.2) Q := by
  refine ch_loop_ind (fun (a : Int32 × ch_W) (r : Except Nat Unit × ch_W) => (ch_xV Q) r → ch_FT g true mX11_checkClasses 8 126 [some (va_rf (some t0)), some (.int a.1), none, none, none] [] (a.2) Q) ?_ ?_ a res h hk
  · intro a a2 b h1 ih hk
    exact s_X11_checkClasses_126  h1 (ih hk)
  · intro a b h1 hk
    exact s_X11_checkClasses_126  h1 hk

def c_X11_checkClasses_101 (g : State) (t0 : Nat) (x1 : Int32) (y0 : Int32) (w : ch_W) : Option ((Int32 × ch_W) ⊕ (Except Nat Unit × ch_W)) := (ch_gR w (some t0) 12 fX11_kinds).bind fun v1 => (ch_rc w v1 14).bind fun b3 => (c_J5_get b3 x1 w).bind fun v4 => (ch_cast w v4 7).bind fun _ => (ch_gI w v4 7 fX6_place).bind fun v6 => ch_tb (c_X11_must g y0 v6 w) (fun a w => .inr ((.error a, w))) fun _ w8 => some (.inl (x1 + 1, w8))
theorem s_X11_checkClasses_101 {g : State} {t0 : Nat} {x1 : Int32} {y0 : Int32} {w : ch_W} {res : (Int32 × ch_W) ⊕ (Except Nat Unit × ch_W)} {Q : Outcome → ch_W → Prop} (h : c_X11_checkClasses_101 g t0 x1 y0 w = some res) (hk : (ch_sm (fun s => ch_FT g true mX11_checkClasses 8 56 [some (va_rf (some t0)), some (.int s.1), none, none, none] [] (s.2) Q) (ch_xV Q)) res) : ch_FT g true mX11_checkClasses 8 101 [some (va_rf (some t0)), some (.int x1), none, none, none] [.int y0] (w) Q := by
  unfold c_X11_checkClasses_101 at h
  refine ch_aload_n 0 (some t0) dX11_checkClasses_101 rfl (cp_gR (ci := 11) (k := 1) dX11_checkClasses_102 fl_X11_12 rfl h (fun v1 h => ?_))
  obtain ⟨b3, hb2, h⟩ := ch_bd h
  obtain ⟨v4, hp5, h⟩ := ch_bd h
  refine ch_iload_n 1 _ dX11_checkClasses_105 rfl (ch_iv yJ5_get prog_32_method_20_code 2 (some (.object "java/lang/Object")) (ci := 13) (q := (RJ5, TJ5, 3)) (b := b3) (d' := 4) (av := [.int x1]) (rest := [.int y0]) (by rw [ch_rs hb2]; rfl) dX11_checkClasses_106 q1062 q612 rfl q613 q614 can_J5_get (Nat.le_of_ble_eq_true rfl) (ch_hw (Nat.le_of_ble_eq_true rfl)) (ch_rtg hb2) (cp_kR (v := v4) (w1 := w) (fun Q' hq => s_J5_get hp5 hq) ?_))
  refine cp_cast (ci := 6) (q := (RX6, TX6, 8)) dX11_checkClasses_109 rfl q1054 h (fun h => ?_)
  refine cp_gI (ci := 6) (k := 1) dX11_checkClasses_112 fl_X11_136 rfl h (fun v6 h => ?_)
  refine ch_is yX11_must prog_2_method_2_code 2 none (d' := 7) (av := [.int y0, .int v6]) (rest := []) rfl dX11_checkClasses_115 q1123 q1124 q226 q1125 can_X11_must (Nat.le_of_ble_eq_true rfl) (Nat.le_of_ble_eq_true rfl) (cp_tV h (fun p hp Q' hq => s_X11_must hp hq) (fun w8 h => ?_) (fun a w1 h => ?_))
  · refine ch_iinc 1 _ _ (x1 + 1) (ls1 := [some (va_rf (some t0)), some (.int (x1 + 1)), none, none, none]) dX11_checkClasses_118 rfl rfl (Nat.le_of_ble_eq_true rfl) rfl (ch_goto 56 dX11_checkClasses_121 rfl (ch_FT.wk (ch_wS (ch_wS (ch_wN (ch_wN (ch_wN ch_w0))))) ?_))
    obtain rfl := Option.some.inj h
    exact hk
  · subst h
    exact ch_th rfl hk

def c_X11_checkClasses_56 (g : State) (t0 : Nat) (x1 : Int32)  (w : ch_W) : Option ((Int32 × ch_W) ⊕ (Except Nat Unit × ch_W)) := (ch_gR w (some t0) 12 fX11_kinds).bind fun v1 => (ch_rc w v1 14).bind fun b3 => (c_J5_size b3 w).bind fun v4 => if x1 < v4 then ((ch_gR w (some t0) 12 fX11_kinds).bind fun v6 => (ch_rc w v6 14).bind fun b8 => (c_J5_get b8 x1 w).bind fun v9 => (ch_cast w v9 7).bind fun _ => (ch_gI w v9 7 fX6_name).bind fun v11 => (ch_rc w (some t0) 12).bind fun _ => (c_X11_kindOf t0 v11 w).bind fun v13 => (ch_gR w (some t0) 12 fX11_kinds).bind fun v15 => (ch_rc w v15 14).bind fun b17 => (c_J5_get b17 x1 w).bind fun v18 => if v13 = v18 then (c_X11_checkClasses_101 g t0 x1 1 w) else (c_X11_checkClasses_101 g t0 x1 0 w)) else ((ch_loop (fun (s : Int32 × ch_W) => c_X11_checkClasses_126 g t0 s.1 s.2) (5, w)).bind fun r => some (.inr (r)))
theorem s_X11_checkClasses_56 {g : State} {t0 : Nat} {x1 : Int32} {w : ch_W} {res : (Int32 × ch_W) ⊕ (Except Nat Unit × ch_W)} {Q : Outcome → ch_W → Prop} (h : c_X11_checkClasses_56 g t0 x1 w = some res) (hk : (ch_sm (fun s => ch_FT g true mX11_checkClasses 8 56 [some (va_rf (some t0)), some (.int s.1), none, none, none] [] (s.2) Q) (ch_xV Q)) res) : ch_FT g true mX11_checkClasses 8 56 [some (va_rf (some t0)), some (.int x1), none, none, none] [] (w) Q := by
  unfold c_X11_checkClasses_56 at h
  refine ch_iload_n 1 _ dX11_checkClasses_56 rfl (ch_aload_n 0 (some t0) dX11_checkClasses_57 rfl (cp_gR (ci := 11) (k := 1) dX11_checkClasses_58 fl_X11_12 rfl h (fun v1 h => ?_)))
  obtain ⟨b3, hb2, h⟩ := ch_bd h
  obtain ⟨v4, hp5, h⟩ := ch_bd h
  refine ch_iv yJ5_size prog_32_method_8_code 1 (some .int) (ci := 13) (q := (RJ5, TJ5, 3)) (b := b3) (d' := 2) (av := []) (rest := [.int x1]) (by rw [ch_rs hb2]; rfl) dX11_checkClasses_61 q1061 q608 rfl q609 q610 can_J5_size (Nat.le_of_ble_eq_true rfl) (ch_hw (Nat.le_of_ble_eq_true rfl)) (ch_rtg hb2) (cp_kI (v := v4) (w1 := w) (fun Q' hq => s_J5_size hp5 hq) ?_)
  refine cp_icmp_ge _ _ (tgt := 124) dX11_checkClasses_64 rfl h (fun h => ?_) (fun h => ?_)
  · obtain ⟨r, hr, h⟩ := ch_bd h
    obtain rfl := Option.some.inj h
    exact ch_iconst _ 5 dX11_checkClasses_124 rfl (ch_istore_n 1 _ (ls1 := [some (va_rf (some t0)), some (.int 5), none, none, none]) dX11_checkClasses_125 (Nat.le_of_ble_eq_true rfl) rfl (ch_FT.wk (ch_wS (ch_wS (ch_wN (ch_wN (ch_wN ch_w0))))) (sl_X11_checkClasses_126  hr hk)))
  · refine ch_aload_n 0 (some t0) dX11_checkClasses_67 rfl (ch_aload_n 0 (some t0) dX11_checkClasses_68 rfl (cp_gR (ci := 11) (k := 1) dX11_checkClasses_69 fl_X11_12 rfl h (fun v6 h => ?_)))
    obtain ⟨b8, hb7, h⟩ := ch_bd h
    obtain ⟨v9, hp10, h⟩ := ch_bd h
    refine ch_iload_n 1 _ dX11_checkClasses_72 rfl (ch_iv yJ5_get prog_32_method_20_code 2 (some (.object "java/lang/Object")) (ci := 13) (q := (RJ5, TJ5, 3)) (b := b8) (d' := 4) (av := [.int x1]) (rest := [va_rf (some t0)]) (by rw [ch_rs hb7]; rfl) dX11_checkClasses_73 q1062 q612 rfl q613 q614 can_J5_get (Nat.le_of_ble_eq_true rfl) (ch_hw (Nat.le_of_ble_eq_true rfl)) (ch_rtg hb7) (cp_kR (v := v9) (w1 := w) (fun Q' hq => s_J5_get hp10 hq) ?_))
    refine cp_cast (ci := 6) (q := (RX6, TX6, 8)) dX11_checkClasses_76 rfl q1054 h (fun h => ?_)
    refine cp_gI (ci := 6) (k := 0) dX11_checkClasses_79 fl_X11_95 rfl h (fun v11 h => ?_)
    obtain ⟨_, hb12, h⟩ := ch_bd h
    obtain ⟨v13, hp14, h⟩ := ch_bd h
    refine ch_iv yX11_kindOf prog_2_method_4_code 3 (some (.object "ClassHouse$Kind")) (ci := 11) (q := (RX11, TX11, 14)) (b := t0) (d' := 5) (av := [.int v11]) (rest := []) rfl dX11_checkClasses_82 q1119 q1121 rfl qs36 q1122 can_X11_kindOf (Nat.le_of_ble_eq_true rfl) (Nat.le_of_ble_eq_true rfl) (ch_rts hb12) (cp_kR (v := v13) (w1 := w) (fun Q' hq => s_X11_kindOf hp14 hq) ?_)
    refine ch_aload_n 0 (some t0) dX11_checkClasses_85 rfl (cp_gR (ci := 11) (k := 1) dX11_checkClasses_86 fl_X11_12 rfl h (fun v15 h => ?_))
    obtain ⟨b17, hb16, h⟩ := ch_bd h
    obtain ⟨v18, hp19, h⟩ := ch_bd h
    refine ch_iload_n 1 _ dX11_checkClasses_89 rfl (ch_iv yJ5_get prog_32_method_20_code 2 (some (.object "java/lang/Object")) (ci := 13) (q := (RJ5, TJ5, 3)) (b := b17) (d' := 4) (av := [.int x1]) (rest := [va_rf v13]) (by rw [ch_rs hb16]; rfl) dX11_checkClasses_90 q1062 q612 rfl q613 q614 can_J5_get (Nat.le_of_ble_eq_true rfl) (ch_hw (Nat.le_of_ble_eq_true rfl)) (ch_rtg hb16) (cp_kR (v := v18) (w1 := w) (fun Q' hq => s_J5_get hp19 hq) ?_))
    refine cp_acmp_ne v13 v18 (tgt := 100) dX11_checkClasses_93 rfl h (fun h => ?_) (fun h => ?_)
    · exact ch_iconst _ 0 dX11_checkClasses_100 rfl (ch_FT.wk (ch_wS (ch_wS (ch_wN (ch_wN (ch_wN ch_w0))))) (s_X11_checkClasses_101  h hk))
    · exact ch_iconst _ 1 dX11_checkClasses_96 rfl (ch_goto 101 dX11_checkClasses_97 rfl (ch_FT.wk (ch_wS (ch_wS (ch_wN (ch_wN (ch_wN ch_w0))))) (s_X11_checkClasses_101  h hk)))
theorem sl_X11_checkClasses_56 {g : State} {t0 : Nat} {a : Int32 × ch_W} {res : Except Nat Unit × ch_W} {Q : Outcome → ch_W → Prop} (h : ch_loop (fun (s : Int32 × ch_W) => c_X11_checkClasses_56 g t0 s.1 s.2) a = some res) (hk : (ch_xV Q) res) : ch_FT g true mX11_checkClasses 8 56 [some (va_rf (some t0)), some (.int a.1), none, none, none] [] (a.2) Q := by
  refine ch_loop_ind (fun (a : Int32 × ch_W) (r : Except Nat Unit × ch_W) => (ch_xV Q) r → ch_FT g true mX11_checkClasses 8 56 [some (va_rf (some t0)), some (.int a.1), none, none, none] [] (a.2) Q) ?_ ?_ a res h hk
  · intro a a2 b h1 ih hk
    exact s_X11_checkClasses_56  h1 (ih hk)
  · intro a b h1 hk
    exact s_X11_checkClasses_56  h1 hk

def c_X11_checkClasses_2 (g : State) (t0 : Nat) (x1 : Int32)  (w : ch_W) : Option ((Int32 × ch_W) ⊕ (Except Nat Unit × ch_W)) := (ch_gR w (some t0) 12 fX11_kinds).bind fun v1 => (ch_rc w v1 14).bind fun b3 => (c_J5_size b3 w).bind fun v4 => if x1 < v4 then ((ch_gR w (some t0) 12 fX11_kinds).bind fun v6 => (ch_rc w v6 14).bind fun b8 => (c_J5_get b8 x1 w).bind fun v9 => (ch_cast w v9 7).bind fun _ => (ch_gI w v9 7 fX6_parentName).bind fun v11 => if v11 < 0 then ((ch_pR w v9 7 fX6_parent none).bind fun w17 => some (.inl (x1 + 1, w17))) else ((ch_gI w v9 7 fX6_parentName).bind fun v12 => (ch_rc w (some t0) 12).bind fun _ => (c_X11_kindOf t0 v12 w).bind fun v14 => (ch_pR w v9 7 fX6_parent v14).bind fun w16 => some (.inl (x1 + 1, w16)))) else ((ch_loop (fun (s : Int32 × ch_W) => c_X11_checkClasses_56 g t0 s.1 s.2) (5, w)).bind fun r => some (.inr (r)))
theorem s_X11_checkClasses_2 {g : State} {t0 : Nat} {x1 : Int32} {w : ch_W} {res : (Int32 × ch_W) ⊕ (Except Nat Unit × ch_W)} {Q : Outcome → ch_W → Prop} (h : c_X11_checkClasses_2 g t0 x1 w = some res) (hk : (ch_sm (fun s => ch_FT g true mX11_checkClasses 8 2 [some (va_rf (some t0)), some (.int s.1), none, none, none] [] (s.2) Q) (ch_xV Q)) res) : ch_FT g true mX11_checkClasses 8 2 [some (va_rf (some t0)), some (.int x1), none, none, none] [] (w) Q := by
  unfold c_X11_checkClasses_2 at h
  refine ch_iload_n 1 _ dX11_checkClasses_2 rfl (ch_aload_n 0 (some t0) dX11_checkClasses_3 rfl (cp_gR (ci := 11) (k := 1) dX11_checkClasses_4 fl_X11_12 rfl h (fun v1 h => ?_)))
  obtain ⟨b3, hb2, h⟩ := ch_bd h
  obtain ⟨v4, hp5, h⟩ := ch_bd h
  refine ch_iv yJ5_size prog_32_method_8_code 1 (some .int) (ci := 13) (q := (RJ5, TJ5, 3)) (b := b3) (d' := 2) (av := []) (rest := [.int x1]) (by rw [ch_rs hb2]; rfl) dX11_checkClasses_7 q1061 q608 rfl q609 q610 can_J5_size (Nat.le_of_ble_eq_true rfl) (ch_hw (Nat.le_of_ble_eq_true rfl)) (ch_rtg hb2) (cp_kI (v := v4) (w1 := w) (fun Q' hq => s_J5_size hp5 hq) ?_)
  refine cp_icmp_ge _ _ (tgt := 54) dX11_checkClasses_10 rfl h (fun h => ?_) (fun h => ?_)
  · obtain ⟨r, hr, h⟩ := ch_bd h
    obtain rfl := Option.some.inj h
    exact ch_iconst _ 5 dX11_checkClasses_54 rfl (ch_istore_n 1 _ (ls1 := [some (va_rf (some t0)), some (.int 5), none, none, none]) dX11_checkClasses_55 (Nat.le_of_ble_eq_true rfl) rfl (ch_FT.wk (ch_wS (ch_wS (ch_wN (ch_wN (ch_wN ch_w0))))) (sl_X11_checkClasses_56  hr hk)))
  · refine ch_aload_n 0 (some t0) dX11_checkClasses_13 rfl (cp_gR (ci := 11) (k := 1) dX11_checkClasses_14 fl_X11_12 rfl h (fun v6 h => ?_))
    obtain ⟨b8, hb7, h⟩ := ch_bd h
    obtain ⟨v9, hp10, h⟩ := ch_bd h
    refine ch_iload_n 1 _ dX11_checkClasses_17 rfl (ch_iv yJ5_get prog_32_method_20_code 2 (some (.object "java/lang/Object")) (ci := 13) (q := (RJ5, TJ5, 3)) (b := b8) (d' := 4) (av := [.int x1]) (rest := []) (by rw [ch_rs hb7]; rfl) dX11_checkClasses_18 q1062 q612 rfl q613 q614 can_J5_get (Nat.le_of_ble_eq_true rfl) (Nat.le_of_ble_eq_true rfl) (ch_rtg hb7) (cp_kR (v := v9) (w1 := w) (fun Q' hq => s_J5_get hp10 hq) ?_))
    refine cp_cast (ci := 6) (q := (RX6, TX6, 8)) dX11_checkClasses_21 rfl q1054 h (fun h => ?_)
    refine ch_astore_n 2 v9 (ls1 := [some (va_rf (some t0)), some (.int x1), some (va_rf v9), none, none]) dX11_checkClasses_24 (Nat.le_of_ble_eq_true rfl) rfl (ch_aload_n 2 v9 dX11_checkClasses_25 rfl (ch_aload_n 2 v9 dX11_checkClasses_26 rfl (cp_gI (ci := 6) (k := 2) dX11_checkClasses_27 fl_X11_129 rfl h (fun v11 h => ?_))))
    refine cp_if_ge _ (tgt := 37) dX11_checkClasses_30 rfl h (fun h => ?_) (fun h => ?_)
    · refine ch_aload_n 0 (some t0) dX11_checkClasses_37 rfl (ch_aload_n 2 v9 dX11_checkClasses_38 rfl (cp_gI (ci := 6) (k := 2) dX11_checkClasses_39 fl_X11_129 rfl h (fun v12 h => ?_)))
      obtain ⟨_, hb13, h⟩ := ch_bd h
      obtain ⟨v14, hp15, h⟩ := ch_bd h
      refine ch_iv yX11_kindOf prog_2_method_4_code 3 (some (.object "ClassHouse$Kind")) (ci := 11) (q := (RX11, TX11, 14)) (b := t0) (d' := 5) (av := [.int v12]) (rest := [va_rf v9]) rfl dX11_checkClasses_42 q1119 q1121 rfl qs36 q1122 can_X11_kindOf (Nat.le_of_ble_eq_true rfl) (ch_hw (Nat.le_of_ble_eq_true rfl)) (ch_rts hb13) (cp_kR (v := v14) (w1 := w) (fun Q' hq => s_X11_kindOf hp15 hq) ?_)
      refine cp_pR (ci := 6) (k := 3) dX11_checkClasses_45 fl_X11_132 rfl rfl rfl h (fun w16 h => ?_)
      refine ch_iinc 1 _ _ (x1 + 1) (ls1 := [some (va_rf (some t0)), some (.int (x1 + 1)), some (va_rf v9), none, none]) dX11_checkClasses_48 rfl rfl (Nat.le_of_ble_eq_true rfl) rfl (ch_goto 2 dX11_checkClasses_51 rfl (ch_FT.wk (ch_wS (ch_wS (ch_wN (ch_wN (ch_wN ch_w0))))) ?_))
      obtain rfl := Option.some.inj h
      exact hk
    · refine ch_null dX11_checkClasses_33 (ch_goto 45 dX11_checkClasses_34 rfl (cp_pR (ci := 6) (k := 3) dX11_checkClasses_45 fl_X11_132 rfl rfl rfl h (fun w17 h => ?_)))
      refine ch_iinc 1 _ _ (x1 + 1) (ls1 := [some (va_rf (some t0)), some (.int (x1 + 1)), some (va_rf v9), none, none]) dX11_checkClasses_48 rfl rfl (Nat.le_of_ble_eq_true rfl) rfl (ch_goto 2 dX11_checkClasses_51 rfl (ch_FT.wk (ch_wS (ch_wS (ch_wN (ch_wN (ch_wN ch_w0))))) ?_))
      obtain rfl := Option.some.inj h
      exact hk
theorem sl_X11_checkClasses_2 {g : State} {t0 : Nat} {a : Int32 × ch_W} {res : Except Nat Unit × ch_W} {Q : Outcome → ch_W → Prop} (h : ch_loop (fun (s : Int32 × ch_W) => c_X11_checkClasses_2 g t0 s.1 s.2) a = some res) (hk : (ch_xV Q) res) : ch_FT g true mX11_checkClasses 8 2 [some (va_rf (some t0)), some (.int a.1), none, none, none] [] (a.2) Q := by
  refine ch_loop_ind (fun (a : Int32 × ch_W) (r : Except Nat Unit × ch_W) => (ch_xV Q) r → ch_FT g true mX11_checkClasses 8 2 [some (va_rf (some t0)), some (.int a.1), none, none, none] [] (a.2) Q) ?_ ?_ a res h hk
  · intro a a2 b h1 ih hk
    exact s_X11_checkClasses_2  h1 (ih hk)
  · intro a b h1 hk
    exact s_X11_checkClasses_2  h1 hk

def c_X11_checkClasses (g : State) (t0 : Nat)  (w : ch_W) : Option (Except Nat Unit × ch_W) := ch_loop (fun (s : Int32 × ch_W) => c_X11_checkClasses_2 g t0 s.1 s.2) (5, w)
theorem s_X11_checkClasses {g : State} {t0 : Nat} {w : ch_W} {res : Except Nat Unit × ch_W} {Q : Outcome → ch_W → Prop} (h : c_X11_checkClasses g t0 w = some res) (hk : (ch_xV Q) res) : ch_CT g true yX11_checkClasses 8 [.ref t0] (w) Q := by
  unfold c_X11_checkClasses at h
  refine ch_ctL mX11_checkClasses (ls := [some (va_rf (some t0)), none, none, none, none]) q1118 rfl (ch_lyr (r := some t0) ch_ly0) (Nat.le_of_ble_eq_true rfl) rfl ?_
  exact ch_iconst _ 5 dX11_checkClasses_0 rfl (ch_istore_n 1 _ (ls1 := [some (va_rf (some t0)), some (.int 5), none, none, none]) dX11_checkClasses_1 (Nat.le_of_ble_eq_true rfl) rfl (ch_FT.wk (ch_wS (ch_wS (ch_wN (ch_wN (ch_wN ch_w0))))) (sl_X11_checkClasses_2  h hk)))

theorem bX11_typeOf_0 : ch_ck cX11_typeOf 0 [27, 156, 0, 5, 27, 172, 42, 27, 182, 0, 98, 77, 44, 199, 0, 8] := ch_ckof (by decide +kernel)
theorem bX11_typeOf_1 : ch_ck cX11_typeOf 16 [16, 250, 167, 0, 7, 44, 180, 0, 75, 172] := ch_ckof (by decide +kernel)
theorem dX11_typeOf_0 : decode cX11_typeOf 0 = .ok (.iload_n 1, 1) := dz_27 (bX11_typeOf_0 0 _ rfl)
theorem dX11_typeOf_1 : decode cX11_typeOf 1 = .ok (.ifCond .ge 5, 3) := dz_156 (bX11_typeOf_0 1 _ rfl) (bX11_typeOf_0 2 _ rfl) (bX11_typeOf_0 3 _ rfl)
theorem dX11_typeOf_4 : decode cX11_typeOf 4 = .ok (.iload_n 1, 1) := dz_27 (bX11_typeOf_0 4 _ rfl)
theorem dX11_typeOf_5 : decode cX11_typeOf 5 = .ok (.ireturn, 1) := dz_172 (bX11_typeOf_0 5 _ rfl)
theorem dX11_typeOf_6 : decode cX11_typeOf 6 = .ok (.aload_n 0, 1) := dz_42 (bX11_typeOf_0 6 _ rfl)
theorem dX11_typeOf_7 : decode cX11_typeOf 7 = .ok (.iload_n 1, 1) := dz_27 (bX11_typeOf_0 7 _ rfl)
theorem dX11_typeOf_8 : decode cX11_typeOf 8 = .ok (.invokevirtual 98, 3) := dz_182 (bX11_typeOf_0 8 _ rfl) (bX11_typeOf_0 9 _ rfl) (bX11_typeOf_0 10 _ rfl)
theorem dX11_typeOf_11 : decode cX11_typeOf 11 = .ok (.astore_n 2, 1) := dz_77 (bX11_typeOf_0 11 _ rfl)
theorem dX11_typeOf_12 : decode cX11_typeOf 12 = .ok (.aload_n 2, 1) := dz_44 (bX11_typeOf_0 12 _ rfl)
theorem dX11_typeOf_13 : decode cX11_typeOf 13 = .ok (.ifnonnull 8, 3) := dz_199 (bX11_typeOf_0 13 _ rfl) (bX11_typeOf_0 14 _ rfl) (bX11_typeOf_0 15 _ rfl)
theorem dX11_typeOf_16 : decode cX11_typeOf 16 = .ok (.bipush (-6), 2) := dz_16 (bX11_typeOf_1 0 _ rfl) (bX11_typeOf_1 1 _ rfl)
theorem dX11_typeOf_18 : decode cX11_typeOf 18 = .ok (.goto 7, 3) := dz_167 (bX11_typeOf_1 2 _ rfl) (bX11_typeOf_1 3 _ rfl) (bX11_typeOf_1 4 _ rfl)
theorem dX11_typeOf_21 : decode cX11_typeOf 21 = .ok (.aload_n 2, 1) := dz_44 (bX11_typeOf_1 5 _ rfl)
theorem dX11_typeOf_22 : decode cX11_typeOf 22 = .ok (.getfield 75, 3) := dz_180 (bX11_typeOf_1 6 _ rfl) (bX11_typeOf_1 7 _ rfl) (bX11_typeOf_1 8 _ rfl)
theorem dX11_typeOf_25 : decode cX11_typeOf 25 = .ok (.ireturn, 1) := dz_172 (bX11_typeOf_1 9 _ rfl)
def c_X11_typeOf (t0 : Nat) (x1 : Int32) (w : ch_W) : Option (Int32) := if x1 < 0 then (some (x1)) else ((ch_rc w (some t0) 12).bind fun _ => (c_X11_kindOf t0 x1 w).bind fun v2 => if v2 = none then (some ((-6))) else ((ch_gI w v2 7 fX6_number).bind fun v4 => some (v4)))
theorem s_X11_typeOf {g : State} {kb : Bool} {t0 : Nat} {x1 : Int32} {w : ch_W} {res : Int32} {Q : Outcome → ch_W → Prop} (h : c_X11_typeOf t0 x1 w = some res) (hk : (fun r => ch_eI Q (r, w)) res) : ch_CT g kb yX11_typeOf 6 [.ref t0, .int x1] (w) Q := by
  unfold c_X11_typeOf at h
  refine ch_ctL mX11_typeOf (ls := [some (va_rf (some t0)), some (.int x1), none]) q1139 rfl (ch_lyr (r := some t0) (ch_lyi ch_ly0)) (Nat.le_of_ble_eq_true rfl) rfl ?_
  refine ch_iload_n 1 _ dX11_typeOf_0 rfl (cp_if_ge _ (tgt := 6) dX11_typeOf_1 rfl h (fun h => ?_) (fun h => ?_))
  · obtain ⟨_, hb1, h⟩ := ch_bd h
    obtain ⟨v2, hp3, h⟩ := ch_bd h
    refine ch_aload_n 0 (some t0) dX11_typeOf_6 rfl (ch_iload_n 1 _ dX11_typeOf_7 rfl (ch_iv yX11_kindOf prog_2_method_4_code 3 (some (.object "ClassHouse$Kind")) (ci := 11) (q := (RX11, TX11, 14)) (b := t0) (d' := 5) (av := [.int x1]) (rest := []) rfl dX11_typeOf_8 q1119 q1121 rfl qs36 q1122 can_X11_kindOf (Nat.le_of_ble_eq_true rfl) (Nat.le_of_ble_eq_true rfl) (ch_rts hb1) (cp_kR (v := v2) (w1 := w) (fun Q' hq => s_X11_kindOf hp3 hq) ?_)))
    refine ch_astore_n 2 v2 (ls1 := [some (va_rf (some t0)), some (.int x1), some (va_rf v2)]) dX11_typeOf_11 (Nat.le_of_ble_eq_true rfl) rfl (ch_aload_n 2 v2 dX11_typeOf_12 rfl (cp_ifnonnull v2 (tgt := 21) dX11_typeOf_13 rfl h (fun h => ?_) (fun h => ?_)))
    · refine ch_aload_n 2 v2 dX11_typeOf_21 rfl (cp_gI (ci := 6) (k := 4) dX11_typeOf_22 fl_X11_75 rfl h (fun v4 h => ?_))
      obtain rfl := Option.some.inj h
      exact ch_ireturn _ dX11_typeOf_25 rfl rfl hk
    · obtain rfl := Option.some.inj h
      exact ch_bipush _ (-6) dX11_typeOf_16 rfl (ch_goto 25 dX11_typeOf_18 rfl (ch_ireturn _ dX11_typeOf_25 rfl rfl hk))
  · obtain rfl := Option.some.inj h
    exact ch_iload_n 1 _ dX11_typeOf_4 rfl (ch_ireturn _ dX11_typeOf_5 rfl rfl hk)

theorem bX6_own_0 : ch_ck cX6_own 0 [3, 62, 29, 42, 180, 0, 16, 182, 0, 26, 162, 0, 43, 42, 180, 0] := ch_ckof (by decide +kernel)
theorem bX6_own_1 : ch_ck cX6_own 16 [16, 29, 182, 0, 30, 192, 0, 34, 58, 4, 25, 4, 180, 0, 36, 27] := ch_ckof (by decide +kernel)
theorem bX6_own_2 : ch_ck cX6_own 32 [160, 0, 15, 25, 4, 180, 0, 40, 28, 160, 0, 6, 25, 4, 176, 132] := ch_ckof (by decide +kernel)
theorem bX6_own_3 : ch_ck cX6_own 48 [3, 1, 167, 255, 208, 1, 176] := ch_ckof (by decide +kernel)
theorem dX6_own_0 : decode cX6_own 0 = .ok (.iconst 0, 1) := dz_3 (bX6_own_0 0 _ rfl)
theorem dX6_own_1 : decode cX6_own 1 = .ok (.istore_n 3, 1) := dz_62 (bX6_own_0 1 _ rfl)
theorem dX6_own_2 : decode cX6_own 2 = .ok (.iload_n 3, 1) := dz_29 (bX6_own_0 2 _ rfl)
theorem dX6_own_3 : decode cX6_own 3 = .ok (.aload_n 0, 1) := dz_42 (bX6_own_0 3 _ rfl)
theorem dX6_own_4 : decode cX6_own 4 = .ok (.getfield 16, 3) := dz_180 (bX6_own_0 4 _ rfl) (bX6_own_0 5 _ rfl) (bX6_own_0 6 _ rfl)
theorem dX6_own_7 : decode cX6_own 7 = .ok (.invokevirtual 26, 3) := dz_182 (bX6_own_0 7 _ rfl) (bX6_own_0 8 _ rfl) (bX6_own_0 9 _ rfl)
theorem dX6_own_10 : decode cX6_own 10 = .ok (.if_icmp .ge 43, 3) := dz_162 (bX6_own_0 10 _ rfl) (bX6_own_0 11 _ rfl) (bX6_own_0 12 _ rfl)
theorem dX6_own_13 : decode cX6_own 13 = .ok (.aload_n 0, 1) := dz_42 (bX6_own_0 13 _ rfl)
theorem dX6_own_14 : decode cX6_own 14 = .ok (.getfield 16, 3) := dz_180 (bX6_own_0 14 _ rfl) (bX6_own_0 15 _ rfl) (bX6_own_1 0 _ rfl)
theorem dX6_own_17 : decode cX6_own 17 = .ok (.iload_n 3, 1) := dz_29 (bX6_own_1 1 _ rfl)
theorem dX6_own_18 : decode cX6_own 18 = .ok (.invokevirtual 30, 3) := dz_182 (bX6_own_1 2 _ rfl) (bX6_own_1 3 _ rfl) (bX6_own_1 4 _ rfl)
theorem dX6_own_21 : decode cX6_own 21 = .ok (.checkcast 34, 3) := dz_192 (bX6_own_1 5 _ rfl) (bX6_own_1 6 _ rfl) (bX6_own_1 7 _ rfl)
theorem dX6_own_24 : decode cX6_own 24 = .ok (.astore 4, 2) := dz_58 (bX6_own_1 8 _ rfl) (bX6_own_1 9 _ rfl)
theorem dX6_own_26 : decode cX6_own 26 = .ok (.aload 4, 2) := dz_25 (bX6_own_1 10 _ rfl) (bX6_own_1 11 _ rfl)
theorem dX6_own_28 : decode cX6_own 28 = .ok (.getfield 36, 3) := dz_180 (bX6_own_1 12 _ rfl) (bX6_own_1 13 _ rfl) (bX6_own_1 14 _ rfl)
theorem dX6_own_31 : decode cX6_own 31 = .ok (.iload_n 1, 1) := dz_27 (bX6_own_1 15 _ rfl)
theorem dX6_own_32 : decode cX6_own 32 = .ok (.if_icmp .ne 15, 3) := dz_160 (bX6_own_2 0 _ rfl) (bX6_own_2 1 _ rfl) (bX6_own_2 2 _ rfl)
theorem dX6_own_35 : decode cX6_own 35 = .ok (.aload 4, 2) := dz_25 (bX6_own_2 3 _ rfl) (bX6_own_2 4 _ rfl)
theorem dX6_own_37 : decode cX6_own 37 = .ok (.getfield 40, 3) := dz_180 (bX6_own_2 5 _ rfl) (bX6_own_2 6 _ rfl) (bX6_own_2 7 _ rfl)
theorem dX6_own_40 : decode cX6_own 40 = .ok (.iload_n 2, 1) := dz_28 (bX6_own_2 8 _ rfl)
theorem dX6_own_41 : decode cX6_own 41 = .ok (.if_icmp .ne 6, 3) := dz_160 (bX6_own_2 9 _ rfl) (bX6_own_2 10 _ rfl) (bX6_own_2 11 _ rfl)
theorem dX6_own_44 : decode cX6_own 44 = .ok (.aload 4, 2) := dz_25 (bX6_own_2 12 _ rfl) (bX6_own_2 13 _ rfl)
theorem dX6_own_46 : decode cX6_own 46 = .ok (.areturn, 1) := dz_176 (bX6_own_2 14 _ rfl)
theorem dX6_own_47 : decode cX6_own 47 = .ok (.iinc 3 1, 3) := dz_132 (bX6_own_2 15 _ rfl) (bX6_own_3 0 _ rfl) (bX6_own_3 1 _ rfl)
theorem dX6_own_50 : decode cX6_own 50 = .ok (.goto (-48), 3) := dz_167 (bX6_own_3 2 _ rfl) (bX6_own_3 3 _ rfl) (bX6_own_3 4 _ rfl)
theorem dX6_own_53 : decode cX6_own 53 = .ok (.aconst_null, 1) := dz_1 (bX6_own_3 5 _ rfl)
theorem dX6_own_54 : decode cX6_own 54 = .ok (.areturn, 1) := dz_176 (bX6_own_3 6 _ rfl)
def c_X6_own_2 (t0 : Nat) (x1 : Int32) (x2 : Int32) (x3 : Int32)  (w : ch_W) : Option (Int32 ⊕ (Option Nat)) := (ch_gR w (some t0) 7 fX6_members).bind fun v1 => (ch_rc w v1 14).bind fun b3 => (c_J5_size b3 w).bind fun v4 => if x3 < v4 then ((ch_gR w (some t0) 7 fX6_members).bind fun v6 => (ch_rc w v6 14).bind fun b8 => (c_J5_get b8 x3 w).bind fun v9 => (ch_cast w v9 8).bind fun _ => (ch_gI w v9 8 fX7_isMethod).bind fun v11 => if v11 = x1 then ((ch_gI w v9 8 fX7_name).bind fun v12 => if v12 = x2 then (some (.inr (v9))) else (some (.inl (x3 + 1)))) else (some (.inl (x3 + 1)))) else (some (.inr (none)))
theorem s_X6_own_2 {g : State} {kb : Bool} {t0 : Nat} {x1 : Int32} {x2 : Int32} {x3 : Int32} {w : ch_W} {res : Int32 ⊕ (Option Nat)} {Q : Outcome → ch_W → Prop} (h : c_X6_own_2 t0 x1 x2 x3 w = some res) (hk : (ch_sm (fun s => ch_FT g kb mX6_own 5 2 [some (va_rf (some t0)), some (.int x1), some (.int x2), some (.int s), none] [] (w) Q) (fun r => ch_eR Q (r, w))) res) : ch_FT g kb mX6_own 5 2 [some (va_rf (some t0)), some (.int x1), some (.int x2), some (.int x3), none] [] (w) Q := by
  unfold c_X6_own_2 at h
  refine ch_iload_n 3 _ dX6_own_2 rfl (ch_aload_n 0 (some t0) dX6_own_3 rfl (cp_gR (ci := 6) (k := 5) dX6_own_4 fl_X6_16 rfl h (fun v1 h => ?_)))
  obtain ⟨b3, hb2, h⟩ := ch_bd h
  obtain ⟨v4, hp5, h⟩ := ch_bd h
  refine ch_iv yJ5_size prog_32_method_8_code 1 (some .int) (ci := 13) (q := (RJ5, TJ5, 3)) (b := b3) (d' := 2) (av := []) (rest := [.int x3]) (by rw [ch_rs hb2]; rfl) dX6_own_7 q1144 q608 rfl q609 q610 can_J5_size (Nat.le_of_ble_eq_true rfl) (ch_hw (Nat.le_of_ble_eq_true rfl)) (ch_rtg hb2) (cp_kI (v := v4) (w1 := w) (fun Q' hq => s_J5_size hp5 hq) ?_)
  refine cp_icmp_ge _ _ (tgt := 53) dX6_own_10 rfl h (fun h => ?_) (fun h => ?_)
  · obtain rfl := Option.some.inj h
    exact ch_null dX6_own_53 (ch_areturn none dX6_own_54 rfl (Or.inl ⟨_, rfl⟩) hk)
  · refine ch_aload_n 0 (some t0) dX6_own_13 rfl (cp_gR (ci := 6) (k := 5) dX6_own_14 fl_X6_16 rfl h (fun v6 h => ?_))
    obtain ⟨b8, hb7, h⟩ := ch_bd h
    obtain ⟨v9, hp10, h⟩ := ch_bd h
    refine ch_iload_n 3 _ dX6_own_17 rfl (ch_iv yJ5_get prog_32_method_20_code 2 (some (.object "java/lang/Object")) (ci := 13) (q := (RJ5, TJ5, 3)) (b := b8) (d' := 4) (av := [.int x3]) (rest := []) (by rw [ch_rs hb7]; rfl) dX6_own_18 q1145 q612 rfl q613 q614 can_J5_get (Nat.le_of_ble_eq_true rfl) (Nat.le_of_ble_eq_true rfl) (ch_rtg hb7) (cp_kR (v := v9) (w1 := w) (fun Q' hq => s_J5_get hp10 hq) ?_))
    refine cp_cast (ci := 7) (q := (RX7, TX7, 12)) dX6_own_21 rfl q1146 h (fun h => ?_)
    refine ch_astore 4 v9 (ls1 := [some (va_rf (some t0)), some (.int x1), some (.int x2), some (.int x3), some (va_rf v9)]) dX6_own_24 (Nat.le_of_ble_eq_true rfl) rfl (ch_aload 4 v9 dX6_own_26 rfl (cp_gI (ci := 7) (k := 0) dX6_own_28 fl_X6_36 rfl h (fun v11 h => ?_)))
    refine ch_iload_n 1 _ dX6_own_31 rfl (cp_icmp_ne _ _ (tgt := 47) dX6_own_32 rfl h (fun h => ?_) (fun h => ?_))
    · refine ch_iinc 3 _ _ (x3 + 1) (ls1 := [some (va_rf (some t0)), some (.int x1), some (.int x2), some (.int (x3 + 1)), some (va_rf v9)]) dX6_own_47 rfl rfl (Nat.le_of_ble_eq_true rfl) rfl (ch_goto 2 dX6_own_50 rfl (ch_FT.wk (ch_wS (ch_wS (ch_wS (ch_wS (ch_wN ch_w0))))) ?_))
      obtain rfl := Option.some.inj h
      exact hk
    · refine ch_aload 4 v9 dX6_own_35 rfl (cp_gI (ci := 7) (k := 2) dX6_own_37 fl_X6_40 rfl h (fun v12 h => ?_))
      refine ch_iload_n 2 _ dX6_own_40 rfl (cp_icmp_ne _ _ (tgt := 47) dX6_own_41 rfl h (fun h => ?_) (fun h => ?_))
      · refine ch_iinc 3 _ _ (x3 + 1) (ls1 := [some (va_rf (some t0)), some (.int x1), some (.int x2), some (.int (x3 + 1)), some (va_rf v9)]) dX6_own_47 rfl rfl (Nat.le_of_ble_eq_true rfl) rfl (ch_goto 2 dX6_own_50 rfl (ch_FT.wk (ch_wS (ch_wS (ch_wS (ch_wS (ch_wN ch_w0))))) ?_))
        obtain rfl := Option.some.inj h
        exact hk
      · obtain rfl := Option.some.inj h
        exact ch_aload 4 v9 dX6_own_44 rfl (ch_areturn v9 dX6_own_46 rfl (Or.inl ⟨_, rfl⟩) hk)
theorem sl_X6_own_2 {g : State} {kb : Bool} {t0 : Nat} {x1 : Int32} {x2 : Int32} {w : ch_W} {a : Int32} {res : Option Nat} {Q : Outcome → ch_W → Prop} (h : ch_loop (fun (s : Int32) => c_X6_own_2 t0 x1 x2 s w) a = some res) (hk : (fun r => ch_eR Q (r, w)) res) : ch_FT g kb mX6_own 5 2 [some (va_rf (some t0)), some (.int x1), some (.int x2), some (.int a), none] [] (w) Q := by
  refine ch_loop_ind (fun (a : Int32) (r : Option Nat) => (fun r => ch_eR Q (r, w)) r → ch_FT g kb mX6_own 5 2 [some (va_rf (some t0)), some (.int x1), some (.int x2), some (.int a), none] [] (w) Q) ?_ ?_ a res h hk
  · intro a a2 b h1 ih hk
    exact s_X6_own_2  h1 (ih hk)
  · intro a b h1 hk
    exact s_X6_own_2  h1 hk

def c_X6_own (t0 : Nat) (x1 : Int32) (x2 : Int32) (w : ch_W) : Option (Option Nat) := ch_loop (fun (s : Int32) => c_X6_own_2 t0 x1 x2 s w) (0)
theorem s_X6_own {g : State} {kb : Bool} {t0 : Nat} {x1 : Int32} {x2 : Int32} {w : ch_W} {res : Option Nat} {Q : Outcome → ch_W → Prop} (h : c_X6_own t0 x1 x2 w = some res) (hk : (fun r => ch_eR Q (r, w)) res) : ch_CT g kb yX6_own 5 [.ref t0, .int x1, .int x2] (w) Q := by
  unfold c_X6_own at h
  refine ch_ctL mX6_own (ls := [some (va_rf (some t0)), some (.int x1), some (.int x2), none, none]) q1143 rfl (ch_lyr (r := some t0) (ch_lyi (ch_lyi ch_ly0))) (Nat.le_of_ble_eq_true rfl) rfl ?_
  exact ch_iconst _ 0 dX6_own_0 rfl (ch_istore_n 3 _ (ls1 := [some (va_rf (some t0)), some (.int x1), some (.int x2), some (.int 0), none]) dX6_own_1 (Nat.le_of_ble_eq_true rfl) rfl (ch_FT.wk (ch_wS (ch_wS (ch_wS (ch_wS (ch_wN ch_w0))))) (sl_X6_own_2  h hk)))

theorem bX8_get_0 : ch_ck cX8_get 0 [42, 180, 0, 7, 27, 46, 172] := ch_ckof (by decide +kernel)
theorem dX8_get_0 : decode cX8_get 0 = .ok (.aload_n 0, 1) := dz_42 (bX8_get_0 0 _ rfl)
theorem dX8_get_1 : decode cX8_get 1 = .ok (.getfield 7, 3) := dz_180 (bX8_get_0 1 _ rfl) (bX8_get_0 2 _ rfl) (bX8_get_0 3 _ rfl)
theorem dX8_get_4 : decode cX8_get 4 = .ok (.iload_n 1, 1) := dz_27 (bX8_get_0 4 _ rfl)
theorem dX8_get_5 : decode cX8_get 5 = .ok (.iaload, 1) := dz_46 (bX8_get_0 5 _ rfl)
theorem dX8_get_6 : decode cX8_get 6 = .ok (.ireturn, 1) := dz_172 (bX8_get_0 6 _ rfl)
def c_X8_get (t0 : Nat) (x1 : Int32) (w : ch_W) : Option (Int32) := (ch_gR w (some t0) 9 fX8_all).bind fun v1 => (ch_lI w v1 21 x1).bind fun v2 => some (v2)
theorem s_X8_get {g : State} {kb : Bool} {t0 : Nat} {x1 : Int32} {w : ch_W} {res : Int32} {Q : Outcome → ch_W → Prop} (h : c_X8_get t0 x1 w = some res) (hk : (fun r => ch_eI Q (r, w)) res) : ch_CT g kb yX8_get 2 [.ref t0, .int x1] (w) Q := by
  unfold c_X8_get at h
  refine ch_ctL mX8_get (ls := [some (va_rf (some t0)), some (.int x1)]) q1154 rfl (ch_lyr (r := some t0) (ch_lyi ch_ly0)) (Nat.le_of_ble_eq_true rfl) rfl ?_
  refine ch_aload_n 0 (some t0) dX8_get_0 rfl (cp_gR (ci := 8) (k := 0) dX8_get_1 fl_X8_7 rfl h (fun v1 h => ?_))
  refine ch_iload_n 1 _ dX8_get_4 rfl (cp_iald (t := 21) dX8_get_5 rfl rfl h (fun v2 h => ?_))
  obtain rfl := Option.some.inj h
  exact ch_ireturn _ dX8_get_6 rfl rfl hk

theorem bX8_find_0 : ch_ck cX8_find 0 [3, 61, 28, 42, 180, 0, 13, 162, 0, 19, 42, 180, 0, 7, 28, 46] := ch_ckof (by decide +kernel)
theorem bX8_find_1 : ch_ck cX8_find 16 [27, 159, 0, 9, 132, 2, 1, 167, 255, 235, 28, 42, 180, 0, 13, 162] := ch_ckof (by decide +kernel)
theorem bX8_find_2 : ch_ck cX8_find 32 [0, 7, 28, 167, 0, 4, 2, 172] := ch_ckof (by decide +kernel)
theorem dX8_find_0 : decode cX8_find 0 = .ok (.iconst 0, 1) := dz_3 (bX8_find_0 0 _ rfl)
theorem dX8_find_1 : decode cX8_find 1 = .ok (.istore_n 2, 1) := dz_61 (bX8_find_0 1 _ rfl)
theorem dX8_find_2 : decode cX8_find 2 = .ok (.iload_n 2, 1) := dz_28 (bX8_find_0 2 _ rfl)
theorem dX8_find_3 : decode cX8_find 3 = .ok (.aload_n 0, 1) := dz_42 (bX8_find_0 3 _ rfl)
theorem dX8_find_4 : decode cX8_find 4 = .ok (.getfield 13, 3) := dz_180 (bX8_find_0 4 _ rfl) (bX8_find_0 5 _ rfl) (bX8_find_0 6 _ rfl)
theorem dX8_find_7 : decode cX8_find 7 = .ok (.if_icmp .ge 19, 3) := dz_162 (bX8_find_0 7 _ rfl) (bX8_find_0 8 _ rfl) (bX8_find_0 9 _ rfl)
theorem dX8_find_10 : decode cX8_find 10 = .ok (.aload_n 0, 1) := dz_42 (bX8_find_0 10 _ rfl)
theorem dX8_find_11 : decode cX8_find 11 = .ok (.getfield 7, 3) := dz_180 (bX8_find_0 11 _ rfl) (bX8_find_0 12 _ rfl) (bX8_find_0 13 _ rfl)
theorem dX8_find_14 : decode cX8_find 14 = .ok (.iload_n 2, 1) := dz_28 (bX8_find_0 14 _ rfl)
theorem dX8_find_15 : decode cX8_find 15 = .ok (.iaload, 1) := dz_46 (bX8_find_0 15 _ rfl)
theorem dX8_find_16 : decode cX8_find 16 = .ok (.iload_n 1, 1) := dz_27 (bX8_find_1 0 _ rfl)
theorem dX8_find_17 : decode cX8_find 17 = .ok (.if_icmp .eq 9, 3) := dz_159 (bX8_find_1 1 _ rfl) (bX8_find_1 2 _ rfl) (bX8_find_1 3 _ rfl)
theorem dX8_find_20 : decode cX8_find 20 = .ok (.iinc 2 1, 3) := dz_132 (bX8_find_1 4 _ rfl) (bX8_find_1 5 _ rfl) (bX8_find_1 6 _ rfl)
theorem dX8_find_23 : decode cX8_find 23 = .ok (.goto (-21), 3) := dz_167 (bX8_find_1 7 _ rfl) (bX8_find_1 8 _ rfl) (bX8_find_1 9 _ rfl)
theorem dX8_find_26 : decode cX8_find 26 = .ok (.iload_n 2, 1) := dz_28 (bX8_find_1 10 _ rfl)
theorem dX8_find_27 : decode cX8_find 27 = .ok (.aload_n 0, 1) := dz_42 (bX8_find_1 11 _ rfl)
theorem dX8_find_28 : decode cX8_find 28 = .ok (.getfield 13, 3) := dz_180 (bX8_find_1 12 _ rfl) (bX8_find_1 13 _ rfl) (bX8_find_1 14 _ rfl)
theorem dX8_find_31 : decode cX8_find 31 = .ok (.if_icmp .ge 7, 3) := dz_162 (bX8_find_1 15 _ rfl) (bX8_find_2 0 _ rfl) (bX8_find_2 1 _ rfl)
theorem dX8_find_34 : decode cX8_find 34 = .ok (.iload_n 2, 1) := dz_28 (bX8_find_2 2 _ rfl)
theorem dX8_find_35 : decode cX8_find 35 = .ok (.goto 4, 3) := dz_167 (bX8_find_2 3 _ rfl) (bX8_find_2 4 _ rfl) (bX8_find_2 5 _ rfl)
theorem dX8_find_38 : decode cX8_find 38 = .ok (.iconst (-1), 1) := dz_2 (bX8_find_2 6 _ rfl)
theorem dX8_find_39 : decode cX8_find 39 = .ok (.ireturn, 1) := dz_172 (bX8_find_2 7 _ rfl)
def c_X8_find_26 (t0 : Nat) (x2 : Int32)  (w : ch_W) : Option (Int32) := (ch_gI w (some t0) 9 fX8_size).bind fun v1 => if x2 < v1 then (some (x2)) else (some ((-1)))
theorem s_X8_find_26 {g : State} {kb : Bool} {t0 : Nat} {x2 : Int32} {w : ch_W} {res : Int32} {Q : Outcome → ch_W → Prop} (h : c_X8_find_26 t0 x2 w = some res) (hk : (fun r => ch_eI Q (r, w)) res) : ch_FT g kb mX8_find 2 26 [some (va_rf (some t0)), none, some (.int x2)] [] (w) Q := by
  unfold c_X8_find_26 at h
  refine ch_iload_n 2 _ dX8_find_26 rfl (ch_aload_n 0 (some t0) dX8_find_27 rfl (cp_gI (ci := 8) (k := 1) dX8_find_28 fl_X8_13 rfl h (fun v1 h => ?_)))
  refine cp_icmp_ge _ _ (tgt := 38) dX8_find_31 rfl h (fun h => ?_) (fun h => ?_)
  · obtain rfl := Option.some.inj h
    exact ch_iconst _ (-1) dX8_find_38 rfl (ch_ireturn _ dX8_find_39 rfl rfl hk)
  · obtain rfl := Option.some.inj h
    exact ch_iload_n 2 _ dX8_find_34 rfl (ch_goto 39 dX8_find_35 rfl (ch_ireturn _ dX8_find_39 rfl rfl hk))

def c_X8_find_2 (t0 : Nat) (x1 : Int32) (x2 : Int32)  (w : ch_W) : Option (Int32 ⊕ (Int32)) := (ch_gI w (some t0) 9 fX8_size).bind fun v1 => if x2 < v1 then ((ch_gR w (some t0) 9 fX8_all).bind fun v2 => (ch_lI w v2 21 x2).bind fun v3 => if v3 = x1 then ((c_X8_find_26 t0 x2 w).bind fun r => some (.inr (r))) else (some (.inl (x2 + 1)))) else ((c_X8_find_26 t0 x2 w).bind fun r => some (.inr (r)))
theorem s_X8_find_2 {g : State} {kb : Bool} {t0 : Nat} {x1 : Int32} {x2 : Int32} {w : ch_W} {res : Int32 ⊕ (Int32)} {Q : Outcome → ch_W → Prop} (h : c_X8_find_2 t0 x1 x2 w = some res) (hk : (ch_sm (fun s => ch_FT g kb mX8_find 2 2 [some (va_rf (some t0)), some (.int x1), some (.int s)] [] (w) Q) (fun r => ch_eI Q (r, w))) res) : ch_FT g kb mX8_find 2 2 [some (va_rf (some t0)), some (.int x1), some (.int x2)] [] (w) Q := by
  unfold c_X8_find_2 at h
  refine ch_iload_n 2 _ dX8_find_2 rfl (ch_aload_n 0 (some t0) dX8_find_3 rfl (cp_gI (ci := 8) (k := 1) dX8_find_4 fl_X8_13 rfl h (fun v1 h => ?_)))
  refine cp_icmp_ge _ _ (tgt := 26) dX8_find_7 rfl h (fun h => ?_) (fun h => ?_)
  · obtain ⟨r, hr, h⟩ := ch_bd h
    obtain rfl := Option.some.inj h
    exact ch_FT.wk (ch_wS (ch_wN (ch_wS ch_w0))) (s_X8_find_26  hr hk)
  · refine ch_aload_n 0 (some t0) dX8_find_10 rfl (cp_gR (ci := 8) (k := 0) dX8_find_11 fl_X8_7 rfl h (fun v2 h => ?_))
    refine ch_iload_n 2 _ dX8_find_14 rfl (cp_iald (t := 21) dX8_find_15 rfl rfl h (fun v3 h => ?_))
    refine ch_iload_n 1 _ dX8_find_16 rfl (cp_icmp_eq _ _ (tgt := 26) dX8_find_17 rfl h (fun h => ?_) (fun h => ?_))
    · obtain ⟨r, hr, h⟩ := ch_bd h
      obtain rfl := Option.some.inj h
      exact ch_FT.wk (ch_wS (ch_wN (ch_wS ch_w0))) (s_X8_find_26  hr hk)
    · refine ch_iinc 2 _ _ (x2 + 1) (ls1 := [some (va_rf (some t0)), some (.int x1), some (.int (x2 + 1))]) dX8_find_20 rfl rfl (Nat.le_of_ble_eq_true rfl) rfl (ch_goto 2 dX8_find_23 rfl (ch_FT.wk (ch_wS (ch_wS (ch_wS ch_w0))) ?_))
      obtain rfl := Option.some.inj h
      exact hk
theorem sl_X8_find_2 {g : State} {kb : Bool} {t0 : Nat} {x1 : Int32} {w : ch_W} {a : Int32} {res : Int32} {Q : Outcome → ch_W → Prop} (h : ch_loop (fun (s : Int32) => c_X8_find_2 t0 x1 s w) a = some res) (hk : (fun r => ch_eI Q (r, w)) res) : ch_FT g kb mX8_find 2 2 [some (va_rf (some t0)), some (.int x1), some (.int a)] [] (w) Q := by
  refine ch_loop_ind (fun (a : Int32) (r : Int32) => (fun r => ch_eI Q (r, w)) r → ch_FT g kb mX8_find 2 2 [some (va_rf (some t0)), some (.int x1), some (.int a)] [] (w) Q) ?_ ?_ a res h hk
  · intro a a2 b h1 ih hk
    exact s_X8_find_2  h1 (ih hk)
  · intro a b h1 hk
    exact s_X8_find_2  h1 hk

def c_X8_find (t0 : Nat) (x1 : Int32) (w : ch_W) : Option (Int32) := ch_loop (fun (s : Int32) => c_X8_find_2 t0 x1 s w) (0)
theorem s_X8_find {g : State} {kb : Bool} {t0 : Nat} {x1 : Int32} {w : ch_W} {res : Int32} {Q : Outcome → ch_W → Prop} (h : c_X8_find t0 x1 w = some res) (hk : (fun r => ch_eI Q (r, w)) res) : ch_CT g kb yX8_find 2 [.ref t0, .int x1] (w) Q := by
  unfold c_X8_find at h
  refine ch_ctL mX8_find (ls := [some (va_rf (some t0)), some (.int x1), none]) q1158 rfl (ch_lyr (r := some t0) (ch_lyi ch_ly0)) (Nat.le_of_ble_eq_true rfl) rfl ?_
  exact ch_iconst _ 0 dX8_find_0 rfl (ch_istore_n 2 _ (ls1 := [some (va_rf (some t0)), some (.int x1), some (.int 0)]) dX8_find_1 (Nat.le_of_ble_eq_true rfl) rfl (ch_FT.wk (ch_wS (ch_wS (ch_wS ch_w0))) (sl_X8_find_2  h hk)))

theorem bX6_method_0 : ch_ck cX6_method 0 [42, 77, 44, 198, 0, 24, 44, 4, 27, 182, 0, 41, 78, 45, 198, 0] := ch_ckof (by decide +kernel)
theorem bX6_method_1 : ch_ck cX6_method 16 [5, 45, 176, 44, 180, 0, 45, 77, 167, 255, 234, 1, 176] := ch_ckof (by decide +kernel)
theorem dX6_method_0 : decode cX6_method 0 = .ok (.aload_n 0, 1) := dz_42 (bX6_method_0 0 _ rfl)
theorem dX6_method_1 : decode cX6_method 1 = .ok (.astore_n 2, 1) := dz_77 (bX6_method_0 1 _ rfl)
theorem dX6_method_2 : decode cX6_method 2 = .ok (.aload_n 2, 1) := dz_44 (bX6_method_0 2 _ rfl)
theorem dX6_method_3 : decode cX6_method 3 = .ok (.ifnull 24, 3) := dz_198 (bX6_method_0 3 _ rfl) (bX6_method_0 4 _ rfl) (bX6_method_0 5 _ rfl)
theorem dX6_method_6 : decode cX6_method 6 = .ok (.aload_n 2, 1) := dz_44 (bX6_method_0 6 _ rfl)
theorem dX6_method_7 : decode cX6_method 7 = .ok (.iconst 1, 1) := dz_4 (bX6_method_0 7 _ rfl)
theorem dX6_method_8 : decode cX6_method 8 = .ok (.iload_n 1, 1) := dz_27 (bX6_method_0 8 _ rfl)
theorem dX6_method_9 : decode cX6_method 9 = .ok (.invokevirtual 41, 3) := dz_182 (bX6_method_0 9 _ rfl) (bX6_method_0 10 _ rfl) (bX6_method_0 11 _ rfl)
theorem dX6_method_12 : decode cX6_method 12 = .ok (.astore_n 3, 1) := dz_78 (bX6_method_0 12 _ rfl)
theorem dX6_method_13 : decode cX6_method 13 = .ok (.aload_n 3, 1) := dz_45 (bX6_method_0 13 _ rfl)
theorem dX6_method_14 : decode cX6_method 14 = .ok (.ifnull 5, 3) := dz_198 (bX6_method_0 14 _ rfl) (bX6_method_0 15 _ rfl) (bX6_method_1 0 _ rfl)
theorem dX6_method_17 : decode cX6_method 17 = .ok (.aload_n 3, 1) := dz_45 (bX6_method_1 1 _ rfl)
theorem dX6_method_18 : decode cX6_method 18 = .ok (.areturn, 1) := dz_176 (bX6_method_1 2 _ rfl)
theorem dX6_method_19 : decode cX6_method 19 = .ok (.aload_n 2, 1) := dz_44 (bX6_method_1 3 _ rfl)
theorem dX6_method_20 : decode cX6_method 20 = .ok (.getfield 45, 3) := dz_180 (bX6_method_1 4 _ rfl) (bX6_method_1 5 _ rfl) (bX6_method_1 6 _ rfl)
theorem dX6_method_23 : decode cX6_method 23 = .ok (.astore_n 2, 1) := dz_77 (bX6_method_1 7 _ rfl)
theorem dX6_method_24 : decode cX6_method 24 = .ok (.goto (-22), 3) := dz_167 (bX6_method_1 8 _ rfl) (bX6_method_1 9 _ rfl) (bX6_method_1 10 _ rfl)
theorem dX6_method_27 : decode cX6_method 27 = .ok (.aconst_null, 1) := dz_1 (bX6_method_1 11 _ rfl)
theorem dX6_method_28 : decode cX6_method 28 = .ok (.areturn, 1) := dz_176 (bX6_method_1 12 _ rfl)
def c_X6_method_2 (t0 : Nat) (x1 : Int32) (x2 : Option Nat)  (w : ch_W) : Option ((Option Nat) ⊕ (Option Nat)) := if x2 = none then (some (.inr (none))) else ((ch_rc w x2 7).bind fun b2 => (c_X6_own b2 1 x1 w).bind fun v3 => if v3 = none then ((ch_gR w x2 7 fX6_parent).bind fun v5 => some (.inl (v5))) else (some (.inr (v3))))
theorem s_X6_method_2 {g : State} {kb : Bool} {t0 : Nat} {x1 : Int32} {x2 : Option Nat} {w : ch_W} {res : (Option Nat) ⊕ (Option Nat)} {Q : Outcome → ch_W → Prop} (h : c_X6_method_2 t0 x1 x2 w = some res) (hk : (ch_sm (fun s => ch_FT g kb mX6_method 6 2 [none, some (.int x1), some (va_rf s), none] [] (w) Q) (fun r => ch_eR Q (r, w))) res) : ch_FT g kb mX6_method 6 2 [none, some (.int x1), some (va_rf x2), none] [] (w) Q := by
  unfold c_X6_method_2 at h
  refine ch_aload_n 2 x2 dX6_method_2 rfl (cp_ifnull x2 (tgt := 27) dX6_method_3 rfl h (fun h => ?_) (fun h => ?_))
  · obtain rfl := Option.some.inj h
    exact ch_null dX6_method_27 (ch_areturn none dX6_method_28 rfl (Or.inl ⟨_, rfl⟩) hk)
  · obtain ⟨b2, hb1, h⟩ := ch_bd h
    obtain ⟨v3, hp4, h⟩ := ch_bd h
    refine ch_aload_n 2 x2 dX6_method_6 rfl (ch_iconst _ 1 dX6_method_7 rfl (ch_iload_n 1 _ dX6_method_8 rfl (ch_iv yX6_own prog_4_method_2_code 5 (some (.object "ClassHouse$Member")) (ci := 6) (q := (RX6, TX6, 8)) (b := b2) (d' := 5) (av := [.int 1, .int x1]) (rest := []) (by rw [ch_rs hb1]; rfl) dX6_method_9 q1163 q1142 rfl qs39 q1143 can_X6_own (Nat.le_of_ble_eq_true rfl) (Nat.le_of_ble_eq_true rfl) (ch_rtg hb1) (cp_kR (v := v3) (w1 := w) (fun Q' hq => s_X6_own hp4 hq) ?_))))
    refine ch_astore_n 3 v3 (ls1 := [none, some (.int x1), some (va_rf x2), some (va_rf v3)]) dX6_method_12 (Nat.le_of_ble_eq_true rfl) (ch_s1o rfl rfl) (ch_aload_n 3 v3 dX6_method_13 rfl (cp_ifnull v3 (tgt := 19) dX6_method_14 rfl h (fun h => ?_) (fun h => ?_)))
    · refine ch_aload_n 2 x2 dX6_method_19 rfl (cp_gR (ci := 6) (k := 3) dX6_method_20 fl_X6_45 rfl h (fun v5 h => ?_))
      refine ch_astore_n 2 v5 (ls1 := [none, some (.int x1), some (va_rf v5), some (va_rf v3)]) dX6_method_23 (Nat.le_of_ble_eq_true rfl) rfl (ch_goto 2 dX6_method_24 rfl (ch_FT.wk (ch_wN (ch_wS (ch_wS (ch_wN ch_w0)))) ?_))
      obtain rfl := Option.some.inj h
      exact hk
    · obtain rfl := Option.some.inj h
      exact ch_aload_n 3 v3 dX6_method_17 rfl (ch_areturn v3 dX6_method_18 rfl (Or.inl ⟨_, rfl⟩) hk)
theorem sl_X6_method_2 {g : State} {kb : Bool} {t0 : Nat} {x1 : Int32} {w : ch_W} {a : (Option Nat)} {res : Option Nat} {Q : Outcome → ch_W → Prop} (h : ch_loop (fun (s : (Option Nat)) => c_X6_method_2 t0 x1 s w) a = some res) (hk : (fun r => ch_eR Q (r, w)) res) : ch_FT g kb mX6_method 6 2 [none, some (.int x1), some (va_rf a), none] [] (w) Q := by
  refine ch_loop_ind (fun (a : (Option Nat)) (r : Option Nat) => (fun r => ch_eR Q (r, w)) r → ch_FT g kb mX6_method 6 2 [none, some (.int x1), some (va_rf a), none] [] (w) Q) ?_ ?_ a res h hk
  · intro a a2 b h1 ih hk
    exact s_X6_method_2  h1 (ih hk)
  · intro a b h1 hk
    exact s_X6_method_2  h1 hk

def c_X6_method (t0 : Nat) (x1 : Int32) (w : ch_W) : Option (Option Nat) := ch_loop (fun (s : (Option Nat)) => c_X6_method_2 t0 x1 s w) (some t0)
theorem s_X6_method {g : State} {kb : Bool} {t0 : Nat} {x1 : Int32} {w : ch_W} {res : Option Nat} {Q : Outcome → ch_W → Prop} (h : c_X6_method t0 x1 w = some res) (hk : (fun r => ch_eR Q (r, w)) res) : ch_CT g kb yX6_method 6 [.ref t0, .int x1] (w) Q := by
  unfold c_X6_method at h
  refine ch_ctL mX6_method (ls := [some (va_rf (some t0)), some (.int x1), none, none]) q1162 rfl (ch_lyr (r := some t0) (ch_lyi ch_ly0)) (Nat.le_of_ble_eq_true rfl) rfl ?_
  exact ch_aload_n 0 (some t0) dX6_method_0 rfl (ch_astore_n 2 (some t0) (ls1 := [some (va_rf (some t0)), some (.int x1), some (va_rf (some t0)), none]) dX6_method_1 (Nat.le_of_ble_eq_true rfl) rfl (ch_FT.wk (ch_wN (ch_wS (ch_wS (ch_wN ch_w0)))) (sl_X6_method_2  h hk)))

theorem bX11_checkSignature_0 : ch_ck cX11_checkSignature 0 [3, 62, 29, 44, 180, 0, 172, 180, 0, 173, 162, 0, 57, 42, 44, 180] := ch_ckof (by decide +kernel)
theorem bX11_checkSignature_1 : ch_ck cX11_checkSignature 16 [0, 172, 29, 182, 0, 175, 182, 0, 152, 16, 250, 159, 0, 26, 44, 180] := ch_ckof (by decide +kernel)
theorem bX11_checkSignature_2 : ch_ck cX11_checkSignature 32 [0, 177, 44, 180, 0, 177, 29, 182, 0, 175, 182, 0, 178, 29, 160, 0] := ch_ckof (by decide +kernel)
theorem bX11_checkSignature_3 : ch_ck cX11_checkSignature 48 [7, 4, 167, 0, 4, 3, 44, 180, 0, 164, 184, 0, 91, 132, 3, 1] := ch_ckof (by decide +kernel)
theorem bX11_checkSignature_4 : ch_ck cX11_checkSignature 64 [167, 255, 194, 43, 180, 0, 132, 199, 0, 7, 1, 167, 0, 14, 43, 180] := ch_ckof (by decide +kernel)
theorem bX11_checkSignature_5 : ch_ck cX11_checkSignature 80 [0, 132, 44, 180, 0, 159, 182, 0, 181, 78, 45, 198, 0, 113, 42, 45] := ch_ckof (by decide +kernel)
theorem bX11_checkSignature_6 : ch_ck cX11_checkSignature 96 [180, 0, 149, 182, 0, 152, 44, 180, 0, 156, 160, 0, 24, 45, 180, 0] := ch_ckof (by decide +kernel)
theorem bX11_checkSignature_7 : ch_ck cX11_checkSignature 112 [172, 180, 0, 173, 44, 180, 0, 172, 180, 0, 173, 160, 0, 7, 4, 167] := ch_ckof (by decide +kernel)
theorem bX11_checkSignature_8 : ch_ck cX11_checkSignature 128 [0, 4, 3, 54, 4, 3, 54, 5, 21, 4, 153, 0, 57, 21, 5, 44] := ch_ckof (by decide +kernel)
theorem bX11_checkSignature_9 : ch_ck cX11_checkSignature 144 [180, 0, 172, 180, 0, 173, 162, 0, 45, 42, 45, 180, 0, 172, 21, 5] := ch_ckof (by decide +kernel)
theorem bX11_checkSignature_10 : ch_ck cX11_checkSignature 160 [182, 0, 175, 182, 0, 152, 42, 44, 180, 0, 172, 21, 5, 182, 0, 175] := ch_ckof (by decide +kernel)
theorem bX11_checkSignature_11 : ch_ck cX11_checkSignature 176 [182, 0, 152, 160, 0, 7, 4, 167, 0, 4, 3, 54, 4, 132, 5, 1] := ch_ckof (by decide +kernel)
theorem bX11_checkSignature_12 : ch_ck cX11_checkSignature 192 [167, 255, 200, 21, 4, 44, 180, 0, 164, 184, 0, 91, 177] := ch_ckof (by decide +kernel)
theorem dX11_checkSignature_0 : decode cX11_checkSignature 0 = .ok (.iconst 0, 1) := dz_3 (bX11_checkSignature_0 0 _ rfl)
theorem dX11_checkSignature_1 : decode cX11_checkSignature 1 = .ok (.istore_n 3, 1) := dz_62 (bX11_checkSignature_0 1 _ rfl)
theorem dX11_checkSignature_2 : decode cX11_checkSignature 2 = .ok (.iload_n 3, 1) := dz_29 (bX11_checkSignature_0 2 _ rfl)
theorem dX11_checkSignature_3 : decode cX11_checkSignature 3 = .ok (.aload_n 2, 1) := dz_44 (bX11_checkSignature_0 3 _ rfl)
theorem dX11_checkSignature_4 : decode cX11_checkSignature 4 = .ok (.getfield 172, 3) := dz_180 (bX11_checkSignature_0 4 _ rfl) (bX11_checkSignature_0 5 _ rfl) (bX11_checkSignature_0 6 _ rfl)
theorem dX11_checkSignature_7 : decode cX11_checkSignature 7 = .ok (.getfield 173, 3) := dz_180 (bX11_checkSignature_0 7 _ rfl) (bX11_checkSignature_0 8 _ rfl) (bX11_checkSignature_0 9 _ rfl)
theorem dX11_checkSignature_10 : decode cX11_checkSignature 10 = .ok (.if_icmp .ge 57, 3) := dz_162 (bX11_checkSignature_0 10 _ rfl) (bX11_checkSignature_0 11 _ rfl) (bX11_checkSignature_0 12 _ rfl)
theorem dX11_checkSignature_13 : decode cX11_checkSignature 13 = .ok (.aload_n 0, 1) := dz_42 (bX11_checkSignature_0 13 _ rfl)
theorem dX11_checkSignature_14 : decode cX11_checkSignature 14 = .ok (.aload_n 2, 1) := dz_44 (bX11_checkSignature_0 14 _ rfl)
theorem dX11_checkSignature_15 : decode cX11_checkSignature 15 = .ok (.getfield 172, 3) := dz_180 (bX11_checkSignature_0 15 _ rfl) (bX11_checkSignature_1 0 _ rfl) (bX11_checkSignature_1 1 _ rfl)
theorem dX11_checkSignature_18 : decode cX11_checkSignature 18 = .ok (.iload_n 3, 1) := dz_29 (bX11_checkSignature_1 2 _ rfl)
theorem dX11_checkSignature_19 : decode cX11_checkSignature 19 = .ok (.invokevirtual 175, 3) := dz_182 (bX11_checkSignature_1 3 _ rfl) (bX11_checkSignature_1 4 _ rfl) (bX11_checkSignature_1 5 _ rfl)
theorem dX11_checkSignature_22 : decode cX11_checkSignature 22 = .ok (.invokevirtual 152, 3) := dz_182 (bX11_checkSignature_1 6 _ rfl) (bX11_checkSignature_1 7 _ rfl) (bX11_checkSignature_1 8 _ rfl)
theorem dX11_checkSignature_25 : decode cX11_checkSignature 25 = .ok (.bipush (-6), 2) := dz_16 (bX11_checkSignature_1 9 _ rfl) (bX11_checkSignature_1 10 _ rfl)
theorem dX11_checkSignature_27 : decode cX11_checkSignature 27 = .ok (.if_icmp .eq 26, 3) := dz_159 (bX11_checkSignature_1 11 _ rfl) (bX11_checkSignature_1 12 _ rfl) (bX11_checkSignature_1 13 _ rfl)
theorem dX11_checkSignature_30 : decode cX11_checkSignature 30 = .ok (.aload_n 2, 1) := dz_44 (bX11_checkSignature_1 14 _ rfl)
theorem dX11_checkSignature_31 : decode cX11_checkSignature 31 = .ok (.getfield 177, 3) := dz_180 (bX11_checkSignature_1 15 _ rfl) (bX11_checkSignature_2 0 _ rfl) (bX11_checkSignature_2 1 _ rfl)
theorem dX11_checkSignature_34 : decode cX11_checkSignature 34 = .ok (.aload_n 2, 1) := dz_44 (bX11_checkSignature_2 2 _ rfl)
theorem dX11_checkSignature_35 : decode cX11_checkSignature 35 = .ok (.getfield 177, 3) := dz_180 (bX11_checkSignature_2 3 _ rfl) (bX11_checkSignature_2 4 _ rfl) (bX11_checkSignature_2 5 _ rfl)
theorem dX11_checkSignature_38 : decode cX11_checkSignature 38 = .ok (.iload_n 3, 1) := dz_29 (bX11_checkSignature_2 6 _ rfl)
theorem dX11_checkSignature_39 : decode cX11_checkSignature 39 = .ok (.invokevirtual 175, 3) := dz_182 (bX11_checkSignature_2 7 _ rfl) (bX11_checkSignature_2 8 _ rfl) (bX11_checkSignature_2 9 _ rfl)
theorem dX11_checkSignature_42 : decode cX11_checkSignature 42 = .ok (.invokevirtual 178, 3) := dz_182 (bX11_checkSignature_2 10 _ rfl) (bX11_checkSignature_2 11 _ rfl) (bX11_checkSignature_2 12 _ rfl)
theorem dX11_checkSignature_45 : decode cX11_checkSignature 45 = .ok (.iload_n 3, 1) := dz_29 (bX11_checkSignature_2 13 _ rfl)
theorem dX11_checkSignature_46 : decode cX11_checkSignature 46 = .ok (.if_icmp .ne 7, 3) := dz_160 (bX11_checkSignature_2 14 _ rfl) (bX11_checkSignature_2 15 _ rfl) (bX11_checkSignature_3 0 _ rfl)
theorem dX11_checkSignature_49 : decode cX11_checkSignature 49 = .ok (.iconst 1, 1) := dz_4 (bX11_checkSignature_3 1 _ rfl)
theorem dX11_checkSignature_50 : decode cX11_checkSignature 50 = .ok (.goto 4, 3) := dz_167 (bX11_checkSignature_3 2 _ rfl) (bX11_checkSignature_3 3 _ rfl) (bX11_checkSignature_3 4 _ rfl)
theorem dX11_checkSignature_53 : decode cX11_checkSignature 53 = .ok (.iconst 0, 1) := dz_3 (bX11_checkSignature_3 5 _ rfl)
theorem dX11_checkSignature_54 : decode cX11_checkSignature 54 = .ok (.aload_n 2, 1) := dz_44 (bX11_checkSignature_3 6 _ rfl)
theorem dX11_checkSignature_55 : decode cX11_checkSignature 55 = .ok (.getfield 164, 3) := dz_180 (bX11_checkSignature_3 7 _ rfl) (bX11_checkSignature_3 8 _ rfl) (bX11_checkSignature_3 9 _ rfl)
theorem dX11_checkSignature_58 : decode cX11_checkSignature 58 = .ok (.invokestatic 91, 3) := dz_184 (bX11_checkSignature_3 10 _ rfl) (bX11_checkSignature_3 11 _ rfl) (bX11_checkSignature_3 12 _ rfl)
theorem dX11_checkSignature_61 : decode cX11_checkSignature 61 = .ok (.iinc 3 1, 3) := dz_132 (bX11_checkSignature_3 13 _ rfl) (bX11_checkSignature_3 14 _ rfl) (bX11_checkSignature_3 15 _ rfl)
theorem dX11_checkSignature_64 : decode cX11_checkSignature 64 = .ok (.goto (-62), 3) := dz_167 (bX11_checkSignature_4 0 _ rfl) (bX11_checkSignature_4 1 _ rfl) (bX11_checkSignature_4 2 _ rfl)
theorem dX11_checkSignature_67 : decode cX11_checkSignature 67 = .ok (.aload_n 1, 1) := dz_43 (bX11_checkSignature_4 3 _ rfl)
theorem dX11_checkSignature_68 : decode cX11_checkSignature 68 = .ok (.getfield 132, 3) := dz_180 (bX11_checkSignature_4 4 _ rfl) (bX11_checkSignature_4 5 _ rfl) (bX11_checkSignature_4 6 _ rfl)
theorem dX11_checkSignature_71 : decode cX11_checkSignature 71 = .ok (.ifnonnull 7, 3) := dz_199 (bX11_checkSignature_4 7 _ rfl) (bX11_checkSignature_4 8 _ rfl) (bX11_checkSignature_4 9 _ rfl)
theorem dX11_checkSignature_74 : decode cX11_checkSignature 74 = .ok (.aconst_null, 1) := dz_1 (bX11_checkSignature_4 10 _ rfl)
theorem dX11_checkSignature_75 : decode cX11_checkSignature 75 = .ok (.goto 14, 3) := dz_167 (bX11_checkSignature_4 11 _ rfl) (bX11_checkSignature_4 12 _ rfl) (bX11_checkSignature_4 13 _ rfl)
theorem dX11_checkSignature_78 : decode cX11_checkSignature 78 = .ok (.aload_n 1, 1) := dz_43 (bX11_checkSignature_4 14 _ rfl)
theorem dX11_checkSignature_79 : decode cX11_checkSignature 79 = .ok (.getfield 132, 3) := dz_180 (bX11_checkSignature_4 15 _ rfl) (bX11_checkSignature_5 0 _ rfl) (bX11_checkSignature_5 1 _ rfl)
theorem dX11_checkSignature_82 : decode cX11_checkSignature 82 = .ok (.aload_n 2, 1) := dz_44 (bX11_checkSignature_5 2 _ rfl)
theorem dX11_checkSignature_83 : decode cX11_checkSignature 83 = .ok (.getfield 159, 3) := dz_180 (bX11_checkSignature_5 3 _ rfl) (bX11_checkSignature_5 4 _ rfl) (bX11_checkSignature_5 5 _ rfl)
theorem dX11_checkSignature_86 : decode cX11_checkSignature 86 = .ok (.invokevirtual 181, 3) := dz_182 (bX11_checkSignature_5 6 _ rfl) (bX11_checkSignature_5 7 _ rfl) (bX11_checkSignature_5 8 _ rfl)
theorem dX11_checkSignature_89 : decode cX11_checkSignature 89 = .ok (.astore_n 3, 1) := dz_78 (bX11_checkSignature_5 9 _ rfl)
theorem dX11_checkSignature_90 : decode cX11_checkSignature 90 = .ok (.aload_n 3, 1) := dz_45 (bX11_checkSignature_5 10 _ rfl)
theorem dX11_checkSignature_91 : decode cX11_checkSignature 91 = .ok (.ifnull 113, 3) := dz_198 (bX11_checkSignature_5 11 _ rfl) (bX11_checkSignature_5 12 _ rfl) (bX11_checkSignature_5 13 _ rfl)
theorem dX11_checkSignature_94 : decode cX11_checkSignature 94 = .ok (.aload_n 0, 1) := dz_42 (bX11_checkSignature_5 14 _ rfl)
theorem dX11_checkSignature_95 : decode cX11_checkSignature 95 = .ok (.aload_n 3, 1) := dz_45 (bX11_checkSignature_5 15 _ rfl)
theorem dX11_checkSignature_96 : decode cX11_checkSignature 96 = .ok (.getfield 149, 3) := dz_180 (bX11_checkSignature_6 0 _ rfl) (bX11_checkSignature_6 1 _ rfl) (bX11_checkSignature_6 2 _ rfl)
theorem dX11_checkSignature_99 : decode cX11_checkSignature 99 = .ok (.invokevirtual 152, 3) := dz_182 (bX11_checkSignature_6 3 _ rfl) (bX11_checkSignature_6 4 _ rfl) (bX11_checkSignature_6 5 _ rfl)
theorem dX11_checkSignature_102 : decode cX11_checkSignature 102 = .ok (.aload_n 2, 1) := dz_44 (bX11_checkSignature_6 6 _ rfl)
theorem dX11_checkSignature_103 : decode cX11_checkSignature 103 = .ok (.getfield 156, 3) := dz_180 (bX11_checkSignature_6 7 _ rfl) (bX11_checkSignature_6 8 _ rfl) (bX11_checkSignature_6 9 _ rfl)
theorem dX11_checkSignature_106 : decode cX11_checkSignature 106 = .ok (.if_icmp .ne 24, 3) := dz_160 (bX11_checkSignature_6 10 _ rfl) (bX11_checkSignature_6 11 _ rfl) (bX11_checkSignature_6 12 _ rfl)
theorem dX11_checkSignature_109 : decode cX11_checkSignature 109 = .ok (.aload_n 3, 1) := dz_45 (bX11_checkSignature_6 13 _ rfl)
theorem dX11_checkSignature_110 : decode cX11_checkSignature 110 = .ok (.getfield 172, 3) := dz_180 (bX11_checkSignature_6 14 _ rfl) (bX11_checkSignature_6 15 _ rfl) (bX11_checkSignature_7 0 _ rfl)
theorem dX11_checkSignature_113 : decode cX11_checkSignature 113 = .ok (.getfield 173, 3) := dz_180 (bX11_checkSignature_7 1 _ rfl) (bX11_checkSignature_7 2 _ rfl) (bX11_checkSignature_7 3 _ rfl)
theorem dX11_checkSignature_116 : decode cX11_checkSignature 116 = .ok (.aload_n 2, 1) := dz_44 (bX11_checkSignature_7 4 _ rfl)
theorem dX11_checkSignature_117 : decode cX11_checkSignature 117 = .ok (.getfield 172, 3) := dz_180 (bX11_checkSignature_7 5 _ rfl) (bX11_checkSignature_7 6 _ rfl) (bX11_checkSignature_7 7 _ rfl)
theorem dX11_checkSignature_120 : decode cX11_checkSignature 120 = .ok (.getfield 173, 3) := dz_180 (bX11_checkSignature_7 8 _ rfl) (bX11_checkSignature_7 9 _ rfl) (bX11_checkSignature_7 10 _ rfl)
theorem dX11_checkSignature_123 : decode cX11_checkSignature 123 = .ok (.if_icmp .ne 7, 3) := dz_160 (bX11_checkSignature_7 11 _ rfl) (bX11_checkSignature_7 12 _ rfl) (bX11_checkSignature_7 13 _ rfl)
theorem dX11_checkSignature_126 : decode cX11_checkSignature 126 = .ok (.iconst 1, 1) := dz_4 (bX11_checkSignature_7 14 _ rfl)
theorem dX11_checkSignature_127 : decode cX11_checkSignature 127 = .ok (.goto 4, 3) := dz_167 (bX11_checkSignature_7 15 _ rfl) (bX11_checkSignature_8 0 _ rfl) (bX11_checkSignature_8 1 _ rfl)
theorem dX11_checkSignature_130 : decode cX11_checkSignature 130 = .ok (.iconst 0, 1) := dz_3 (bX11_checkSignature_8 2 _ rfl)
theorem dX11_checkSignature_131 : decode cX11_checkSignature 131 = .ok (.istore 4, 2) := dz_54 (bX11_checkSignature_8 3 _ rfl) (bX11_checkSignature_8 4 _ rfl)
theorem dX11_checkSignature_133 : decode cX11_checkSignature 133 = .ok (.iconst 0, 1) := dz_3 (bX11_checkSignature_8 5 _ rfl)
theorem dX11_checkSignature_134 : decode cX11_checkSignature 134 = .ok (.istore 5, 2) := dz_54 (bX11_checkSignature_8 6 _ rfl) (bX11_checkSignature_8 7 _ rfl)
theorem dX11_checkSignature_136 : decode cX11_checkSignature 136 = .ok (.iload 4, 2) := dz_21 (bX11_checkSignature_8 8 _ rfl) (bX11_checkSignature_8 9 _ rfl)
theorem dX11_checkSignature_138 : decode cX11_checkSignature 138 = .ok (.ifCond .eq 57, 3) := dz_153 (bX11_checkSignature_8 10 _ rfl) (bX11_checkSignature_8 11 _ rfl) (bX11_checkSignature_8 12 _ rfl)
theorem dX11_checkSignature_141 : decode cX11_checkSignature 141 = .ok (.iload 5, 2) := dz_21 (bX11_checkSignature_8 13 _ rfl) (bX11_checkSignature_8 14 _ rfl)
theorem dX11_checkSignature_143 : decode cX11_checkSignature 143 = .ok (.aload_n 2, 1) := dz_44 (bX11_checkSignature_8 15 _ rfl)
theorem dX11_checkSignature_144 : decode cX11_checkSignature 144 = .ok (.getfield 172, 3) := dz_180 (bX11_checkSignature_9 0 _ rfl) (bX11_checkSignature_9 1 _ rfl) (bX11_checkSignature_9 2 _ rfl)
theorem dX11_checkSignature_147 : decode cX11_checkSignature 147 = .ok (.getfield 173, 3) := dz_180 (bX11_checkSignature_9 3 _ rfl) (bX11_checkSignature_9 4 _ rfl) (bX11_checkSignature_9 5 _ rfl)
theorem dX11_checkSignature_150 : decode cX11_checkSignature 150 = .ok (.if_icmp .ge 45, 3) := dz_162 (bX11_checkSignature_9 6 _ rfl) (bX11_checkSignature_9 7 _ rfl) (bX11_checkSignature_9 8 _ rfl)
theorem dX11_checkSignature_153 : decode cX11_checkSignature 153 = .ok (.aload_n 0, 1) := dz_42 (bX11_checkSignature_9 9 _ rfl)
theorem dX11_checkSignature_154 : decode cX11_checkSignature 154 = .ok (.aload_n 3, 1) := dz_45 (bX11_checkSignature_9 10 _ rfl)
theorem dX11_checkSignature_155 : decode cX11_checkSignature 155 = .ok (.getfield 172, 3) := dz_180 (bX11_checkSignature_9 11 _ rfl) (bX11_checkSignature_9 12 _ rfl) (bX11_checkSignature_9 13 _ rfl)
theorem dX11_checkSignature_158 : decode cX11_checkSignature 158 = .ok (.iload 5, 2) := dz_21 (bX11_checkSignature_9 14 _ rfl) (bX11_checkSignature_9 15 _ rfl)
theorem dX11_checkSignature_160 : decode cX11_checkSignature 160 = .ok (.invokevirtual 175, 3) := dz_182 (bX11_checkSignature_10 0 _ rfl) (bX11_checkSignature_10 1 _ rfl) (bX11_checkSignature_10 2 _ rfl)
theorem dX11_checkSignature_163 : decode cX11_checkSignature 163 = .ok (.invokevirtual 152, 3) := dz_182 (bX11_checkSignature_10 3 _ rfl) (bX11_checkSignature_10 4 _ rfl) (bX11_checkSignature_10 5 _ rfl)
theorem dX11_checkSignature_166 : decode cX11_checkSignature 166 = .ok (.aload_n 0, 1) := dz_42 (bX11_checkSignature_10 6 _ rfl)
theorem dX11_checkSignature_167 : decode cX11_checkSignature 167 = .ok (.aload_n 2, 1) := dz_44 (bX11_checkSignature_10 7 _ rfl)
theorem dX11_checkSignature_168 : decode cX11_checkSignature 168 = .ok (.getfield 172, 3) := dz_180 (bX11_checkSignature_10 8 _ rfl) (bX11_checkSignature_10 9 _ rfl) (bX11_checkSignature_10 10 _ rfl)
theorem dX11_checkSignature_171 : decode cX11_checkSignature 171 = .ok (.iload 5, 2) := dz_21 (bX11_checkSignature_10 11 _ rfl) (bX11_checkSignature_10 12 _ rfl)
theorem dX11_checkSignature_173 : decode cX11_checkSignature 173 = .ok (.invokevirtual 175, 3) := dz_182 (bX11_checkSignature_10 13 _ rfl) (bX11_checkSignature_10 14 _ rfl) (bX11_checkSignature_10 15 _ rfl)
theorem dX11_checkSignature_176 : decode cX11_checkSignature 176 = .ok (.invokevirtual 152, 3) := dz_182 (bX11_checkSignature_11 0 _ rfl) (bX11_checkSignature_11 1 _ rfl) (bX11_checkSignature_11 2 _ rfl)
theorem dX11_checkSignature_179 : decode cX11_checkSignature 179 = .ok (.if_icmp .ne 7, 3) := dz_160 (bX11_checkSignature_11 3 _ rfl) (bX11_checkSignature_11 4 _ rfl) (bX11_checkSignature_11 5 _ rfl)
theorem dX11_checkSignature_182 : decode cX11_checkSignature 182 = .ok (.iconst 1, 1) := dz_4 (bX11_checkSignature_11 6 _ rfl)
theorem dX11_checkSignature_183 : decode cX11_checkSignature 183 = .ok (.goto 4, 3) := dz_167 (bX11_checkSignature_11 7 _ rfl) (bX11_checkSignature_11 8 _ rfl) (bX11_checkSignature_11 9 _ rfl)
theorem dX11_checkSignature_186 : decode cX11_checkSignature 186 = .ok (.iconst 0, 1) := dz_3 (bX11_checkSignature_11 10 _ rfl)
theorem dX11_checkSignature_187 : decode cX11_checkSignature 187 = .ok (.istore 4, 2) := dz_54 (bX11_checkSignature_11 11 _ rfl) (bX11_checkSignature_11 12 _ rfl)
theorem dX11_checkSignature_189 : decode cX11_checkSignature 189 = .ok (.iinc 5 1, 3) := dz_132 (bX11_checkSignature_11 13 _ rfl) (bX11_checkSignature_11 14 _ rfl) (bX11_checkSignature_11 15 _ rfl)
theorem dX11_checkSignature_192 : decode cX11_checkSignature 192 = .ok (.goto (-56), 3) := dz_167 (bX11_checkSignature_12 0 _ rfl) (bX11_checkSignature_12 1 _ rfl) (bX11_checkSignature_12 2 _ rfl)
theorem dX11_checkSignature_195 : decode cX11_checkSignature 195 = .ok (.iload 4, 2) := dz_21 (bX11_checkSignature_12 3 _ rfl) (bX11_checkSignature_12 4 _ rfl)
theorem dX11_checkSignature_197 : decode cX11_checkSignature 197 = .ok (.aload_n 2, 1) := dz_44 (bX11_checkSignature_12 5 _ rfl)
theorem dX11_checkSignature_198 : decode cX11_checkSignature 198 = .ok (.getfield 164, 3) := dz_180 (bX11_checkSignature_12 6 _ rfl) (bX11_checkSignature_12 7 _ rfl) (bX11_checkSignature_12 8 _ rfl)
theorem dX11_checkSignature_201 : decode cX11_checkSignature 201 = .ok (.invokestatic 91, 3) := dz_184 (bX11_checkSignature_12 9 _ rfl) (bX11_checkSignature_12 10 _ rfl) (bX11_checkSignature_12 11 _ rfl)
theorem dX11_checkSignature_204 : decode cX11_checkSignature 204 = .ok (.return_, 1) := dz_177 (bX11_checkSignature_12 12 _ rfl)
def c_X11_checkSignature_195 (g : State) (t0 : Nat) (x2 : Option Nat) (x4 : Int32)  (w : ch_W) : Option (Except Nat Unit × ch_W) := (ch_gI w x2 8 fX7_place).bind fun v1 => ch_tb (c_X11_must g x4 v1 w) (fun a w => (.error a, w)) fun _ w3 => some ((.ok (), w3))
theorem s_X11_checkSignature_195 {g : State} {t0 : Nat} {x2 : Option Nat} {x4 : Int32} {w : ch_W} {res : Except Nat Unit × ch_W} {Q : Outcome → ch_W → Prop} (h : c_X11_checkSignature_195 g t0 x2 x4 w = some res) (hk : (ch_xV Q) res) : ch_FT g true mX11_checkSignature 8 195 [none, none, some (va_rf x2), none, some (.int x4), none] [] (w) Q := by
  unfold c_X11_checkSignature_195 at h
  refine ch_iload 4 _ dX11_checkSignature_195 rfl (ch_aload_n 2 x2 dX11_checkSignature_197 rfl (cp_gI (ci := 7) (k := 3) dX11_checkSignature_198 fl_X11_164 rfl h (fun v1 h => ?_)))
  refine ch_is yX11_must prog_2_method_2_code 2 none (d' := 7) (av := [.int x4, .int v1]) (rest := []) rfl dX11_checkSignature_201 q1123 q1124 q226 q1125 can_X11_must (Nat.le_of_ble_eq_true rfl) (Nat.le_of_ble_eq_true rfl) (cp_tV h (fun p hp Q' hq => s_X11_must hp hq) (fun w3 h => ?_) (fun a w1 h => ?_))
  · obtain rfl := Option.some.inj h
    exact ch_return dX11_checkSignature_204 rfl hk
  · subst h
    exact ch_th rfl hk

def c_X11_checkSignature_136 (g : State) (t0 : Nat) (x2 : Option Nat) (x3 : Option Nat) (x4 : Int32) (x5 : Int32)  (w : ch_W) : Option ((Int32 × Int32) ⊕ (Except Nat Unit × ch_W)) := if x4 = 0 then ((c_X11_checkSignature_195 g t0 x2 x4 w).bind fun r => some (.inr (r))) else ((ch_gR w x2 8 fX7_types).bind fun v1 => (ch_gI w v1 9 fX8_size).bind fun v2 => if x5 < v2 then ((ch_gR w x3 8 fX7_types).bind fun v3 => (ch_rc w v3 9).bind fun b5 => (c_X8_get b5 x5 w).bind fun v6 => (ch_rc w (some t0) 12).bind fun _ => (c_X11_typeOf t0 v6 w).bind fun v9 => (ch_gR w x2 8 fX7_types).bind fun v11 => (ch_rc w v11 9).bind fun b13 => (c_X8_get b13 x5 w).bind fun v14 => (ch_rc w (some t0) 12).bind fun _ => (c_X11_typeOf t0 v14 w).bind fun v17 => if v9 = v17 then (some (.inl (1, x5 + 1))) else (some (.inl (0, x5 + 1)))) else ((c_X11_checkSignature_195 g t0 x2 x4 w).bind fun r => some (.inr (r))))
theorem s_X11_checkSignature_136 {g : State} {t0 : Nat} {x2 : Option Nat} {x3 : Option Nat} {x4 : Int32} {x5 : Int32} {w : ch_W} {res : (Int32 × Int32) ⊕ (Except Nat Unit × ch_W)} {Q : Outcome → ch_W → Prop} (h : c_X11_checkSignature_136 g t0 x2 x3 x4 x5 w = some res) (hk : (ch_sm (fun s => ch_FT g true mX11_checkSignature 8 136 [some (va_rf (some t0)), none, some (va_rf x2), some (va_rf x3), some (.int s.1), some (.int s.2)] [] (w) Q) (ch_xV Q)) res) : ch_FT g true mX11_checkSignature 8 136 [some (va_rf (some t0)), none, some (va_rf x2), some (va_rf x3), some (.int x4), some (.int x5)] [] (w) Q := by
  unfold c_X11_checkSignature_136 at h
  refine ch_iload 4 _ dX11_checkSignature_136 rfl (cp_if_eq _ (tgt := 195) dX11_checkSignature_138 rfl h (fun h => ?_) (fun h => ?_))
  · obtain ⟨r, hr, h⟩ := ch_bd h
    obtain rfl := Option.some.inj h
    exact ch_FT.wk (ch_wN (ch_wN (ch_wS (ch_wN (ch_wS (ch_wN ch_w0)))))) (s_X11_checkSignature_195  hr hk)
  · refine ch_iload 5 _ dX11_checkSignature_141 rfl (ch_aload_n 2 x2 dX11_checkSignature_143 rfl (cp_gR (ci := 7) (k := 4) dX11_checkSignature_144 fl_X11_172 rfl h (fun v1 h => ?_)))
    refine cp_gI (ci := 8) (k := 1) dX11_checkSignature_147 fl_X11_173 rfl h (fun v2 h => ?_)
    refine cp_icmp_ge _ _ (tgt := 195) dX11_checkSignature_150 rfl h (fun h => ?_) (fun h => ?_)
    · obtain ⟨r, hr, h⟩ := ch_bd h
      obtain rfl := Option.some.inj h
      exact ch_FT.wk (ch_wN (ch_wN (ch_wS (ch_wN (ch_wS (ch_wN ch_w0)))))) (s_X11_checkSignature_195  hr hk)
    · refine ch_aload_n 0 (some t0) dX11_checkSignature_153 rfl (ch_aload_n 3 x3 dX11_checkSignature_154 rfl (cp_gR (ci := 7) (k := 4) dX11_checkSignature_155 fl_X11_172 rfl h (fun v3 h => ?_)))
      obtain ⟨b5, hb4, h⟩ := ch_bd h
      obtain ⟨v6, hp7, h⟩ := ch_bd h
      refine ch_iload 5 _ dX11_checkSignature_158 rfl (ch_iv yX8_get prog_9_method_3_code 2 (some .int) (ci := 8) (q := (RX8, TX8, 2)) (b := b5) (d' := 2) (av := [.int x5]) (rest := [va_rf (some t0)]) (by rw [ch_rs hb4]; rfl) dX11_checkSignature_160 q1151 q1152 rfl q1153 q1154 can_X8_get (Nat.le_of_ble_eq_true rfl) (ch_hw (Nat.le_of_ble_eq_true rfl)) (ch_rtg hb4) (cp_kI (v := v6) (w1 := w) (fun Q' hq => s_X8_get hp7 hq) ?_))
      obtain ⟨_, hb8, h⟩ := ch_bd h
      obtain ⟨v9, hp10, h⟩ := ch_bd h
      refine ch_iv yX11_typeOf prog_2_method_5_code 3 (some .int) (ci := 11) (q := (RX11, TX11, 14)) (b := t0) (d' := 6) (av := [.int v6]) (rest := []) rfl dX11_checkSignature_163 q1136 q1138 rfl qs38 q1139 can_X11_typeOf (Nat.le_of_ble_eq_true rfl) (Nat.le_of_ble_eq_true rfl) (ch_rts hb8) (cp_kI (v := v9) (w1 := w) (fun Q' hq => s_X11_typeOf hp10 hq) ?_)
      refine ch_aload_n 0 (some t0) dX11_checkSignature_166 rfl (ch_aload_n 2 x2 dX11_checkSignature_167 rfl (cp_gR (ci := 7) (k := 4) dX11_checkSignature_168 fl_X11_172 rfl h (fun v11 h => ?_)))
      obtain ⟨b13, hb12, h⟩ := ch_bd h
      obtain ⟨v14, hp15, h⟩ := ch_bd h
      refine ch_iload 5 _ dX11_checkSignature_171 rfl (ch_iv yX8_get prog_9_method_3_code 2 (some .int) (ci := 8) (q := (RX8, TX8, 2)) (b := b13) (d' := 2) (av := [.int x5]) (rest := [va_rf (some t0), .int v9]) (by rw [ch_rs hb12]; rfl) dX11_checkSignature_173 q1151 q1152 rfl q1153 q1154 can_X8_get (Nat.le_of_ble_eq_true rfl) (ch_hw (Nat.le_of_ble_eq_true rfl)) (ch_rtg hb12) (cp_kI (v := v14) (w1 := w) (fun Q' hq => s_X8_get hp15 hq) ?_))
      obtain ⟨_, hb16, h⟩ := ch_bd h
      obtain ⟨v17, hp18, h⟩ := ch_bd h
      refine ch_iv yX11_typeOf prog_2_method_5_code 3 (some .int) (ci := 11) (q := (RX11, TX11, 14)) (b := t0) (d' := 6) (av := [.int v14]) (rest := [.int v9]) rfl dX11_checkSignature_176 q1136 q1138 rfl qs38 q1139 can_X11_typeOf (Nat.le_of_ble_eq_true rfl) (ch_hw (Nat.le_of_ble_eq_true rfl)) (ch_rts hb16) (cp_kI (v := v17) (w1 := w) (fun Q' hq => s_X11_typeOf hp18 hq) ?_)
      refine cp_icmp_ne _ _ (tgt := 186) dX11_checkSignature_179 rfl h (fun h => ?_) (fun h => ?_)
      · refine ch_iconst _ 0 dX11_checkSignature_186 rfl (ch_istore 4 _ (ls1 := [some (va_rf (some t0)), none, some (va_rf x2), some (va_rf x3), some (.int 0), some (.int x5)]) dX11_checkSignature_187 (Nat.le_of_ble_eq_true rfl) (ch_s1o rfl rfl) (ch_iinc 5 _ _ (x5 + 1) (ls1 := [some (va_rf (some t0)), none, some (va_rf x2), some (va_rf x3), some (.int 0), some (.int (x5 + 1))]) dX11_checkSignature_189 rfl rfl (Nat.le_of_ble_eq_true rfl) rfl (ch_goto 136 dX11_checkSignature_192 rfl (ch_FT.wk (ch_wS (ch_wN (ch_wS (ch_wS (ch_wS (ch_wS ch_w0)))))) ?_))))
        obtain rfl := Option.some.inj h
        exact hk
      · refine ch_iconst _ 1 dX11_checkSignature_182 rfl (ch_goto 187 dX11_checkSignature_183 rfl (ch_istore 4 _ (ls1 := [some (va_rf (some t0)), none, some (va_rf x2), some (va_rf x3), some (.int 1), some (.int x5)]) dX11_checkSignature_187 (Nat.le_of_ble_eq_true rfl) (ch_s1o rfl rfl) (ch_iinc 5 _ _ (x5 + 1) (ls1 := [some (va_rf (some t0)), none, some (va_rf x2), some (va_rf x3), some (.int 1), some (.int (x5 + 1))]) dX11_checkSignature_189 rfl rfl (Nat.le_of_ble_eq_true rfl) rfl (ch_goto 136 dX11_checkSignature_192 rfl (ch_FT.wk (ch_wS (ch_wN (ch_wS (ch_wS (ch_wS (ch_wS ch_w0)))))) ?_)))))
        obtain rfl := Option.some.inj h
        exact hk
theorem sl_X11_checkSignature_136 {g : State} {t0 : Nat} {x2 : Option Nat} {x3 : Option Nat} {w : ch_W} {a : Int32 × Int32} {res : Except Nat Unit × ch_W} {Q : Outcome → ch_W → Prop} (h : ch_loop (fun (s : Int32 × Int32) => c_X11_checkSignature_136 g t0 x2 x3 s.1 s.2 w) a = some res) (hk : (ch_xV Q) res) : ch_FT g true mX11_checkSignature 8 136 [some (va_rf (some t0)), none, some (va_rf x2), some (va_rf x3), some (.int a.1), some (.int a.2)] [] (w) Q := by
  refine ch_loop_ind (fun (a : Int32 × Int32) (r : Except Nat Unit × ch_W) => (ch_xV Q) r → ch_FT g true mX11_checkSignature 8 136 [some (va_rf (some t0)), none, some (va_rf x2), some (va_rf x3), some (.int a.1), some (.int a.2)] [] (w) Q) ?_ ?_ a res h hk
  · intro a a2 b h1 ih hk
    exact s_X11_checkSignature_136  h1 (ih hk)
  · intro a b h1 hk
    exact s_X11_checkSignature_136  h1 hk

def c_X11_checkSignature_89 (g : State) (t0 : Nat) (x2 : Option Nat) (y0 : Option Nat) (w : ch_W) : Option (Except Nat Unit × ch_W) := if y0 = none then (some ((.ok (), w))) else ((ch_gI w y0 8 fX7_type).bind fun v1 => (ch_rc w (some t0) 12).bind fun _ => (c_X11_typeOf t0 v1 w).bind fun v3 => (ch_gI w x2 8 fX7_result).bind fun v5 => if v3 = v5 then ((ch_gR w y0 8 fX7_types).bind fun v6 => (ch_gI w v6 9 fX8_size).bind fun v7 => (ch_gR w x2 8 fX7_types).bind fun v8 => (ch_gI w v8 9 fX8_size).bind fun v9 => if v7 = v9 then (ch_loop (fun (s : Int32 × Int32) => c_X11_checkSignature_136 g t0 x2 y0 s.1 s.2 w) (1, 0)) else (ch_loop (fun (s : Int32 × Int32) => c_X11_checkSignature_136 g t0 x2 y0 s.1 s.2 w) (0, 0))) else (ch_loop (fun (s : Int32 × Int32) => c_X11_checkSignature_136 g t0 x2 y0 s.1 s.2 w) (0, 0)))
theorem s_X11_checkSignature_89 {g : State} {t0 : Nat} {x2 : Option Nat} {y0 : Option Nat} {w : ch_W} {res : Except Nat Unit × ch_W} {Q : Outcome → ch_W → Prop} (h : c_X11_checkSignature_89 g t0 x2 y0 w = some res) (hk : (ch_xV Q) res) : ch_FT g true mX11_checkSignature 8 89 [some (va_rf (some t0)), none, some (va_rf x2), none, none, none] [va_rf y0] (w) Q := by
  unfold c_X11_checkSignature_89 at h
  refine ch_astore_n 3 y0 (ls1 := [some (va_rf (some t0)), none, some (va_rf x2), some (va_rf y0), none, none]) dX11_checkSignature_89 (Nat.le_of_ble_eq_true rfl) (ch_s1o rfl rfl) (ch_aload_n 3 y0 dX11_checkSignature_90 rfl (cp_ifnull y0 (tgt := 204) dX11_checkSignature_91 rfl h (fun h => ?_) (fun h => ?_)))
  · obtain rfl := Option.some.inj h
    exact ch_return dX11_checkSignature_204 rfl hk
  · refine ch_aload_n 0 (some t0) dX11_checkSignature_94 rfl (ch_aload_n 3 y0 dX11_checkSignature_95 rfl (cp_gI (ci := 7) (k := 1) dX11_checkSignature_96 fl_X11_149 rfl h (fun v1 h => ?_)))
    obtain ⟨_, hb2, h⟩ := ch_bd h
    obtain ⟨v3, hp4, h⟩ := ch_bd h
    refine ch_iv yX11_typeOf prog_2_method_5_code 3 (some .int) (ci := 11) (q := (RX11, TX11, 14)) (b := t0) (d' := 6) (av := [.int v1]) (rest := []) rfl dX11_checkSignature_99 q1136 q1138 rfl qs38 q1139 can_X11_typeOf (Nat.le_of_ble_eq_true rfl) (Nat.le_of_ble_eq_true rfl) (ch_rts hb2) (cp_kI (v := v3) (w1 := w) (fun Q' hq => s_X11_typeOf hp4 hq) ?_)
    refine ch_aload_n 2 x2 dX11_checkSignature_102 rfl (cp_gI (ci := 7) (k := 11) dX11_checkSignature_103 fl_X11_156 rfl h (fun v5 h => ?_))
    refine cp_icmp_ne _ _ (tgt := 130) dX11_checkSignature_106 rfl h (fun h => ?_) (fun h => ?_)
    · exact ch_iconst _ 0 dX11_checkSignature_130 rfl (ch_istore 4 _ (ls1 := [some (va_rf (some t0)), none, some (va_rf x2), some (va_rf y0), some (.int 0), none]) dX11_checkSignature_131 (Nat.le_of_ble_eq_true rfl) (ch_s1o rfl rfl) (ch_iconst _ 0 dX11_checkSignature_133 rfl (ch_istore 5 _ (ls1 := [some (va_rf (some t0)), none, some (va_rf x2), some (va_rf y0), some (.int 0), some (.int 0)]) dX11_checkSignature_134 (Nat.le_of_ble_eq_true rfl) rfl (ch_FT.wk (ch_wS (ch_wN (ch_wS (ch_wS (ch_wS (ch_wS ch_w0)))))) (sl_X11_checkSignature_136  h hk)))))
    · refine ch_aload_n 3 y0 dX11_checkSignature_109 rfl (cp_gR (ci := 7) (k := 4) dX11_checkSignature_110 fl_X11_172 rfl h (fun v6 h => ?_))
      refine cp_gI (ci := 8) (k := 1) dX11_checkSignature_113 fl_X11_173 rfl h (fun v7 h => ?_)
      refine ch_aload_n 2 x2 dX11_checkSignature_116 rfl (cp_gR (ci := 7) (k := 4) dX11_checkSignature_117 fl_X11_172 rfl h (fun v8 h => ?_))
      refine cp_gI (ci := 8) (k := 1) dX11_checkSignature_120 fl_X11_173 rfl h (fun v9 h => ?_)
      refine cp_icmp_ne _ _ (tgt := 130) dX11_checkSignature_123 rfl h (fun h => ?_) (fun h => ?_)
      · exact ch_iconst _ 0 dX11_checkSignature_130 rfl (ch_istore 4 _ (ls1 := [some (va_rf (some t0)), none, some (va_rf x2), some (va_rf y0), some (.int 0), none]) dX11_checkSignature_131 (Nat.le_of_ble_eq_true rfl) (ch_s1o rfl rfl) (ch_iconst _ 0 dX11_checkSignature_133 rfl (ch_istore 5 _ (ls1 := [some (va_rf (some t0)), none, some (va_rf x2), some (va_rf y0), some (.int 0), some (.int 0)]) dX11_checkSignature_134 (Nat.le_of_ble_eq_true rfl) rfl (ch_FT.wk (ch_wS (ch_wN (ch_wS (ch_wS (ch_wS (ch_wS ch_w0)))))) (sl_X11_checkSignature_136  h hk)))))
      · exact ch_iconst _ 1 dX11_checkSignature_126 rfl (ch_goto 131 dX11_checkSignature_127 rfl (ch_istore 4 _ (ls1 := [some (va_rf (some t0)), none, some (va_rf x2), some (va_rf y0), some (.int 1), none]) dX11_checkSignature_131 (Nat.le_of_ble_eq_true rfl) (ch_s1o rfl rfl) (ch_iconst _ 0 dX11_checkSignature_133 rfl (ch_istore 5 _ (ls1 := [some (va_rf (some t0)), none, some (va_rf x2), some (va_rf y0), some (.int 1), some (.int 0)]) dX11_checkSignature_134 (Nat.le_of_ble_eq_true rfl) rfl (ch_FT.wk (ch_wS (ch_wN (ch_wS (ch_wS (ch_wS (ch_wS ch_w0)))))) (sl_X11_checkSignature_136  h hk))))))

def c_X11_checkSignature_54 (g : State) (t0 : Nat) (x1 : Option Nat) (x2 : Option Nat) (x3 : Int32) (y0 : Int32) (w : ch_W) : Option ((Int32 × ch_W) ⊕ (Except Nat Unit × ch_W)) := (ch_gI w x2 8 fX7_place).bind fun v1 => ch_tb (c_X11_must g y0 v1 w) (fun a w => .inr ((.error a, w))) fun _ w3 => some (.inl (x3 + 1, w3))
theorem s_X11_checkSignature_54 {g : State} {t0 : Nat} {x1 : Option Nat} {x2 : Option Nat} {x3 : Int32} {y0 : Int32} {w : ch_W} {res : (Int32 × ch_W) ⊕ (Except Nat Unit × ch_W)} {Q : Outcome → ch_W → Prop} (h : c_X11_checkSignature_54 g t0 x1 x2 x3 y0 w = some res) (hk : (ch_sm (fun s => ch_FT g true mX11_checkSignature 8 2 [some (va_rf (some t0)), some (va_rf x1), some (va_rf x2), some (.int s.1), none, none] [] (s.2) Q) (ch_xV Q)) res) : ch_FT g true mX11_checkSignature 8 54 [some (va_rf (some t0)), some (va_rf x1), some (va_rf x2), some (.int x3), none, none] [.int y0] (w) Q := by
  unfold c_X11_checkSignature_54 at h
  refine ch_aload_n 2 x2 dX11_checkSignature_54 rfl (cp_gI (ci := 7) (k := 3) dX11_checkSignature_55 fl_X11_164 rfl h (fun v1 h => ?_))
  refine ch_is yX11_must prog_2_method_2_code 2 none (d' := 7) (av := [.int y0, .int v1]) (rest := []) rfl dX11_checkSignature_58 q1123 q1124 q226 q1125 can_X11_must (Nat.le_of_ble_eq_true rfl) (Nat.le_of_ble_eq_true rfl) (cp_tV h (fun p hp Q' hq => s_X11_must hp hq) (fun w3 h => ?_) (fun a w1 h => ?_))
  · refine ch_iinc 3 _ _ (x3 + 1) (ls1 := [some (va_rf (some t0)), some (va_rf x1), some (va_rf x2), some (.int (x3 + 1)), none, none]) dX11_checkSignature_61 rfl rfl (Nat.le_of_ble_eq_true rfl) (ch_s1o rfl rfl) (ch_goto 2 dX11_checkSignature_64 rfl (ch_FT.wk (ch_wS (ch_wS (ch_wS (ch_wS (ch_wN (ch_wN ch_w0)))))) ?_))
    obtain rfl := Option.some.inj h
    exact hk
  · subst h
    exact ch_th rfl hk

def c_X11_checkSignature_53 (g : State) (t0 : Nat) (x1 : Option Nat) (x2 : Option Nat) (x3 : Int32)  (w : ch_W) : Option ((Int32 × ch_W) ⊕ (Except Nat Unit × ch_W)) := c_X11_checkSignature_54 g t0 x1 x2 x3 0 w
theorem s_X11_checkSignature_53 {g : State} {t0 : Nat} {x1 : Option Nat} {x2 : Option Nat} {x3 : Int32} {w : ch_W} {res : (Int32 × ch_W) ⊕ (Except Nat Unit × ch_W)} {Q : Outcome → ch_W → Prop} (h : c_X11_checkSignature_53 g t0 x1 x2 x3 w = some res) (hk : (ch_sm (fun s => ch_FT g true mX11_checkSignature 8 2 [some (va_rf (some t0)), some (va_rf x1), some (va_rf x2), some (.int s.1), none, none] [] (s.2) Q) (ch_xV Q)) res) : ch_FT g true mX11_checkSignature 8 53 [some (va_rf (some t0)), some (va_rf x1), some (va_rf x2), some (.int x3), none, none] [] (w) Q := by
  unfold c_X11_checkSignature_53 at h
  exact ch_iconst _ 0 dX11_checkSignature_53 rfl (ch_FT.wk (ch_wS (ch_wS (ch_wS (ch_wS (ch_wN (ch_wN ch_w0)))))) (s_X11_checkSignature_54  h hk))

def c_X11_checkSignature_2 (g : State) (t0 : Nat) (x1 : Option Nat) (x2 : Option Nat) (x3 : Int32)  (w : ch_W) : Option ((Int32 × ch_W) ⊕ (Except Nat Unit × ch_W)) := (ch_gR w x2 8 fX7_types).bind fun v1 => (ch_gI w v1 9 fX8_size).bind fun v2 => if x3 < v2 then ((ch_gR w x2 8 fX7_types).bind fun v10 => (ch_rc w v10 9).bind fun b12 => (c_X8_get b12 x3 w).bind fun v13 => (ch_rc w (some t0) 12).bind fun _ => (c_X11_typeOf t0 v13 w).bind fun v16 => if v16 = (-6) then (c_X11_checkSignature_53 g t0 x1 x2 x3 w) else ((ch_gR w x2 8 fX7_names).bind fun v18 => (ch_gR w x2 8 fX7_names).bind fun v19 => (ch_rc w v19 9).bind fun b21 => (c_X8_get b21 x3 w).bind fun v22 => (ch_rc w v18 9).bind fun b25 => (c_X8_find b25 v22 w).bind fun v26 => if v26 = x3 then (c_X11_checkSignature_54 g t0 x1 x2 x3 1 w) else (c_X11_checkSignature_53 g t0 x1 x2 x3 w))) else ((ch_gR w x1 7 fX6_parent).bind fun v3 => if v3 = none then ((c_X11_checkSignature_89 g t0 x2 none w).bind fun r => some (.inr (r))) else ((ch_gR w x1 7 fX6_parent).bind fun v4 => (ch_gI w x2 8 fX7_name).bind fun v5 => (ch_rc w v4 7).bind fun b7 => (c_X6_method b7 v5 w).bind fun v8 => (c_X11_checkSignature_89 g t0 x2 v8 w).bind fun r => some (.inr (r))))
theorem s_X11_checkSignature_2 {g : State} {t0 : Nat} {x1 : Option Nat} {x2 : Option Nat} {x3 : Int32} {w : ch_W} {res : (Int32 × ch_W) ⊕ (Except Nat Unit × ch_W)} {Q : Outcome → ch_W → Prop} (h : c_X11_checkSignature_2 g t0 x1 x2 x3 w = some res) (hk : (ch_sm (fun s => ch_FT g true mX11_checkSignature 8 2 [some (va_rf (some t0)), some (va_rf x1), some (va_rf x2), some (.int s.1), none, none] [] (s.2) Q) (ch_xV Q)) res) : ch_FT g true mX11_checkSignature 8 2 [some (va_rf (some t0)), some (va_rf x1), some (va_rf x2), some (.int x3), none, none] [] (w) Q := by
  unfold c_X11_checkSignature_2 at h
  refine ch_iload_n 3 _ dX11_checkSignature_2 rfl (ch_aload_n 2 x2 dX11_checkSignature_3 rfl (cp_gR (ci := 7) (k := 4) dX11_checkSignature_4 fl_X11_172 rfl h (fun v1 h => ?_)))
  refine cp_gI (ci := 8) (k := 1) dX11_checkSignature_7 fl_X11_173 rfl h (fun v2 h => ?_)
  refine cp_icmp_ge _ _ (tgt := 67) dX11_checkSignature_10 rfl h (fun h => ?_) (fun h => ?_)
  · refine ch_aload_n 1 x1 dX11_checkSignature_67 rfl (cp_gR (ci := 6) (k := 3) dX11_checkSignature_68 fl_X11_132 rfl h (fun v3 h => ?_))
    refine cp_ifnonnull v3 (tgt := 78) dX11_checkSignature_71 rfl h (fun h => ?_) (fun h => ?_)
    · refine ch_aload_n 1 x1 dX11_checkSignature_78 rfl (cp_gR (ci := 6) (k := 3) dX11_checkSignature_79 fl_X11_132 rfl h (fun v4 h => ?_))
      refine ch_aload_n 2 x2 dX11_checkSignature_82 rfl (cp_gI (ci := 7) (k := 2) dX11_checkSignature_83 fl_X11_159 rfl h (fun v5 h => ?_))
      obtain ⟨b7, hb6, h⟩ := ch_bd h
      obtain ⟨v8, hp9, h⟩ := ch_bd h
      refine ch_iv yX6_method prog_4_method_3_code 4 (some (.object "ClassHouse$Member")) (ci := 6) (q := (RX6, TX6, 8)) (b := b7) (d' := 6) (av := [.int v5]) (rest := []) (by rw [ch_rs hb6]; rfl) dX11_checkSignature_86 q1159 q1160 rfl q1161 q1162 can_X6_method (Nat.le_of_ble_eq_true rfl) (Nat.le_of_ble_eq_true rfl) (ch_rtg hb6) (cp_kR (v := v8) (w1 := w) (fun Q' hq => s_X6_method hp9 hq) ?_)
      obtain ⟨r, hr, h⟩ := ch_bd h
      obtain rfl := Option.some.inj h
      exact ch_FT.wk (ch_wS (ch_wN (ch_wS (ch_wN (ch_wN (ch_wN ch_w0)))))) (s_X11_checkSignature_89  hr hk)
    · obtain ⟨r, hr, h⟩ := ch_bd h
      obtain rfl := Option.some.inj h
      exact ch_null dX11_checkSignature_74 (ch_goto 89 dX11_checkSignature_75 rfl (ch_FT.wk (ch_wS (ch_wN (ch_wS (ch_wN (ch_wN (ch_wN ch_w0)))))) (s_X11_checkSignature_89  hr hk)))
  · refine ch_aload_n 0 (some t0) dX11_checkSignature_13 rfl (ch_aload_n 2 x2 dX11_checkSignature_14 rfl (cp_gR (ci := 7) (k := 4) dX11_checkSignature_15 fl_X11_172 rfl h (fun v10 h => ?_)))
    obtain ⟨b12, hb11, h⟩ := ch_bd h
    obtain ⟨v13, hp14, h⟩ := ch_bd h
    refine ch_iload_n 3 _ dX11_checkSignature_18 rfl (ch_iv yX8_get prog_9_method_3_code 2 (some .int) (ci := 8) (q := (RX8, TX8, 2)) (b := b12) (d' := 2) (av := [.int x3]) (rest := [va_rf (some t0)]) (by rw [ch_rs hb11]; rfl) dX11_checkSignature_19 q1151 q1152 rfl q1153 q1154 can_X8_get (Nat.le_of_ble_eq_true rfl) (ch_hw (Nat.le_of_ble_eq_true rfl)) (ch_rtg hb11) (cp_kI (v := v13) (w1 := w) (fun Q' hq => s_X8_get hp14 hq) ?_))
    obtain ⟨_, hb15, h⟩ := ch_bd h
    obtain ⟨v16, hp17, h⟩ := ch_bd h
    refine ch_iv yX11_typeOf prog_2_method_5_code 3 (some .int) (ci := 11) (q := (RX11, TX11, 14)) (b := t0) (d' := 6) (av := [.int v13]) (rest := []) rfl dX11_checkSignature_22 q1136 q1138 rfl qs38 q1139 can_X11_typeOf (Nat.le_of_ble_eq_true rfl) (Nat.le_of_ble_eq_true rfl) (ch_rts hb15) (cp_kI (v := v16) (w1 := w) (fun Q' hq => s_X11_typeOf hp17 hq) ?_)
    refine ch_bipush _ (-6) dX11_checkSignature_25 rfl (cp_icmp_eq _ _ (tgt := 53) dX11_checkSignature_27 rfl h (fun h => ?_) (fun h => ?_))
    · exact ch_FT.wk (ch_wS (ch_wS (ch_wS (ch_wS (ch_wN (ch_wN ch_w0)))))) (s_X11_checkSignature_53  h hk)
    · refine ch_aload_n 2 x2 dX11_checkSignature_30 rfl (cp_gR (ci := 7) (k := 5) dX11_checkSignature_31 fl_X11_177 rfl h (fun v18 h => ?_))
      refine ch_aload_n 2 x2 dX11_checkSignature_34 rfl (cp_gR (ci := 7) (k := 5) dX11_checkSignature_35 fl_X11_177 rfl h (fun v19 h => ?_))
      obtain ⟨b21, hb20, h⟩ := ch_bd h
      obtain ⟨v22, hp23, h⟩ := ch_bd h
      refine ch_iload_n 3 _ dX11_checkSignature_38 rfl (ch_iv yX8_get prog_9_method_3_code 2 (some .int) (ci := 8) (q := (RX8, TX8, 2)) (b := b21) (d' := 2) (av := [.int x3]) (rest := [va_rf v18]) (by rw [ch_rs hb20]; rfl) dX11_checkSignature_39 q1151 q1152 rfl q1153 q1154 can_X8_get (Nat.le_of_ble_eq_true rfl) (ch_hw (Nat.le_of_ble_eq_true rfl)) (ch_rtg hb20) (cp_kI (v := v22) (w1 := w) (fun Q' hq => s_X8_get hp23 hq) ?_))
      obtain ⟨b25, hb24, h⟩ := ch_bd h
      obtain ⟨v26, hp27, h⟩ := ch_bd h
      refine ch_iv yX8_find prog_9_method_4_code 3 (some .int) (ci := 8) (q := (RX8, TX8, 2)) (b := b25) (d' := 2) (av := [.int v22]) (rest := []) (by rw [ch_rs hb24]; rfl) dX11_checkSignature_42 q1155 q1156 rfl q1157 q1158 can_X8_find (Nat.le_of_ble_eq_true rfl) (Nat.le_of_ble_eq_true rfl) (ch_rtg hb24) (cp_kI (v := v26) (w1 := w) (fun Q' hq => s_X8_find hp27 hq) ?_)
      refine ch_iload_n 3 _ dX11_checkSignature_45 rfl (cp_icmp_ne _ _ (tgt := 53) dX11_checkSignature_46 rfl h (fun h => ?_) (fun h => ?_))
      · exact ch_FT.wk (ch_wS (ch_wS (ch_wS (ch_wS (ch_wN (ch_wN ch_w0)))))) (s_X11_checkSignature_53  h hk)
      · exact ch_iconst _ 1 dX11_checkSignature_49 rfl (ch_goto 54 dX11_checkSignature_50 rfl (ch_FT.wk (ch_wS (ch_wS (ch_wS (ch_wS (ch_wN (ch_wN ch_w0)))))) (s_X11_checkSignature_54  h hk)))
theorem sl_X11_checkSignature_2 {g : State} {t0 : Nat} {x1 : Option Nat} {x2 : Option Nat} {a : Int32 × ch_W} {res : Except Nat Unit × ch_W} {Q : Outcome → ch_W → Prop} (h : ch_loop (fun (s : Int32 × ch_W) => c_X11_checkSignature_2 g t0 x1 x2 s.1 s.2) a = some res) (hk : (ch_xV Q) res) : ch_FT g true mX11_checkSignature 8 2 [some (va_rf (some t0)), some (va_rf x1), some (va_rf x2), some (.int a.1), none, none] [] (a.2) Q := by
  refine ch_loop_ind (fun (a : Int32 × ch_W) (r : Except Nat Unit × ch_W) => (ch_xV Q) r → ch_FT g true mX11_checkSignature 8 2 [some (va_rf (some t0)), some (va_rf x1), some (va_rf x2), some (.int a.1), none, none] [] (a.2) Q) ?_ ?_ a res h hk
  · intro a a2 b h1 ih hk
    exact s_X11_checkSignature_2  h1 (ih hk)
  · intro a b h1 hk
    exact s_X11_checkSignature_2  h1 hk

def c_X11_checkSignature (g : State) (t0 : Nat) (x1 : Option Nat) (x2 : Option Nat) (w : ch_W) : Option (Except Nat Unit × ch_W) := ch_loop (fun (s : Int32 × ch_W) => c_X11_checkSignature_2 g t0 x1 x2 s.1 s.2) (0, w)
theorem s_X11_checkSignature {g : State} {t0 : Nat} {x1 : Option Nat} {x2 : Option Nat} {w : ch_W} {res : Except Nat Unit × ch_W} {Q : Outcome → ch_W → Prop} (h : c_X11_checkSignature g t0 x1 x2 w = some res) (hk : (ch_xV Q) res) : ch_CT g true yX11_checkSignature 8 [.ref t0, va_rf x1, va_rf x2] (w) Q := by
  unfold c_X11_checkSignature at h
  refine ch_ctL mX11_checkSignature (ls := [some (va_rf (some t0)), some (va_rf x1), some (va_rf x2), none, none, none]) q1150 rfl (ch_lyr (r := some t0) (ch_lyr (r := x1) (ch_lyr (r := x2) ch_ly0))) (Nat.le_of_ble_eq_true rfl) rfl ?_
  exact ch_iconst _ 0 dX11_checkSignature_0 rfl (ch_istore_n 3 _ (ls1 := [some (va_rf (some t0)), some (va_rf x1), some (va_rf x2), some (.int 0), none, none]) dX11_checkSignature_1 (Nat.le_of_ble_eq_true rfl) (ch_s1o rfl rfl) (ch_FT.wk (ch_wS (ch_wS (ch_wS (ch_wS (ch_wN (ch_wN ch_w0)))))) (sl_X11_checkSignature_2  h hk)))

theorem bX6_field_0 : ch_ck cX6_field 0 [42, 77, 44, 198, 0, 24, 44, 3, 27, 182, 0, 41, 78, 45, 198, 0] := ch_ckof (by decide +kernel)
theorem bX6_field_1 : ch_ck cX6_field 16 [5, 45, 176, 44, 180, 0, 45, 77, 167, 255, 234, 1, 176] := ch_ckof (by decide +kernel)
theorem dX6_field_0 : decode cX6_field 0 = .ok (.aload_n 0, 1) := dz_42 (bX6_field_0 0 _ rfl)
theorem dX6_field_1 : decode cX6_field 1 = .ok (.astore_n 2, 1) := dz_77 (bX6_field_0 1 _ rfl)
theorem dX6_field_2 : decode cX6_field 2 = .ok (.aload_n 2, 1) := dz_44 (bX6_field_0 2 _ rfl)
theorem dX6_field_3 : decode cX6_field 3 = .ok (.ifnull 24, 3) := dz_198 (bX6_field_0 3 _ rfl) (bX6_field_0 4 _ rfl) (bX6_field_0 5 _ rfl)
theorem dX6_field_6 : decode cX6_field 6 = .ok (.aload_n 2, 1) := dz_44 (bX6_field_0 6 _ rfl)
theorem dX6_field_7 : decode cX6_field 7 = .ok (.iconst 0, 1) := dz_3 (bX6_field_0 7 _ rfl)
theorem dX6_field_8 : decode cX6_field 8 = .ok (.iload_n 1, 1) := dz_27 (bX6_field_0 8 _ rfl)
theorem dX6_field_9 : decode cX6_field 9 = .ok (.invokevirtual 41, 3) := dz_182 (bX6_field_0 9 _ rfl) (bX6_field_0 10 _ rfl) (bX6_field_0 11 _ rfl)
theorem dX6_field_12 : decode cX6_field 12 = .ok (.astore_n 3, 1) := dz_78 (bX6_field_0 12 _ rfl)
theorem dX6_field_13 : decode cX6_field 13 = .ok (.aload_n 3, 1) := dz_45 (bX6_field_0 13 _ rfl)
theorem dX6_field_14 : decode cX6_field 14 = .ok (.ifnull 5, 3) := dz_198 (bX6_field_0 14 _ rfl) (bX6_field_0 15 _ rfl) (bX6_field_1 0 _ rfl)
theorem dX6_field_17 : decode cX6_field 17 = .ok (.aload_n 3, 1) := dz_45 (bX6_field_1 1 _ rfl)
theorem dX6_field_18 : decode cX6_field 18 = .ok (.areturn, 1) := dz_176 (bX6_field_1 2 _ rfl)
theorem dX6_field_19 : decode cX6_field 19 = .ok (.aload_n 2, 1) := dz_44 (bX6_field_1 3 _ rfl)
theorem dX6_field_20 : decode cX6_field 20 = .ok (.getfield 45, 3) := dz_180 (bX6_field_1 4 _ rfl) (bX6_field_1 5 _ rfl) (bX6_field_1 6 _ rfl)
theorem dX6_field_23 : decode cX6_field 23 = .ok (.astore_n 2, 1) := dz_77 (bX6_field_1 7 _ rfl)
theorem dX6_field_24 : decode cX6_field 24 = .ok (.goto (-22), 3) := dz_167 (bX6_field_1 8 _ rfl) (bX6_field_1 9 _ rfl) (bX6_field_1 10 _ rfl)
theorem dX6_field_27 : decode cX6_field 27 = .ok (.aconst_null, 1) := dz_1 (bX6_field_1 11 _ rfl)
theorem dX6_field_28 : decode cX6_field 28 = .ok (.areturn, 1) := dz_176 (bX6_field_1 12 _ rfl)
def c_X6_field_2 (t0 : Nat) (x1 : Int32) (x2 : Option Nat)  (w : ch_W) : Option ((Option Nat) ⊕ (Option Nat)) := if x2 = none then (some (.inr (none))) else ((ch_rc w x2 7).bind fun b2 => (c_X6_own b2 0 x1 w).bind fun v3 => if v3 = none then ((ch_gR w x2 7 fX6_parent).bind fun v5 => some (.inl (v5))) else (some (.inr (v3))))
theorem s_X6_field_2 {g : State} {kb : Bool} {t0 : Nat} {x1 : Int32} {x2 : Option Nat} {w : ch_W} {res : (Option Nat) ⊕ (Option Nat)} {Q : Outcome → ch_W → Prop} (h : c_X6_field_2 t0 x1 x2 w = some res) (hk : (ch_sm (fun s => ch_FT g kb mX6_field 6 2 [none, some (.int x1), some (va_rf s), none] [] (w) Q) (fun r => ch_eR Q (r, w))) res) : ch_FT g kb mX6_field 6 2 [none, some (.int x1), some (va_rf x2), none] [] (w) Q := by
  unfold c_X6_field_2 at h
  refine ch_aload_n 2 x2 dX6_field_2 rfl (cp_ifnull x2 (tgt := 27) dX6_field_3 rfl h (fun h => ?_) (fun h => ?_))
  · obtain rfl := Option.some.inj h
    exact ch_null dX6_field_27 (ch_areturn none dX6_field_28 rfl (Or.inl ⟨_, rfl⟩) hk)
  · obtain ⟨b2, hb1, h⟩ := ch_bd h
    obtain ⟨v3, hp4, h⟩ := ch_bd h
    refine ch_aload_n 2 x2 dX6_field_6 rfl (ch_iconst _ 0 dX6_field_7 rfl (ch_iload_n 1 _ dX6_field_8 rfl (ch_iv yX6_own prog_4_method_2_code 5 (some (.object "ClassHouse$Member")) (ci := 6) (q := (RX6, TX6, 8)) (b := b2) (d' := 5) (av := [.int 0, .int x1]) (rest := []) (by rw [ch_rs hb1]; rfl) dX6_field_9 q1163 q1142 rfl qs39 q1143 can_X6_own (Nat.le_of_ble_eq_true rfl) (Nat.le_of_ble_eq_true rfl) (ch_rtg hb1) (cp_kR (v := v3) (w1 := w) (fun Q' hq => s_X6_own hp4 hq) ?_))))
    refine ch_astore_n 3 v3 (ls1 := [none, some (.int x1), some (va_rf x2), some (va_rf v3)]) dX6_field_12 (Nat.le_of_ble_eq_true rfl) (ch_s1o rfl rfl) (ch_aload_n 3 v3 dX6_field_13 rfl (cp_ifnull v3 (tgt := 19) dX6_field_14 rfl h (fun h => ?_) (fun h => ?_)))
    · refine ch_aload_n 2 x2 dX6_field_19 rfl (cp_gR (ci := 6) (k := 3) dX6_field_20 fl_X6_45 rfl h (fun v5 h => ?_))
      refine ch_astore_n 2 v5 (ls1 := [none, some (.int x1), some (va_rf v5), some (va_rf v3)]) dX6_field_23 (Nat.le_of_ble_eq_true rfl) rfl (ch_goto 2 dX6_field_24 rfl (ch_FT.wk (ch_wN (ch_wS (ch_wS (ch_wN ch_w0)))) ?_))
      obtain rfl := Option.some.inj h
      exact hk
    · obtain rfl := Option.some.inj h
      exact ch_aload_n 3 v3 dX6_field_17 rfl (ch_areturn v3 dX6_field_18 rfl (Or.inl ⟨_, rfl⟩) hk)
theorem sl_X6_field_2 {g : State} {kb : Bool} {t0 : Nat} {x1 : Int32} {w : ch_W} {a : (Option Nat)} {res : Option Nat} {Q : Outcome → ch_W → Prop} (h : ch_loop (fun (s : (Option Nat)) => c_X6_field_2 t0 x1 s w) a = some res) (hk : (fun r => ch_eR Q (r, w)) res) : ch_FT g kb mX6_field 6 2 [none, some (.int x1), some (va_rf a), none] [] (w) Q := by
  refine ch_loop_ind (fun (a : (Option Nat)) (r : Option Nat) => (fun r => ch_eR Q (r, w)) r → ch_FT g kb mX6_field 6 2 [none, some (.int x1), some (va_rf a), none] [] (w) Q) ?_ ?_ a res h hk
  · intro a a2 b h1 ih hk
    exact s_X6_field_2  h1 (ih hk)
  · intro a b h1 hk
    exact s_X6_field_2  h1 hk

def c_X6_field (t0 : Nat) (x1 : Int32) (w : ch_W) : Option (Option Nat) := ch_loop (fun (s : (Option Nat)) => c_X6_field_2 t0 x1 s w) (some t0)
theorem s_X6_field {g : State} {kb : Bool} {t0 : Nat} {x1 : Int32} {w : ch_W} {res : Option Nat} {Q : Outcome → ch_W → Prop} (h : c_X6_field t0 x1 w = some res) (hk : (fun r => ch_eR Q (r, w)) res) : ch_CT g kb yX6_field 6 [.ref t0, .int x1] (w) Q := by
  unfold c_X6_field at h
  refine ch_ctL mX6_field (ls := [some (va_rf (some t0)), some (.int x1), none, none]) q1167 rfl (ch_lyr (r := some t0) (ch_lyi ch_ly0)) (Nat.le_of_ble_eq_true rfl) rfl ?_
  exact ch_aload_n 0 (some t0) dX6_field_0 rfl (ch_astore_n 2 (some t0) (ls1 := [some (va_rf (some t0)), some (.int x1), some (va_rf (some t0)), none]) dX6_field_1 (Nat.le_of_ble_eq_true rfl) rfl (ch_FT.wk (ch_wN (ch_wS (ch_wS (ch_wN ch_w0)))) (sl_X6_field_2  h hk)))

theorem bX11_checkMembers_0 : ch_ck cX11_checkMembers 0 [3, 61, 28, 43, 180, 0, 116, 182, 0, 67, 162, 0, 119, 43, 180, 0] := ch_ckof (by decide +kernel)
theorem bX11_checkMembers_1 : ch_ck cX11_checkMembers 16 [116, 28, 182, 0, 71, 192, 0, 119, 78, 45, 42, 45, 180, 0, 149, 182] := ch_ckof (by decide +kernel)
theorem bX11_checkMembers_2 : ch_ck cX11_checkMembers 32 [0, 152, 181, 0, 156, 45, 180, 0, 156, 16, 250, 159, 0, 23, 43, 45] := ch_ckof (by decide +kernel)
theorem bX11_checkMembers_3 : ch_ck cX11_checkMembers 48 [180, 0, 121, 45, 180, 0, 159, 182, 0, 160, 45, 166, 0, 7, 4, 167] := ch_ckof (by decide +kernel)
theorem bX11_checkMembers_4 : ch_ck cX11_checkMembers 64 [0, 4, 3, 45, 180, 0, 164, 184, 0, 91, 45, 180, 0, 121, 153, 0] := ch_ckof (by decide +kernel)
theorem bX11_checkMembers_5 : ch_ck cX11_checkMembers 80 [12, 42, 43, 45, 182, 0, 165, 167, 0, 36, 43, 180, 0, 132, 198, 0] := ch_ckof (by decide +kernel)
theorem bX11_checkMembers_6 : ch_ck cX11_checkMembers 96 [17, 43, 180, 0, 132, 45, 180, 0, 159, 182, 0, 168, 199, 0, 7, 4] := ch_ckof (by decide +kernel)
theorem bX11_checkMembers_7 : ch_ck cX11_checkMembers 112 [167, 0, 4, 3, 45, 180, 0, 164, 184, 0, 91, 132, 2, 1, 167, 255] := ch_ckof (by decide +kernel)
theorem bX11_checkMembers_8 : ch_ck cX11_checkMembers 128 [132, 177] := ch_ckof (by decide +kernel)
theorem dX11_checkMembers_0 : decode cX11_checkMembers 0 = .ok (.iconst 0, 1) := dz_3 (bX11_checkMembers_0 0 _ rfl)
theorem dX11_checkMembers_1 : decode cX11_checkMembers 1 = .ok (.istore_n 2, 1) := dz_61 (bX11_checkMembers_0 1 _ rfl)
theorem dX11_checkMembers_2 : decode cX11_checkMembers 2 = .ok (.iload_n 2, 1) := dz_28 (bX11_checkMembers_0 2 _ rfl)
theorem dX11_checkMembers_3 : decode cX11_checkMembers 3 = .ok (.aload_n 1, 1) := dz_43 (bX11_checkMembers_0 3 _ rfl)
theorem dX11_checkMembers_4 : decode cX11_checkMembers 4 = .ok (.getfield 116, 3) := dz_180 (bX11_checkMembers_0 4 _ rfl) (bX11_checkMembers_0 5 _ rfl) (bX11_checkMembers_0 6 _ rfl)
theorem dX11_checkMembers_7 : decode cX11_checkMembers 7 = .ok (.invokevirtual 67, 3) := dz_182 (bX11_checkMembers_0 7 _ rfl) (bX11_checkMembers_0 8 _ rfl) (bX11_checkMembers_0 9 _ rfl)
theorem dX11_checkMembers_10 : decode cX11_checkMembers 10 = .ok (.if_icmp .ge 119, 3) := dz_162 (bX11_checkMembers_0 10 _ rfl) (bX11_checkMembers_0 11 _ rfl) (bX11_checkMembers_0 12 _ rfl)
theorem dX11_checkMembers_13 : decode cX11_checkMembers 13 = .ok (.aload_n 1, 1) := dz_43 (bX11_checkMembers_0 13 _ rfl)
theorem dX11_checkMembers_14 : decode cX11_checkMembers 14 = .ok (.getfield 116, 3) := dz_180 (bX11_checkMembers_0 14 _ rfl) (bX11_checkMembers_0 15 _ rfl) (bX11_checkMembers_1 0 _ rfl)
theorem dX11_checkMembers_17 : decode cX11_checkMembers 17 = .ok (.iload_n 2, 1) := dz_28 (bX11_checkMembers_1 1 _ rfl)
theorem dX11_checkMembers_18 : decode cX11_checkMembers 18 = .ok (.invokevirtual 71, 3) := dz_182 (bX11_checkMembers_1 2 _ rfl) (bX11_checkMembers_1 3 _ rfl) (bX11_checkMembers_1 4 _ rfl)
theorem dX11_checkMembers_21 : decode cX11_checkMembers 21 = .ok (.checkcast 119, 3) := dz_192 (bX11_checkMembers_1 5 _ rfl) (bX11_checkMembers_1 6 _ rfl) (bX11_checkMembers_1 7 _ rfl)
theorem dX11_checkMembers_24 : decode cX11_checkMembers 24 = .ok (.astore_n 3, 1) := dz_78 (bX11_checkMembers_1 8 _ rfl)
theorem dX11_checkMembers_25 : decode cX11_checkMembers 25 = .ok (.aload_n 3, 1) := dz_45 (bX11_checkMembers_1 9 _ rfl)
theorem dX11_checkMembers_26 : decode cX11_checkMembers 26 = .ok (.aload_n 0, 1) := dz_42 (bX11_checkMembers_1 10 _ rfl)
theorem dX11_checkMembers_27 : decode cX11_checkMembers 27 = .ok (.aload_n 3, 1) := dz_45 (bX11_checkMembers_1 11 _ rfl)
theorem dX11_checkMembers_28 : decode cX11_checkMembers 28 = .ok (.getfield 149, 3) := dz_180 (bX11_checkMembers_1 12 _ rfl) (bX11_checkMembers_1 13 _ rfl) (bX11_checkMembers_1 14 _ rfl)
theorem dX11_checkMembers_31 : decode cX11_checkMembers 31 = .ok (.invokevirtual 152, 3) := dz_182 (bX11_checkMembers_1 15 _ rfl) (bX11_checkMembers_2 0 _ rfl) (bX11_checkMembers_2 1 _ rfl)
theorem dX11_checkMembers_34 : decode cX11_checkMembers 34 = .ok (.putfield 156, 3) := dz_181 (bX11_checkMembers_2 2 _ rfl) (bX11_checkMembers_2 3 _ rfl) (bX11_checkMembers_2 4 _ rfl)
theorem dX11_checkMembers_37 : decode cX11_checkMembers 37 = .ok (.aload_n 3, 1) := dz_45 (bX11_checkMembers_2 5 _ rfl)
theorem dX11_checkMembers_38 : decode cX11_checkMembers 38 = .ok (.getfield 156, 3) := dz_180 (bX11_checkMembers_2 6 _ rfl) (bX11_checkMembers_2 7 _ rfl) (bX11_checkMembers_2 8 _ rfl)
theorem dX11_checkMembers_41 : decode cX11_checkMembers 41 = .ok (.bipush (-6), 2) := dz_16 (bX11_checkMembers_2 9 _ rfl) (bX11_checkMembers_2 10 _ rfl)
theorem dX11_checkMembers_43 : decode cX11_checkMembers 43 = .ok (.if_icmp .eq 23, 3) := dz_159 (bX11_checkMembers_2 11 _ rfl) (bX11_checkMembers_2 12 _ rfl) (bX11_checkMembers_2 13 _ rfl)
theorem dX11_checkMembers_46 : decode cX11_checkMembers 46 = .ok (.aload_n 1, 1) := dz_43 (bX11_checkMembers_2 14 _ rfl)
theorem dX11_checkMembers_47 : decode cX11_checkMembers 47 = .ok (.aload_n 3, 1) := dz_45 (bX11_checkMembers_2 15 _ rfl)
theorem dX11_checkMembers_48 : decode cX11_checkMembers 48 = .ok (.getfield 121, 3) := dz_180 (bX11_checkMembers_3 0 _ rfl) (bX11_checkMembers_3 1 _ rfl) (bX11_checkMembers_3 2 _ rfl)
theorem dX11_checkMembers_51 : decode cX11_checkMembers 51 = .ok (.aload_n 3, 1) := dz_45 (bX11_checkMembers_3 3 _ rfl)
theorem dX11_checkMembers_52 : decode cX11_checkMembers 52 = .ok (.getfield 159, 3) := dz_180 (bX11_checkMembers_3 4 _ rfl) (bX11_checkMembers_3 5 _ rfl) (bX11_checkMembers_3 6 _ rfl)
theorem dX11_checkMembers_55 : decode cX11_checkMembers 55 = .ok (.invokevirtual 160, 3) := dz_182 (bX11_checkMembers_3 7 _ rfl) (bX11_checkMembers_3 8 _ rfl) (bX11_checkMembers_3 9 _ rfl)
theorem dX11_checkMembers_58 : decode cX11_checkMembers 58 = .ok (.aload_n 3, 1) := dz_45 (bX11_checkMembers_3 10 _ rfl)
theorem dX11_checkMembers_59 : decode cX11_checkMembers 59 = .ok (.if_acmp .ne 7, 3) := dz_166 (bX11_checkMembers_3 11 _ rfl) (bX11_checkMembers_3 12 _ rfl) (bX11_checkMembers_3 13 _ rfl)
theorem dX11_checkMembers_62 : decode cX11_checkMembers 62 = .ok (.iconst 1, 1) := dz_4 (bX11_checkMembers_3 14 _ rfl)
theorem dX11_checkMembers_63 : decode cX11_checkMembers 63 = .ok (.goto 4, 3) := dz_167 (bX11_checkMembers_3 15 _ rfl) (bX11_checkMembers_4 0 _ rfl) (bX11_checkMembers_4 1 _ rfl)
theorem dX11_checkMembers_66 : decode cX11_checkMembers 66 = .ok (.iconst 0, 1) := dz_3 (bX11_checkMembers_4 2 _ rfl)
theorem dX11_checkMembers_67 : decode cX11_checkMembers 67 = .ok (.aload_n 3, 1) := dz_45 (bX11_checkMembers_4 3 _ rfl)
theorem dX11_checkMembers_68 : decode cX11_checkMembers 68 = .ok (.getfield 164, 3) := dz_180 (bX11_checkMembers_4 4 _ rfl) (bX11_checkMembers_4 5 _ rfl) (bX11_checkMembers_4 6 _ rfl)
theorem dX11_checkMembers_71 : decode cX11_checkMembers 71 = .ok (.invokestatic 91, 3) := dz_184 (bX11_checkMembers_4 7 _ rfl) (bX11_checkMembers_4 8 _ rfl) (bX11_checkMembers_4 9 _ rfl)
theorem dX11_checkMembers_74 : decode cX11_checkMembers 74 = .ok (.aload_n 3, 1) := dz_45 (bX11_checkMembers_4 10 _ rfl)
theorem dX11_checkMembers_75 : decode cX11_checkMembers 75 = .ok (.getfield 121, 3) := dz_180 (bX11_checkMembers_4 11 _ rfl) (bX11_checkMembers_4 12 _ rfl) (bX11_checkMembers_4 13 _ rfl)
theorem dX11_checkMembers_78 : decode cX11_checkMembers 78 = .ok (.ifCond .eq 12, 3) := dz_153 (bX11_checkMembers_4 14 _ rfl) (bX11_checkMembers_4 15 _ rfl) (bX11_checkMembers_5 0 _ rfl)
theorem dX11_checkMembers_81 : decode cX11_checkMembers 81 = .ok (.aload_n 0, 1) := dz_42 (bX11_checkMembers_5 1 _ rfl)
theorem dX11_checkMembers_82 : decode cX11_checkMembers 82 = .ok (.aload_n 1, 1) := dz_43 (bX11_checkMembers_5 2 _ rfl)
theorem dX11_checkMembers_83 : decode cX11_checkMembers 83 = .ok (.aload_n 3, 1) := dz_45 (bX11_checkMembers_5 3 _ rfl)
theorem dX11_checkMembers_84 : decode cX11_checkMembers 84 = .ok (.invokevirtual 165, 3) := dz_182 (bX11_checkMembers_5 4 _ rfl) (bX11_checkMembers_5 5 _ rfl) (bX11_checkMembers_5 6 _ rfl)
theorem dX11_checkMembers_87 : decode cX11_checkMembers 87 = .ok (.goto 36, 3) := dz_167 (bX11_checkMembers_5 7 _ rfl) (bX11_checkMembers_5 8 _ rfl) (bX11_checkMembers_5 9 _ rfl)
theorem dX11_checkMembers_90 : decode cX11_checkMembers 90 = .ok (.aload_n 1, 1) := dz_43 (bX11_checkMembers_5 10 _ rfl)
theorem dX11_checkMembers_91 : decode cX11_checkMembers 91 = .ok (.getfield 132, 3) := dz_180 (bX11_checkMembers_5 11 _ rfl) (bX11_checkMembers_5 12 _ rfl) (bX11_checkMembers_5 13 _ rfl)
theorem dX11_checkMembers_94 : decode cX11_checkMembers 94 = .ok (.ifnull 17, 3) := dz_198 (bX11_checkMembers_5 14 _ rfl) (bX11_checkMembers_5 15 _ rfl) (bX11_checkMembers_6 0 _ rfl)
theorem dX11_checkMembers_97 : decode cX11_checkMembers 97 = .ok (.aload_n 1, 1) := dz_43 (bX11_checkMembers_6 1 _ rfl)
theorem dX11_checkMembers_98 : decode cX11_checkMembers 98 = .ok (.getfield 132, 3) := dz_180 (bX11_checkMembers_6 2 _ rfl) (bX11_checkMembers_6 3 _ rfl) (bX11_checkMembers_6 4 _ rfl)
theorem dX11_checkMembers_101 : decode cX11_checkMembers 101 = .ok (.aload_n 3, 1) := dz_45 (bX11_checkMembers_6 5 _ rfl)
theorem dX11_checkMembers_102 : decode cX11_checkMembers 102 = .ok (.getfield 159, 3) := dz_180 (bX11_checkMembers_6 6 _ rfl) (bX11_checkMembers_6 7 _ rfl) (bX11_checkMembers_6 8 _ rfl)
theorem dX11_checkMembers_105 : decode cX11_checkMembers 105 = .ok (.invokevirtual 168, 3) := dz_182 (bX11_checkMembers_6 9 _ rfl) (bX11_checkMembers_6 10 _ rfl) (bX11_checkMembers_6 11 _ rfl)
theorem dX11_checkMembers_108 : decode cX11_checkMembers 108 = .ok (.ifnonnull 7, 3) := dz_199 (bX11_checkMembers_6 12 _ rfl) (bX11_checkMembers_6 13 _ rfl) (bX11_checkMembers_6 14 _ rfl)
theorem dX11_checkMembers_111 : decode cX11_checkMembers 111 = .ok (.iconst 1, 1) := dz_4 (bX11_checkMembers_6 15 _ rfl)
theorem dX11_checkMembers_112 : decode cX11_checkMembers 112 = .ok (.goto 4, 3) := dz_167 (bX11_checkMembers_7 0 _ rfl) (bX11_checkMembers_7 1 _ rfl) (bX11_checkMembers_7 2 _ rfl)
theorem dX11_checkMembers_115 : decode cX11_checkMembers 115 = .ok (.iconst 0, 1) := dz_3 (bX11_checkMembers_7 3 _ rfl)
theorem dX11_checkMembers_116 : decode cX11_checkMembers 116 = .ok (.aload_n 3, 1) := dz_45 (bX11_checkMembers_7 4 _ rfl)
theorem dX11_checkMembers_117 : decode cX11_checkMembers 117 = .ok (.getfield 164, 3) := dz_180 (bX11_checkMembers_7 5 _ rfl) (bX11_checkMembers_7 6 _ rfl) (bX11_checkMembers_7 7 _ rfl)
theorem dX11_checkMembers_120 : decode cX11_checkMembers 120 = .ok (.invokestatic 91, 3) := dz_184 (bX11_checkMembers_7 8 _ rfl) (bX11_checkMembers_7 9 _ rfl) (bX11_checkMembers_7 10 _ rfl)
theorem dX11_checkMembers_123 : decode cX11_checkMembers 123 = .ok (.iinc 2 1, 3) := dz_132 (bX11_checkMembers_7 11 _ rfl) (bX11_checkMembers_7 12 _ rfl) (bX11_checkMembers_7 13 _ rfl)
theorem dX11_checkMembers_126 : decode cX11_checkMembers 126 = .ok (.goto (-124), 3) := dz_167 (bX11_checkMembers_7 14 _ rfl) (bX11_checkMembers_7 15 _ rfl) (bX11_checkMembers_8 0 _ rfl)
theorem dX11_checkMembers_129 : decode cX11_checkMembers 129 = .ok (.return_, 1) := dz_177 (bX11_checkMembers_8 1 _ rfl)
def c_X11_checkMembers_116 (g : State) (t0 : Nat) (x1 : Option Nat) (x2 : Int32) (x3 : Option Nat) (y0 : Int32) (w : ch_W) : Option ((Int32 × ch_W) ⊕ (Except Nat Unit × ch_W)) := (ch_gI w x3 8 fX7_place).bind fun v1 => ch_tb (c_X11_must g y0 v1 w) (fun a w => .inr ((.error a, w))) fun _ w3 => some (.inl (x2 + 1, w3))
theorem s_X11_checkMembers_116 {g : State} {t0 : Nat} {x1 : Option Nat} {x2 : Int32} {x3 : Option Nat} {y0 : Int32} {w : ch_W} {res : (Int32 × ch_W) ⊕ (Except Nat Unit × ch_W)} {Q : Outcome → ch_W → Prop} (h : c_X11_checkMembers_116 g t0 x1 x2 x3 y0 w = some res) (hk : (ch_sm (fun s => ch_FT g true mX11_checkMembers 9 2 [some (va_rf (some t0)), some (va_rf x1), some (.int s.1), none] [] (s.2) Q) (ch_xV Q)) res) : ch_FT g true mX11_checkMembers 9 116 [some (va_rf (some t0)), some (va_rf x1), some (.int x2), some (va_rf x3)] [.int y0] (w) Q := by
  unfold c_X11_checkMembers_116 at h
  refine ch_aload_n 3 x3 dX11_checkMembers_116 rfl (cp_gI (ci := 7) (k := 3) dX11_checkMembers_117 fl_X11_164 rfl h (fun v1 h => ?_))
  refine ch_is yX11_must prog_2_method_2_code 2 none (d' := 7) (av := [.int y0, .int v1]) (rest := []) rfl dX11_checkMembers_120 q1123 q1124 q226 q1125 can_X11_must (Nat.le_of_ble_eq_true rfl) (Nat.le_of_ble_eq_true rfl) (cp_tV h (fun p hp Q' hq => s_X11_must hp hq) (fun w3 h => ?_) (fun a w1 h => ?_))
  · refine ch_iinc 2 _ _ (x2 + 1) (ls1 := [some (va_rf (some t0)), some (va_rf x1), some (.int (x2 + 1)), some (va_rf x3)]) dX11_checkMembers_123 rfl rfl (Nat.le_of_ble_eq_true rfl) (ch_s1o rfl rfl) (ch_goto 2 dX11_checkMembers_126 rfl (ch_FT.wk (ch_wS (ch_wS (ch_wS (ch_wN ch_w0)))) ?_))
    obtain rfl := Option.some.inj h
    exact hk
  · subst h
    exact ch_th rfl hk

def c_X11_checkMembers_111 (g : State) (t0 : Nat) (x1 : Option Nat) (x2 : Int32) (x3 : Option Nat)  (w : ch_W) : Option ((Int32 × ch_W) ⊕ (Except Nat Unit × ch_W)) := c_X11_checkMembers_116 g t0 x1 x2 x3 1 w
theorem s_X11_checkMembers_111 {g : State} {t0 : Nat} {x1 : Option Nat} {x2 : Int32} {x3 : Option Nat} {w : ch_W} {res : (Int32 × ch_W) ⊕ (Except Nat Unit × ch_W)} {Q : Outcome → ch_W → Prop} (h : c_X11_checkMembers_111 g t0 x1 x2 x3 w = some res) (hk : (ch_sm (fun s => ch_FT g true mX11_checkMembers 9 2 [some (va_rf (some t0)), some (va_rf x1), some (.int s.1), none] [] (s.2) Q) (ch_xV Q)) res) : ch_FT g true mX11_checkMembers 9 111 [some (va_rf (some t0)), some (va_rf x1), some (.int x2), some (va_rf x3)] [] (w) Q := by
  unfold c_X11_checkMembers_111 at h
  exact ch_iconst _ 1 dX11_checkMembers_111 rfl (ch_goto 116 dX11_checkMembers_112 rfl (ch_FT.wk (ch_wS (ch_wS (ch_wS (ch_wS ch_w0)))) (s_X11_checkMembers_116  h hk)))

def c_X11_checkMembers_67 (g : State) (t0 : Nat) (x1 : Option Nat) (x2 : Int32) (x3 : Option Nat) (y0 : Int32) (w : ch_W) : Option ((Int32 × ch_W) ⊕ (Except Nat Unit × ch_W)) := (ch_gI w x3 8 fX7_place).bind fun v1 => ch_tb (c_X11_must g y0 v1 w) (fun a w => .inr ((.error a, w))) fun _ w3 => (ch_gI w3 x3 8 fX7_isMethod).bind fun v4 => if v4 = 0 then ((ch_gR w3 x1 7 fX6_parent).bind fun v5 => if v5 = none then (c_X11_checkMembers_111 g t0 x1 x2 x3 w3) else ((ch_gR w3 x1 7 fX6_parent).bind fun v6 => (ch_gI w3 x3 8 fX7_name).bind fun v7 => (ch_rc w3 v6 7).bind fun b9 => (c_X6_field b9 v7 w3).bind fun v10 => if v10 = none then (c_X11_checkMembers_111 g t0 x1 x2 x3 w3) else (c_X11_checkMembers_116 g t0 x1 x2 x3 0 w3))) else ((ch_rc w3 (some t0) 12).bind fun _ => ch_tb (c_X11_checkSignature g t0 x1 x3 w3) (fun a w => .inr ((.error a, w))) fun _ w14 => some (.inl (x2 + 1, w14)))
theorem s_X11_checkMembers_67 {g : State} {t0 : Nat} {x1 : Option Nat} {x2 : Int32} {x3 : Option Nat} {y0 : Int32} {w : ch_W} {res : (Int32 × ch_W) ⊕ (Except Nat Unit × ch_W)} {Q : Outcome → ch_W → Prop} (h : c_X11_checkMembers_67 g t0 x1 x2 x3 y0 w = some res) (hk : (ch_sm (fun s => ch_FT g true mX11_checkMembers 9 2 [some (va_rf (some t0)), some (va_rf x1), some (.int s.1), none] [] (s.2) Q) (ch_xV Q)) res) : ch_FT g true mX11_checkMembers 9 67 [some (va_rf (some t0)), some (va_rf x1), some (.int x2), some (va_rf x3)] [.int y0] (w) Q := by
  unfold c_X11_checkMembers_67 at h
  refine ch_aload_n 3 x3 dX11_checkMembers_67 rfl (cp_gI (ci := 7) (k := 3) dX11_checkMembers_68 fl_X11_164 rfl h (fun v1 h => ?_))
  refine ch_is yX11_must prog_2_method_2_code 2 none (d' := 7) (av := [.int y0, .int v1]) (rest := []) rfl dX11_checkMembers_71 q1123 q1124 q226 q1125 can_X11_must (Nat.le_of_ble_eq_true rfl) (Nat.le_of_ble_eq_true rfl) (cp_tV h (fun p hp Q' hq => s_X11_must hp hq) (fun w3 h => ?_) (fun a w1 h => ?_))
  · refine ch_aload_n 3 x3 dX11_checkMembers_74 rfl (cp_gI (ci := 7) (k := 0) dX11_checkMembers_75 fl_X11_121 rfl h (fun v4 h => ?_))
    refine cp_if_eq _ (tgt := 90) dX11_checkMembers_78 rfl h (fun h => ?_) (fun h => ?_)
    · refine ch_aload_n 1 x1 dX11_checkMembers_90 rfl (cp_gR (ci := 6) (k := 3) dX11_checkMembers_91 fl_X11_132 rfl h (fun v5 h => ?_))
      refine cp_ifnull v5 (tgt := 111) dX11_checkMembers_94 rfl h (fun h => ?_) (fun h => ?_)
      · exact ch_FT.wk (ch_wS (ch_wS (ch_wS (ch_wS ch_w0)))) (s_X11_checkMembers_111  h hk)
      · refine ch_aload_n 1 x1 dX11_checkMembers_97 rfl (cp_gR (ci := 6) (k := 3) dX11_checkMembers_98 fl_X11_132 rfl h (fun v6 h => ?_))
        refine ch_aload_n 3 x3 dX11_checkMembers_101 rfl (cp_gI (ci := 7) (k := 2) dX11_checkMembers_102 fl_X11_159 rfl h (fun v7 h => ?_))
        obtain ⟨b9, hb8, h⟩ := ch_bd h
        obtain ⟨v10, hp11, h⟩ := ch_bd h
        refine ch_iv yX6_field prog_4_method_4_code 4 (some (.object "ClassHouse$Member")) (ci := 6) (q := (RX6, TX6, 8)) (b := b9) (d' := 6) (av := [.int v7]) (rest := []) (by rw [ch_rs hb8]; rfl) dX11_checkMembers_105 q1164 q1165 rfl q1166 q1167 can_X6_field (Nat.le_of_ble_eq_true rfl) (Nat.le_of_ble_eq_true rfl) (ch_rtg hb8) (cp_kR (v := v10) (w1 := w3) (fun Q' hq => s_X6_field hp11 hq) ?_)
        refine cp_ifnonnull v10 (tgt := 115) dX11_checkMembers_108 rfl h (fun h => ?_) (fun h => ?_)
        · exact ch_iconst _ 0 dX11_checkMembers_115 rfl (ch_FT.wk (ch_wS (ch_wS (ch_wS (ch_wS ch_w0)))) (s_X11_checkMembers_116  h hk))
        · exact ch_FT.wk (ch_wS (ch_wS (ch_wS (ch_wS ch_w0)))) (s_X11_checkMembers_111  h hk)
    · obtain ⟨_, hb12, h⟩ := ch_bd h
      refine ch_aload_n 0 (some t0) dX11_checkMembers_81 rfl (ch_aload_n 1 x1 dX11_checkMembers_82 rfl (ch_aload_n 3 x3 dX11_checkMembers_83 rfl (ch_iv yX11_checkSignature prog_2_method_11_code 6 none (ci := 11) (q := (RX11, TX11, 14)) (b := t0) (d' := 8) (av := [va_rf x1, va_rf x3]) (rest := []) rfl dX11_checkMembers_84 q1147 q1149 rfl qs40 q1150 can_X11_checkSignature (Nat.le_of_ble_eq_true rfl) (Nat.le_of_ble_eq_true rfl) (ch_rts hb12) (cp_tV h (fun p hp Q' hq => s_X11_checkSignature hp hq) (fun w14 h => ?_) (fun a w1 h => ?_)))))
      · refine ch_goto 123 dX11_checkMembers_87 rfl (ch_iinc 2 _ _ (x2 + 1) (ls1 := [some (va_rf (some t0)), some (va_rf x1), some (.int (x2 + 1)), some (va_rf x3)]) dX11_checkMembers_123 rfl rfl (Nat.le_of_ble_eq_true rfl) (ch_s1o rfl rfl) (ch_goto 2 dX11_checkMembers_126 rfl (ch_FT.wk (ch_wS (ch_wS (ch_wS (ch_wN ch_w0)))) ?_)))
        obtain rfl := Option.some.inj h
        exact hk
      · subst h
        exact ch_th rfl hk
  · subst h
    exact ch_th rfl hk

def c_X11_checkMembers_66 (g : State) (t0 : Nat) (x1 : Option Nat) (x2 : Int32) (x3 : Option Nat)  (w : ch_W) : Option ((Int32 × ch_W) ⊕ (Except Nat Unit × ch_W)) := c_X11_checkMembers_67 g t0 x1 x2 x3 0 w
theorem s_X11_checkMembers_66 {g : State} {t0 : Nat} {x1 : Option Nat} {x2 : Int32} {x3 : Option Nat} {w : ch_W} {res : (Int32 × ch_W) ⊕ (Except Nat Unit × ch_W)} {Q : Outcome → ch_W → Prop} (h : c_X11_checkMembers_66 g t0 x1 x2 x3 w = some res) (hk : (ch_sm (fun s => ch_FT g true mX11_checkMembers 9 2 [some (va_rf (some t0)), some (va_rf x1), some (.int s.1), none] [] (s.2) Q) (ch_xV Q)) res) : ch_FT g true mX11_checkMembers 9 66 [some (va_rf (some t0)), some (va_rf x1), some (.int x2), some (va_rf x3)] [] (w) Q := by
  unfold c_X11_checkMembers_66 at h
  exact ch_iconst _ 0 dX11_checkMembers_66 rfl (ch_FT.wk (ch_wS (ch_wS (ch_wS (ch_wS ch_w0)))) (s_X11_checkMembers_67  h hk))

def c_X11_checkMembers_2 (g : State) (t0 : Nat) (x1 : Option Nat) (x2 : Int32)  (w : ch_W) : Option ((Int32 × ch_W) ⊕ (Except Nat Unit × ch_W)) := (ch_gR w x1 7 fX6_members).bind fun v1 => (ch_rc w v1 14).bind fun b3 => (c_J5_size b3 w).bind fun v4 => if x2 < v4 then ((ch_gR w x1 7 fX6_members).bind fun v6 => (ch_rc w v6 14).bind fun b8 => (c_J5_get b8 x2 w).bind fun v9 => (ch_cast w v9 8).bind fun _ => (ch_gI w v9 8 fX7_type).bind fun v11 => (ch_rc w (some t0) 12).bind fun _ => (c_X11_typeOf t0 v11 w).bind fun v13 => (ch_pI w v9 8 fX7_result v13).bind fun w15 => (ch_gI w15 v9 8 fX7_result).bind fun v16 => if v16 = (-6) then (c_X11_checkMembers_66 g t0 x1 x2 v9 w15) else ((ch_gI w15 v9 8 fX7_isMethod).bind fun v17 => (ch_gI w15 v9 8 fX7_name).bind fun v18 => (ch_rc w15 x1 7).bind fun b20 => (c_X6_own b20 v17 v18 w15).bind fun v21 => if v21 = v9 then (c_X11_checkMembers_67 g t0 x1 x2 v9 1 w15) else (c_X11_checkMembers_66 g t0 x1 x2 v9 w15))) else (some (.inr ((.ok (), w))))
theorem s_X11_checkMembers_2 {g : State} {t0 : Nat} {x1 : Option Nat} {x2 : Int32} {w : ch_W} {res : (Int32 × ch_W) ⊕ (Except Nat Unit × ch_W)} {Q : Outcome → ch_W → Prop} (h : c_X11_checkMembers_2 g t0 x1 x2 w = some res) (hk : (ch_sm (fun s => ch_FT g true mX11_checkMembers 9 2 [some (va_rf (some t0)), some (va_rf x1), some (.int s.1), none] [] (s.2) Q) (ch_xV Q)) res) : ch_FT g true mX11_checkMembers 9 2 [some (va_rf (some t0)), some (va_rf x1), some (.int x2), none] [] (w) Q := by
  unfold c_X11_checkMembers_2 at h
  refine ch_iload_n 2 _ dX11_checkMembers_2 rfl (ch_aload_n 1 x1 dX11_checkMembers_3 rfl (cp_gR (ci := 6) (k := 5) dX11_checkMembers_4 fl_X11_116 rfl h (fun v1 h => ?_)))
  obtain ⟨b3, hb2, h⟩ := ch_bd h
  obtain ⟨v4, hp5, h⟩ := ch_bd h
  refine ch_iv yJ5_size prog_32_method_8_code 1 (some .int) (ci := 13) (q := (RJ5, TJ5, 3)) (b := b3) (d' := 2) (av := []) (rest := [.int x2]) (by rw [ch_rs hb2]; rfl) dX11_checkMembers_7 q1061 q608 rfl q609 q610 can_J5_size (Nat.le_of_ble_eq_true rfl) (ch_hw (Nat.le_of_ble_eq_true rfl)) (ch_rtg hb2) (cp_kI (v := v4) (w1 := w) (fun Q' hq => s_J5_size hp5 hq) ?_)
  refine cp_icmp_ge _ _ (tgt := 129) dX11_checkMembers_10 rfl h (fun h => ?_) (fun h => ?_)
  · obtain rfl := Option.some.inj h
    exact ch_return dX11_checkMembers_129 rfl hk
  · refine ch_aload_n 1 x1 dX11_checkMembers_13 rfl (cp_gR (ci := 6) (k := 5) dX11_checkMembers_14 fl_X11_116 rfl h (fun v6 h => ?_))
    obtain ⟨b8, hb7, h⟩ := ch_bd h
    obtain ⟨v9, hp10, h⟩ := ch_bd h
    refine ch_iload_n 2 _ dX11_checkMembers_17 rfl (ch_iv yJ5_get prog_32_method_20_code 2 (some (.object "java/lang/Object")) (ci := 13) (q := (RJ5, TJ5, 3)) (b := b8) (d' := 4) (av := [.int x2]) (rest := []) (by rw [ch_rs hb7]; rfl) dX11_checkMembers_18 q1062 q612 rfl q613 q614 can_J5_get (Nat.le_of_ble_eq_true rfl) (Nat.le_of_ble_eq_true rfl) (ch_rtg hb7) (cp_kR (v := v9) (w1 := w) (fun Q' hq => s_J5_get hp10 hq) ?_))
    refine cp_cast (ci := 7) (q := (RX7, TX7, 12)) dX11_checkMembers_21 rfl q1131 h (fun h => ?_)
    refine ch_astore_n 3 v9 (ls1 := [some (va_rf (some t0)), some (va_rf x1), some (.int x2), some (va_rf v9)]) dX11_checkMembers_24 (Nat.le_of_ble_eq_true rfl) rfl (ch_aload_n 3 v9 dX11_checkMembers_25 rfl (ch_aload_n 0 (some t0) dX11_checkMembers_26 rfl (ch_aload_n 3 v9 dX11_checkMembers_27 rfl (cp_gI (ci := 7) (k := 1) dX11_checkMembers_28 fl_X11_149 rfl h (fun v11 h => ?_)))))
    obtain ⟨_, hb12, h⟩ := ch_bd h
    obtain ⟨v13, hp14, h⟩ := ch_bd h
    refine ch_iv yX11_typeOf prog_2_method_5_code 3 (some .int) (ci := 11) (q := (RX11, TX11, 14)) (b := t0) (d' := 6) (av := [.int v11]) (rest := [va_rf v9]) rfl dX11_checkMembers_31 q1136 q1138 rfl qs38 q1139 can_X11_typeOf (Nat.le_of_ble_eq_true rfl) (ch_hw (Nat.le_of_ble_eq_true rfl)) (ch_rts hb12) (cp_kI (v := v13) (w1 := w) (fun Q' hq => s_X11_typeOf hp14 hq) ?_)
    refine cp_pI (ci := 7) (k := 11) dX11_checkMembers_34 fl_X11_156 rfl rfl rfl h (fun w15 h => ?_)
    refine ch_aload_n 3 v9 dX11_checkMembers_37 rfl (cp_gI (ci := 7) (k := 11) dX11_checkMembers_38 fl_X11_156 rfl h (fun v16 h => ?_))
    refine ch_bipush _ (-6) dX11_checkMembers_41 rfl (cp_icmp_eq _ _ (tgt := 66) dX11_checkMembers_43 rfl h (fun h => ?_) (fun h => ?_))
    · exact ch_FT.wk (ch_wS (ch_wS (ch_wS (ch_wS ch_w0)))) (s_X11_checkMembers_66  h hk)
    · refine ch_aload_n 1 x1 dX11_checkMembers_46 rfl (ch_aload_n 3 v9 dX11_checkMembers_47 rfl (cp_gI (ci := 7) (k := 0) dX11_checkMembers_48 fl_X11_121 rfl h (fun v17 h => ?_)))
      refine ch_aload_n 3 v9 dX11_checkMembers_51 rfl (cp_gI (ci := 7) (k := 2) dX11_checkMembers_52 fl_X11_159 rfl h (fun v18 h => ?_))
      obtain ⟨b20, hb19, h⟩ := ch_bd h
      obtain ⟨v21, hp22, h⟩ := ch_bd h
      refine ch_ivN yX6_own prog_4_method_2_code 5 (some (.object "ClassHouse$Member")) (ci := 6) (q := (RX6, TX6, 8)) (b := b20) (d' := 5) (av := [.int v17, .int v18]) (rest := []) (by rw [ch_rs hb19]; rfl) dX11_checkMembers_55 q1140 q1142 rfl qs39 q1143 can_X6_own (Nat.le_of_ble_eq_true rfl) (Nat.le_of_ble_eq_true rfl) (ch_rtg hb19) (cp_kR (v := v21) (w1 := w15) (fun Q' hq => s_X6_own hp22 hq) ?_)
      refine ch_aload_n 3 v9 dX11_checkMembers_58 rfl (cp_acmp_ne v21 v9 (tgt := 66) dX11_checkMembers_59 rfl h (fun h => ?_) (fun h => ?_))
      · exact ch_FT.wk (ch_wS (ch_wS (ch_wS (ch_wS ch_w0)))) (s_X11_checkMembers_66  h hk)
      · exact ch_iconst _ 1 dX11_checkMembers_62 rfl (ch_goto 67 dX11_checkMembers_63 rfl (ch_FT.wk (ch_wS (ch_wS (ch_wS (ch_wS ch_w0)))) (s_X11_checkMembers_67  h hk)))
theorem sl_X11_checkMembers_2 {g : State} {t0 : Nat} {x1 : Option Nat} {a : Int32 × ch_W} {res : Except Nat Unit × ch_W} {Q : Outcome → ch_W → Prop} (h : ch_loop (fun (s : Int32 × ch_W) => c_X11_checkMembers_2 g t0 x1 s.1 s.2) a = some res) (hk : (ch_xV Q) res) : ch_FT g true mX11_checkMembers 9 2 [some (va_rf (some t0)), some (va_rf x1), some (.int a.1), none] [] (a.2) Q := by
  refine ch_loop_ind (fun (a : Int32 × ch_W) (r : Except Nat Unit × ch_W) => (ch_xV Q) r → ch_FT g true mX11_checkMembers 9 2 [some (va_rf (some t0)), some (va_rf x1), some (.int a.1), none] [] (a.2) Q) ?_ ?_ a res h hk
  · intro a a2 b h1 ih hk
    exact s_X11_checkMembers_2  h1 (ih hk)
  · intro a b h1 hk
    exact s_X11_checkMembers_2  h1 hk

def c_X11_checkMembers (g : State) (t0 : Nat) (x1 : Option Nat) (w : ch_W) : Option (Except Nat Unit × ch_W) := ch_loop (fun (s : Int32 × ch_W) => c_X11_checkMembers_2 g t0 x1 s.1 s.2) (0, w)
theorem s_X11_checkMembers {g : State} {t0 : Nat} {x1 : Option Nat} {w : ch_W} {res : Except Nat Unit × ch_W} {Q : Outcome → ch_W → Prop} (h : c_X11_checkMembers g t0 x1 w = some res) (hk : (ch_xV Q) res) : ch_CT g true yX11_checkMembers 9 [.ref t0, va_rf x1] (w) Q := by
  unfold c_X11_checkMembers at h
  refine ch_ctL mX11_checkMembers (ls := [some (va_rf (some t0)), some (va_rf x1), none, none]) q1135 rfl (ch_lyr (r := some t0) (ch_lyr (r := x1) ch_ly0)) (Nat.le_of_ble_eq_true rfl) rfl ?_
  exact ch_iconst _ 0 dX11_checkMembers_0 rfl (ch_istore_n 2 _ (ls1 := [some (va_rf (some t0)), some (va_rf x1), some (.int 0), none]) dX11_checkMembers_1 (Nat.le_of_ble_eq_true rfl) (ch_s1o rfl rfl) (ch_FT.wk (ch_wS (ch_wS (ch_wS (ch_wN ch_w0)))) (sl_X11_checkMembers_2  h hk)))

theorem bX11_checkMain_0 : ch_ck cX11_checkMain 0 [42, 42, 42, 180, 0, 35, 18, 184, 182, 0, 53, 182, 0, 98, 181, 0] := ch_ckof (by decide +kernel)
theorem bX11_checkMain_1 : ch_ck cX11_checkMain 16 [186, 42, 42, 180, 0, 186, 199, 0, 7, 1, 167, 0, 19, 42, 180, 0] := ch_ckof (by decide +kernel)
theorem bX11_checkMain_2 : ch_ck cX11_checkMain 32 [186, 42, 180, 0, 35, 18, 189, 182, 0, 53, 182, 0, 181, 181, 0, 191] := ch_ckof (by decide +kernel)
theorem bX11_checkMain_3 : ch_ck cX11_checkMain 48 [42, 180, 0, 191, 198, 0, 31, 42, 180, 0, 191, 180, 0, 149, 2, 160] := ch_ckof (by decide +kernel)
theorem bX11_checkMain_4 : ch_ck cX11_checkMain 64 [0, 20, 42, 180, 0, 191, 180, 0, 172, 180, 0, 173, 154, 0, 7, 4] := ch_ckof (by decide +kernel)
theorem bX11_checkMain_5 : ch_ck cX11_checkMain 80 [167, 0, 4, 3, 27, 184, 0, 91, 177] := ch_ckof (by decide +kernel)
theorem dX11_checkMain_0 : decode cX11_checkMain 0 = .ok (.aload_n 0, 1) := dz_42 (bX11_checkMain_0 0 _ rfl)
theorem dX11_checkMain_1 : decode cX11_checkMain 1 = .ok (.aload_n 0, 1) := dz_42 (bX11_checkMain_0 1 _ rfl)
theorem dX11_checkMain_2 : decode cX11_checkMain 2 = .ok (.aload_n 0, 1) := dz_42 (bX11_checkMain_0 2 _ rfl)
theorem dX11_checkMain_3 : decode cX11_checkMain 3 = .ok (.getfield 35, 3) := dz_180 (bX11_checkMain_0 3 _ rfl) (bX11_checkMain_0 4 _ rfl) (bX11_checkMain_0 5 _ rfl)
theorem dX11_checkMain_6 : decode cX11_checkMain 6 = .ok (.ldc 184, 2) := dz_18 (bX11_checkMain_0 6 _ rfl) (bX11_checkMain_0 7 _ rfl)
theorem dX11_checkMain_8 : decode cX11_checkMain 8 = .ok (.invokevirtual 53, 3) := dz_182 (bX11_checkMain_0 8 _ rfl) (bX11_checkMain_0 9 _ rfl) (bX11_checkMain_0 10 _ rfl)
theorem dX11_checkMain_11 : decode cX11_checkMain 11 = .ok (.invokevirtual 98, 3) := dz_182 (bX11_checkMain_0 11 _ rfl) (bX11_checkMain_0 12 _ rfl) (bX11_checkMain_0 13 _ rfl)
theorem dX11_checkMain_14 : decode cX11_checkMain 14 = .ok (.putfield 186, 3) := dz_181 (bX11_checkMain_0 14 _ rfl) (bX11_checkMain_0 15 _ rfl) (bX11_checkMain_1 0 _ rfl)
theorem dX11_checkMain_17 : decode cX11_checkMain 17 = .ok (.aload_n 0, 1) := dz_42 (bX11_checkMain_1 1 _ rfl)
theorem dX11_checkMain_18 : decode cX11_checkMain 18 = .ok (.aload_n 0, 1) := dz_42 (bX11_checkMain_1 2 _ rfl)
theorem dX11_checkMain_19 : decode cX11_checkMain 19 = .ok (.getfield 186, 3) := dz_180 (bX11_checkMain_1 3 _ rfl) (bX11_checkMain_1 4 _ rfl) (bX11_checkMain_1 5 _ rfl)
theorem dX11_checkMain_22 : decode cX11_checkMain 22 = .ok (.ifnonnull 7, 3) := dz_199 (bX11_checkMain_1 6 _ rfl) (bX11_checkMain_1 7 _ rfl) (bX11_checkMain_1 8 _ rfl)
theorem dX11_checkMain_25 : decode cX11_checkMain 25 = .ok (.aconst_null, 1) := dz_1 (bX11_checkMain_1 9 _ rfl)
theorem dX11_checkMain_26 : decode cX11_checkMain 26 = .ok (.goto 19, 3) := dz_167 (bX11_checkMain_1 10 _ rfl) (bX11_checkMain_1 11 _ rfl) (bX11_checkMain_1 12 _ rfl)
theorem dX11_checkMain_29 : decode cX11_checkMain 29 = .ok (.aload_n 0, 1) := dz_42 (bX11_checkMain_1 13 _ rfl)
theorem dX11_checkMain_30 : decode cX11_checkMain 30 = .ok (.getfield 186, 3) := dz_180 (bX11_checkMain_1 14 _ rfl) (bX11_checkMain_1 15 _ rfl) (bX11_checkMain_2 0 _ rfl)
theorem dX11_checkMain_33 : decode cX11_checkMain 33 = .ok (.aload_n 0, 1) := dz_42 (bX11_checkMain_2 1 _ rfl)
theorem dX11_checkMain_34 : decode cX11_checkMain 34 = .ok (.getfield 35, 3) := dz_180 (bX11_checkMain_2 2 _ rfl) (bX11_checkMain_2 3 _ rfl) (bX11_checkMain_2 4 _ rfl)
theorem dX11_checkMain_37 : decode cX11_checkMain 37 = .ok (.ldc 189, 2) := dz_18 (bX11_checkMain_2 5 _ rfl) (bX11_checkMain_2 6 _ rfl)
theorem dX11_checkMain_39 : decode cX11_checkMain 39 = .ok (.invokevirtual 53, 3) := dz_182 (bX11_checkMain_2 7 _ rfl) (bX11_checkMain_2 8 _ rfl) (bX11_checkMain_2 9 _ rfl)
theorem dX11_checkMain_42 : decode cX11_checkMain 42 = .ok (.invokevirtual 181, 3) := dz_182 (bX11_checkMain_2 10 _ rfl) (bX11_checkMain_2 11 _ rfl) (bX11_checkMain_2 12 _ rfl)
theorem dX11_checkMain_45 : decode cX11_checkMain 45 = .ok (.putfield 191, 3) := dz_181 (bX11_checkMain_2 13 _ rfl) (bX11_checkMain_2 14 _ rfl) (bX11_checkMain_2 15 _ rfl)
theorem dX11_checkMain_48 : decode cX11_checkMain 48 = .ok (.aload_n 0, 1) := dz_42 (bX11_checkMain_3 0 _ rfl)
theorem dX11_checkMain_49 : decode cX11_checkMain 49 = .ok (.getfield 191, 3) := dz_180 (bX11_checkMain_3 1 _ rfl) (bX11_checkMain_3 2 _ rfl) (bX11_checkMain_3 3 _ rfl)
theorem dX11_checkMain_52 : decode cX11_checkMain 52 = .ok (.ifnull 31, 3) := dz_198 (bX11_checkMain_3 4 _ rfl) (bX11_checkMain_3 5 _ rfl) (bX11_checkMain_3 6 _ rfl)
theorem dX11_checkMain_55 : decode cX11_checkMain 55 = .ok (.aload_n 0, 1) := dz_42 (bX11_checkMain_3 7 _ rfl)
theorem dX11_checkMain_56 : decode cX11_checkMain 56 = .ok (.getfield 191, 3) := dz_180 (bX11_checkMain_3 8 _ rfl) (bX11_checkMain_3 9 _ rfl) (bX11_checkMain_3 10 _ rfl)
theorem dX11_checkMain_59 : decode cX11_checkMain 59 = .ok (.getfield 149, 3) := dz_180 (bX11_checkMain_3 11 _ rfl) (bX11_checkMain_3 12 _ rfl) (bX11_checkMain_3 13 _ rfl)
theorem dX11_checkMain_62 : decode cX11_checkMain 62 = .ok (.iconst (-1), 1) := dz_2 (bX11_checkMain_3 14 _ rfl)
theorem dX11_checkMain_63 : decode cX11_checkMain 63 = .ok (.if_icmp .ne 20, 3) := dz_160 (bX11_checkMain_3 15 _ rfl) (bX11_checkMain_4 0 _ rfl) (bX11_checkMain_4 1 _ rfl)
theorem dX11_checkMain_66 : decode cX11_checkMain 66 = .ok (.aload_n 0, 1) := dz_42 (bX11_checkMain_4 2 _ rfl)
theorem dX11_checkMain_67 : decode cX11_checkMain 67 = .ok (.getfield 191, 3) := dz_180 (bX11_checkMain_4 3 _ rfl) (bX11_checkMain_4 4 _ rfl) (bX11_checkMain_4 5 _ rfl)
theorem dX11_checkMain_70 : decode cX11_checkMain 70 = .ok (.getfield 172, 3) := dz_180 (bX11_checkMain_4 6 _ rfl) (bX11_checkMain_4 7 _ rfl) (bX11_checkMain_4 8 _ rfl)
theorem dX11_checkMain_73 : decode cX11_checkMain 73 = .ok (.getfield 173, 3) := dz_180 (bX11_checkMain_4 9 _ rfl) (bX11_checkMain_4 10 _ rfl) (bX11_checkMain_4 11 _ rfl)
theorem dX11_checkMain_76 : decode cX11_checkMain 76 = .ok (.ifCond .ne 7, 3) := dz_154 (bX11_checkMain_4 12 _ rfl) (bX11_checkMain_4 13 _ rfl) (bX11_checkMain_4 14 _ rfl)
theorem dX11_checkMain_79 : decode cX11_checkMain 79 = .ok (.iconst 1, 1) := dz_4 (bX11_checkMain_4 15 _ rfl)
theorem dX11_checkMain_80 : decode cX11_checkMain 80 = .ok (.goto 4, 3) := dz_167 (bX11_checkMain_5 0 _ rfl) (bX11_checkMain_5 1 _ rfl) (bX11_checkMain_5 2 _ rfl)
theorem dX11_checkMain_83 : decode cX11_checkMain 83 = .ok (.iconst 0, 1) := dz_3 (bX11_checkMain_5 3 _ rfl)
theorem dX11_checkMain_84 : decode cX11_checkMain 84 = .ok (.iload_n 1, 1) := dz_27 (bX11_checkMain_5 4 _ rfl)
theorem dX11_checkMain_85 : decode cX11_checkMain 85 = .ok (.invokestatic 91, 3) := dz_184 (bX11_checkMain_5 5 _ rfl) (bX11_checkMain_5 6 _ rfl) (bX11_checkMain_5 7 _ rfl)
theorem dX11_checkMain_88 : decode cX11_checkMain 88 = .ok (.return_, 1) := dz_177 (bX11_checkMain_5 8 _ rfl)
def c_X11_checkMain_84 (g : State) (t0 : Nat) (x1 : Int32) (y0 : Int32) (w : ch_W) : Option (Except Nat Unit × ch_W) := ch_tb (c_X11_must g y0 x1 w) (fun a w => (.error a, w)) fun _ w2 => some ((.ok (), w2))
theorem s_X11_checkMain_84 {g : State} {t0 : Nat} {x1 : Int32} {y0 : Int32} {w : ch_W} {res : Except Nat Unit × ch_W} {Q : Outcome → ch_W → Prop} (h : c_X11_checkMain_84 g t0 x1 y0 w = some res) (hk : (ch_xV Q) res) : ch_FT g true mX11_checkMain 11 84 [none, some (.int x1)] [.int y0] (w) Q := by
  unfold c_X11_checkMain_84 at h
  refine ch_iload_n 1 _ dX11_checkMain_84 rfl (ch_is yX11_must prog_2_method_2_code 2 none (d' := 7) (av := [.int y0, .int x1]) (rest := []) rfl dX11_checkMain_85 q1123 q1124 q226 q1125 can_X11_must (Nat.le_of_ble_eq_true rfl) (Nat.le_of_ble_eq_true rfl) (cp_tV h (fun p hp Q' hq => s_X11_must hp hq) (fun w2 h => ?_) (fun a w1 h => ?_)))
  · obtain rfl := Option.some.inj h
    exact ch_return dX11_checkMain_88 rfl hk
  · subst h
    exact ch_th rfl hk

def c_X11_checkMain_83 (g : State) (t0 : Nat) (x1 : Int32)  (w : ch_W) : Option (Except Nat Unit × ch_W) := c_X11_checkMain_84 g t0 x1 0 w
theorem s_X11_checkMain_83 {g : State} {t0 : Nat} {x1 : Int32} {w : ch_W} {res : Except Nat Unit × ch_W} {Q : Outcome → ch_W → Prop} (h : c_X11_checkMain_83 g t0 x1 w = some res) (hk : (ch_xV Q) res) : ch_FT g true mX11_checkMain 11 83 [none, some (.int x1)] [] (w) Q := by
  unfold c_X11_checkMain_83 at h
  exact ch_iconst _ 0 dX11_checkMain_83 rfl (ch_FT.wk (ch_wN (ch_wS ch_w0)) (s_X11_checkMain_84  h hk))

def c_X11_checkMain_45 (g : State) (t0 : Nat) (x1 : Int32) (y0 : Option Nat) (y1 : Nat) (w : ch_W) : Option (Except Nat Unit × ch_W) := (ch_pR w (some y1) 12 fX11_main y0).bind fun w1 => (ch_gR w1 (some t0) 12 fX11_main).bind fun v2 => if v2 = none then (c_X11_checkMain_83 g t0 x1 w1) else ((ch_gR w1 (some t0) 12 fX11_main).bind fun v3 => (ch_gI w1 v3 8 fX7_type).bind fun v4 => if v4 = (-1) then ((ch_gR w1 (some t0) 12 fX11_main).bind fun v5 => (ch_gR w1 v5 8 fX7_types).bind fun v6 => (ch_gI w1 v6 9 fX8_size).bind fun v7 => if v7 = 0 then (c_X11_checkMain_84 g t0 x1 1 w1) else (c_X11_checkMain_83 g t0 x1 w1)) else (c_X11_checkMain_83 g t0 x1 w1))
theorem s_X11_checkMain_45 {g : State} {t0 : Nat} {x1 : Int32} {y0 : Option Nat} {y1 : Nat} {w : ch_W} {res : Except Nat Unit × ch_W} {Q : Outcome → ch_W → Prop} (h : c_X11_checkMain_45 g t0 x1 y0 y1 w = some res) (hk : (ch_xV Q) res) : ch_FT g true mX11_checkMain 11 45 [some (va_rf (some t0)), some (.int x1)] [va_rf y0, va_rf (some y1)] (w) Q := by
  unfold c_X11_checkMain_45 at h
  refine cp_pR (ci := 11) (k := 13) dX11_checkMain_45 fl_X11_191 rfl rfl rfl h (fun w1 h => ?_)
  refine ch_aload_n 0 (some t0) dX11_checkMain_48 rfl (cp_gR (ci := 11) (k := 13) dX11_checkMain_49 fl_X11_191 rfl h (fun v2 h => ?_))
  refine cp_ifnull v2 (tgt := 83) dX11_checkMain_52 rfl h (fun h => ?_) (fun h => ?_)
  · exact ch_FT.wk (ch_wN (ch_wS ch_w0)) (s_X11_checkMain_83  h hk)
  · refine ch_aload_n 0 (some t0) dX11_checkMain_55 rfl (cp_gR (ci := 11) (k := 13) dX11_checkMain_56 fl_X11_191 rfl h (fun v3 h => ?_))
    refine cp_gI (ci := 7) (k := 1) dX11_checkMain_59 fl_X11_149 rfl h (fun v4 h => ?_)
    refine ch_iconst _ (-1) dX11_checkMain_62 rfl (cp_icmp_ne _ _ (tgt := 83) dX11_checkMain_63 rfl h (fun h => ?_) (fun h => ?_))
    · exact ch_FT.wk (ch_wN (ch_wS ch_w0)) (s_X11_checkMain_83  h hk)
    · refine ch_aload_n 0 (some t0) dX11_checkMain_66 rfl (cp_gR (ci := 11) (k := 13) dX11_checkMain_67 fl_X11_191 rfl h (fun v5 h => ?_))
      refine cp_gR (ci := 7) (k := 4) dX11_checkMain_70 fl_X11_172 rfl h (fun v6 h => ?_)
      refine cp_gI (ci := 8) (k := 1) dX11_checkMain_73 fl_X11_173 rfl h (fun v7 h => ?_)
      refine cp_if_ne _ (tgt := 83) dX11_checkMain_76 rfl h (fun h => ?_) (fun h => ?_)
      · exact ch_FT.wk (ch_wN (ch_wS ch_w0)) (s_X11_checkMain_83  h hk)
      · exact ch_iconst _ 1 dX11_checkMain_79 rfl (ch_goto 84 dX11_checkMain_80 rfl (ch_FT.wk (ch_wN (ch_wS ch_w0)) (s_X11_checkMain_84  h hk)))

def c_X11_checkMain (g : State) (t0 : Nat) (x1 : Int32) (w : ch_W) : Option (Except Nat Unit × ch_W) := (ch_gR w (some t0) 12 fX11_reader).bind fun v1 => (ch_rc w v1 5).bind fun b3 => (c_X4_nameOf g b3 (some (ch_sa g RX11 184)) w).bind fun p4 => (ch_rc p4.2 (some t0) 12).bind fun _ => (c_X11_kindOf t0 p4.1 p4.2).bind fun v7 => (ch_pR p4.2 (some t0) 12 fX11_mainClass v7).bind fun w9 => (ch_gR w9 (some t0) 12 fX11_mainClass).bind fun v10 => if v10 = none then (c_X11_checkMain_45 g t0 x1 none t0 w9) else ((ch_gR w9 (some t0) 12 fX11_mainClass).bind fun v11 => (ch_gR w9 (some t0) 12 fX11_reader).bind fun v12 => (ch_rc w9 v12 5).bind fun b14 => (c_X4_nameOf g b14 (some (ch_sa g RX11 189)) w9).bind fun p15 => (ch_rc p15.2 v11 7).bind fun b18 => (c_X6_method b18 p15.1 p15.2).bind fun v19 => c_X11_checkMain_45 g t0 x1 v19 t0 p15.2)
theorem s_X11_checkMain {g : State} {t0 : Nat} {x1 : Int32} {w : ch_W} {res : Except Nat Unit × ch_W} {Q : Outcome → ch_W → Prop} (h : c_X11_checkMain g t0 x1 w = some res) (hk : (ch_xV Q) res) : ch_CT g true yX11_checkMain 11 [.ref t0, .int x1] (w) Q := by
  unfold c_X11_checkMain at h
  refine ch_ctL mX11_checkMain (ls := [some (va_rf (some t0)), some (.int x1)]) q1171 rfl (ch_lyr (r := some t0) (ch_lyi ch_ly0)) (Nat.le_of_ble_eq_true rfl) rfl ?_
  refine ch_aload_n 0 (some t0) dX11_checkMain_0 rfl (ch_aload_n 0 (some t0) dX11_checkMain_1 rfl (ch_aload_n 0 (some t0) dX11_checkMain_2 rfl (cp_gR (ci := 11) (k := 0) dX11_checkMain_3 fl_X11_35 rfl h (fun v1 h => ?_))))
  obtain ⟨b3, hb2, h⟩ := ch_bd h
  obtain ⟨p4, hp5, h⟩ := ch_bd h
  refine ch_ldcS q1172 dX11_checkMain_6 (ch_iv yX4_nameOf prog_7_method_12_code 4 (some .int) (ci := 4) (q := (RX4, TX4, 9)) (b := b3) (d' := 10) (av := [va_rf (some (ch_sa g RX11 184))]) (rest := [va_rf (some t0), va_rf (some t0)]) (by rw [ch_rs hb2]; rfl) dX11_checkMain_8 q1055 q1056 rfl q1057 q1058 can_X4_nameOf (Nat.le_of_ble_eq_true rfl) (ch_hw (Nat.le_of_ble_eq_true rfl)) (ch_rtg hb2) (cp_kI (v := p4.1) (w1 := p4.2) (fun Q' hq => s_X4_nameOf hp5 hq) ?_))
  obtain ⟨_, hb6, h⟩ := ch_bd h
  obtain ⟨v7, hp8, h⟩ := ch_bd h
  refine ch_iv yX11_kindOf prog_2_method_4_code 3 (some (.object "ClassHouse$Kind")) (ci := 11) (q := (RX11, TX11, 14)) (b := t0) (d' := 5) (av := [.int p4.1]) (rest := [va_rf (some t0)]) rfl dX11_checkMain_11 q1119 q1121 rfl qs36 q1122 can_X11_kindOf (Nat.le_of_ble_eq_true rfl) (ch_hw (Nat.le_of_ble_eq_true rfl)) (ch_rts hb6) (cp_kR (v := v7) (w1 := p4.2) (fun Q' hq => s_X11_kindOf hp8 hq) ?_)
  refine cp_pR (ci := 11) (k := 12) dX11_checkMain_14 fl_X11_186 rfl rfl rfl h (fun w9 h => ?_)
  refine ch_aload_n 0 (some t0) dX11_checkMain_17 rfl (ch_aload_n 0 (some t0) dX11_checkMain_18 rfl (cp_gR (ci := 11) (k := 12) dX11_checkMain_19 fl_X11_186 rfl h (fun v10 h => ?_)))
  refine cp_ifnonnull v10 (tgt := 29) dX11_checkMain_22 rfl h (fun h => ?_) (fun h => ?_)
  · refine ch_aload_n 0 (some t0) dX11_checkMain_29 rfl (cp_gR (ci := 11) (k := 12) dX11_checkMain_30 fl_X11_186 rfl h (fun v11 h => ?_))
    refine ch_aload_n 0 (some t0) dX11_checkMain_33 rfl (cp_gR (ci := 11) (k := 0) dX11_checkMain_34 fl_X11_35 rfl h (fun v12 h => ?_))
    obtain ⟨b14, hb13, h⟩ := ch_bd h
    obtain ⟨p15, hp16, h⟩ := ch_bd h
    refine ch_ldcS q1173 dX11_checkMain_37 (ch_iv yX4_nameOf prog_7_method_12_code 4 (some .int) (ci := 4) (q := (RX4, TX4, 9)) (b := b14) (d' := 10) (av := [va_rf (some (ch_sa g RX11 189))]) (rest := [va_rf v11, va_rf (some t0)]) (by rw [ch_rs hb13]; rfl) dX11_checkMain_39 q1055 q1056 rfl q1057 q1058 can_X4_nameOf (Nat.le_of_ble_eq_true rfl) (ch_hw (Nat.le_of_ble_eq_true rfl)) (ch_rtg hb13) (cp_kI (v := p15.1) (w1 := p15.2) (fun Q' hq => s_X4_nameOf hp16 hq) ?_))
    obtain ⟨b18, hb17, h⟩ := ch_bd h
    obtain ⟨v19, hp20, h⟩ := ch_bd h
    refine ch_iv yX6_method prog_4_method_3_code 4 (some (.object "ClassHouse$Member")) (ci := 6) (q := (RX6, TX6, 8)) (b := b18) (d' := 6) (av := [.int p15.1]) (rest := [va_rf (some t0)]) (by rw [ch_rs hb17]; rfl) dX11_checkMain_42 q1159 q1160 rfl q1161 q1162 can_X6_method (Nat.le_of_ble_eq_true rfl) (ch_hw (Nat.le_of_ble_eq_true rfl)) (ch_rtg hb17) (cp_kR (v := v19) (w1 := p15.2) (fun Q' hq => s_X6_method hp20 hq) ?_)
    exact ch_FT.wk (ch_wS (ch_wS ch_w0)) (s_X11_checkMain_45  h hk)
  · exact ch_null dX11_checkMain_25 (ch_goto 45 dX11_checkMain_26 rfl (ch_FT.wk (ch_wS (ch_wS ch_w0)) (s_X11_checkMain_45  h hk)))

