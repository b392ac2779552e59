/-! printed by tools/dec.py -/
set_option maxRecDepth 100000
theorem bX3_feed_0 : ch_ck cX3_feed 0 [42, 180, 1, 179, 16, 20, 96, 17, 11, 184, 164, 0, 5, 2, 172, 3] := ch_ckof (by decide +kernel)
theorem bX3_feed_1 : ch_ck cX3_feed 16 [54, 6, 21, 6, 16, 20, 162, 0, 93, 21, 6, 7, 162, 0, 7, 27] := ch_ckof (by decide +kernel)
theorem bX3_feed_2 : ch_ck cX3_feed 32 [167, 0, 39, 21, 6, 16, 8, 162, 0, 7, 28, 167, 0, 28, 21, 6] := ch_ckof (by decide +kernel)
theorem bX3_feed_3 : ch_ck cX3_feed 48 [16, 12, 162, 0, 7, 29, 167, 0, 17, 21, 6, 16, 16, 162, 0, 8] := ch_ckof (by decide +kernel)
theorem bX3_feed_4 : ch_ck cX3_feed 64 [21, 4, 167, 0, 5, 21, 5, 54, 7, 42, 180, 0, 7, 42, 180, 1] := ch_ckof (by decide +kernel)
theorem bX3_feed_5 : ch_ck cX3_feed 80 [179, 21, 7, 16, 24, 16, 8, 21, 6, 7, 112, 104, 100, 122, 17, 0] := ch_ckof (by decide +kernel)
theorem bX3_feed_6 : ch_ck cX3_feed 96 [255, 126, 79, 42, 89, 180, 1, 179, 4, 96, 181, 1, 179, 132, 6, 1] := ch_ckof (by decide +kernel)
theorem bX3_feed_7 : ch_ck cX3_feed 112 [167, 255, 162, 42, 180, 1, 179, 172] := ch_ckof (by decide +kernel)
theorem dX3_feed_0 : decode cX3_feed 0 = .ok (.aload_n 0, 1) := dz_42 (bX3_feed_0 0 _ rfl)
theorem dX3_feed_1 : decode cX3_feed 1 = .ok (.getfield 435, 3) := dz_180 (bX3_feed_0 1 _ rfl) (bX3_feed_0 2 _ rfl) (bX3_feed_0 3 _ rfl)
theorem dX3_feed_4 : decode cX3_feed 4 = .ok (.bipush 20, 2) := dz_16 (bX3_feed_0 4 _ rfl) (bX3_feed_0 5 _ rfl)
theorem dX3_feed_6 : decode cX3_feed 6 = .ok (.iadd, 1) := dz_96 (bX3_feed_0 6 _ rfl)
theorem dX3_feed_7 : decode cX3_feed 7 = .ok (.sipush 3000, 3) := dz_17 (bX3_feed_0 7 _ rfl) (bX3_feed_0 8 _ rfl) (bX3_feed_0 9 _ rfl)
theorem dX3_feed_10 : decode cX3_feed 10 = .ok (.if_icmp .le 5, 3) := dz_164 (bX3_feed_0 10 _ rfl) (bX3_feed_0 11 _ rfl) (bX3_feed_0 12 _ rfl)
theorem dX3_feed_13 : decode cX3_feed 13 = .ok (.iconst (-1), 1) := dz_2 (bX3_feed_0 13 _ rfl)
theorem dX3_feed_14 : decode cX3_feed 14 = .ok (.ireturn, 1) := dz_172 (bX3_feed_0 14 _ rfl)
theorem dX3_feed_15 : decode cX3_feed 15 = .ok (.iconst 0, 1) := dz_3 (bX3_feed_0 15 _ rfl)
theorem dX3_feed_16 : decode cX3_feed 16 = .ok (.istore 6, 2) := dz_54 (bX3_feed_1 0 _ rfl) (bX3_feed_1 1 _ rfl)
theorem dX3_feed_18 : decode cX3_feed 18 = .ok (.iload 6, 2) := dz_21 (bX3_feed_1 2 _ rfl) (bX3_feed_1 3 _ rfl)
theorem dX3_feed_20 : decode cX3_feed 20 = .ok (.bipush 20, 2) := dz_16 (bX3_feed_1 4 _ rfl) (bX3_feed_1 5 _ rfl)
theorem dX3_feed_22 : decode cX3_feed 22 = .ok (.if_icmp .ge 93, 3) := dz_162 (bX3_feed_1 6 _ rfl) (bX3_feed_1 7 _ rfl) (bX3_feed_1 8 _ rfl)
theorem dX3_feed_25 : decode cX3_feed 25 = .ok (.iload 6, 2) := dz_21 (bX3_feed_1 9 _ rfl) (bX3_feed_1 10 _ rfl)
theorem dX3_feed_27 : decode cX3_feed 27 = .ok (.iconst 4, 1) := dz_7 (bX3_feed_1 11 _ rfl)
theorem dX3_feed_28 : decode cX3_feed 28 = .ok (.if_icmp .ge 7, 3) := dz_162 (bX3_feed_1 12 _ rfl) (bX3_feed_1 13 _ rfl) (bX3_feed_1 14 _ rfl)
theorem dX3_feed_31 : decode cX3_feed 31 = .ok (.iload_n 1, 1) := dz_27 (bX3_feed_1 15 _ rfl)
theorem dX3_feed_32 : decode cX3_feed 32 = .ok (.goto 39, 3) := dz_167 (bX3_feed_2 0 _ rfl) (bX3_feed_2 1 _ rfl) (bX3_feed_2 2 _ rfl)
theorem dX3_feed_35 : decode cX3_feed 35 = .ok (.iload 6, 2) := dz_21 (bX3_feed_2 3 _ rfl) (bX3_feed_2 4 _ rfl)
theorem dX3_feed_37 : decode cX3_feed 37 = .ok (.bipush 8, 2) := dz_16 (bX3_feed_2 5 _ rfl) (bX3_feed_2 6 _ rfl)
theorem dX3_feed_39 : decode cX3_feed 39 = .ok (.if_icmp .ge 7, 3) := dz_162 (bX3_feed_2 7 _ rfl) (bX3_feed_2 8 _ rfl) (bX3_feed_2 9 _ rfl)
theorem dX3_feed_42 : decode cX3_feed 42 = .ok (.iload_n 2, 1) := dz_28 (bX3_feed_2 10 _ rfl)
theorem dX3_feed_43 : decode cX3_feed 43 = .ok (.goto 28, 3) := dz_167 (bX3_feed_2 11 _ rfl) (bX3_feed_2 12 _ rfl) (bX3_feed_2 13 _ rfl)
theorem dX3_feed_46 : decode cX3_feed 46 = .ok (.iload 6, 2) := dz_21 (bX3_feed_2 14 _ rfl) (bX3_feed_2 15 _ rfl)
theorem dX3_feed_48 : decode cX3_feed 48 = .ok (.bipush 12, 2) := dz_16 (bX3_feed_3 0 _ rfl) (bX3_feed_3 1 _ rfl)
theorem dX3_feed_50 : decode cX3_feed 50 = .ok (.if_icmp .ge 7, 3) := dz_162 (bX3_feed_3 2 _ rfl) (bX3_feed_3 3 _ rfl) (bX3_feed_3 4 _ rfl)
theorem dX3_feed_53 : decode cX3_feed 53 = .ok (.iload_n 3, 1) := dz_29 (bX3_feed_3 5 _ rfl)
theorem dX3_feed_54 : decode cX3_feed 54 = .ok (.goto 17, 3) := dz_167 (bX3_feed_3 6 _ rfl) (bX3_feed_3 7 _ rfl) (bX3_feed_3 8 _ rfl)
theorem dX3_feed_57 : decode cX3_feed 57 = .ok (.iload 6, 2) := dz_21 (bX3_feed_3 9 _ rfl) (bX3_feed_3 10 _ rfl)
theorem dX3_feed_59 : decode cX3_feed 59 = .ok (.bipush 16, 2) := dz_16 (bX3_feed_3 11 _ rfl) (bX3_feed_3 12 _ rfl)
theorem dX3_feed_61 : decode cX3_feed 61 = .ok (.if_icmp .ge 8, 3) := dz_162 (bX3_feed_3 13 _ rfl) (bX3_feed_3 14 _ rfl) (bX3_feed_3 15 _ rfl)
theorem dX3_feed_64 : decode cX3_feed 64 = .ok (.iload 4, 2) := dz_21 (bX3_feed_4 0 _ rfl) (bX3_feed_4 1 _ rfl)
theorem dX3_feed_66 : decode cX3_feed 66 = .ok (.goto 5, 3) := dz_167 (bX3_feed_4 2 _ rfl) (bX3_feed_4 3 _ rfl) (bX3_feed_4 4 _ rfl)
theorem dX3_feed_69 : decode cX3_feed 69 = .ok (.iload 5, 2) := dz_21 (bX3_feed_4 5 _ rfl) (bX3_feed_4 6 _ rfl)
theorem dX3_feed_71 : decode cX3_feed 71 = .ok (.istore 7, 2) := dz_54 (bX3_feed_4 7 _ rfl) (bX3_feed_4 8 _ rfl)
theorem dX3_feed_73 : decode cX3_feed 73 = .ok (.aload_n 0, 1) := dz_42 (bX3_feed_4 9 _ rfl)
theorem dX3_feed_74 : decode cX3_feed 74 = .ok (.getfield 7, 3) := dz_180 (bX3_feed_4 10 _ rfl) (bX3_feed_4 11 _ rfl) (bX3_feed_4 12 _ rfl)
theorem dX3_feed_77 : decode cX3_feed 77 = .ok (.aload_n 0, 1) := dz_42 (bX3_feed_4 13 _ rfl)
theorem dX3_feed_78 : decode cX3_feed 78 = .ok (.getfield 435, 3) := dz_180 (bX3_feed_4 14 _ rfl) (bX3_feed_4 15 _ rfl) (bX3_feed_5 0 _ rfl)
theorem dX3_feed_81 : decode cX3_feed 81 = .ok (.iload 7, 2) := dz_21 (bX3_feed_5 1 _ rfl) (bX3_feed_5 2 _ rfl)
theorem dX3_feed_83 : decode cX3_feed 83 = .ok (.bipush 24, 2) := dz_16 (bX3_feed_5 3 _ rfl) (bX3_feed_5 4 _ rfl)
theorem dX3_feed_85 : decode cX3_feed 85 = .ok (.bipush 8, 2) := dz_16 (bX3_feed_5 5 _ rfl) (bX3_feed_5 6 _ rfl)
theorem dX3_feed_87 : decode cX3_feed 87 = .ok (.iload 6, 2) := dz_21 (bX3_feed_5 7 _ rfl) (bX3_feed_5 8 _ rfl)
theorem dX3_feed_89 : decode cX3_feed 89 = .ok (.iconst 4, 1) := dz_7 (bX3_feed_5 9 _ rfl)
theorem dX3_feed_90 : decode cX3_feed 90 = .ok (.irem, 1) := dz_112 (bX3_feed_5 10 _ rfl)
theorem dX3_feed_91 : decode cX3_feed 91 = .ok (.imul, 1) := dz_104 (bX3_feed_5 11 _ rfl)
theorem dX3_feed_92 : decode cX3_feed 92 = .ok (.isub, 1) := dz_100 (bX3_feed_5 12 _ rfl)
theorem dX3_feed_93 : decode cX3_feed 93 = .ok (.ishr, 1) := dz_122 (bX3_feed_5 13 _ rfl)
theorem dX3_feed_94 : decode cX3_feed 94 = .ok (.sipush 255, 3) := dz_17 (bX3_feed_5 14 _ rfl) (bX3_feed_5 15 _ rfl) (bX3_feed_6 0 _ rfl)
theorem dX3_feed_97 : decode cX3_feed 97 = .ok (.iand, 1) := dz_126 (bX3_feed_6 1 _ rfl)
theorem dX3_feed_98 : decode cX3_feed 98 = .ok (.iastore, 1) := dz_79 (bX3_feed_6 2 _ rfl)
theorem dX3_feed_99 : decode cX3_feed 99 = .ok (.aload_n 0, 1) := dz_42 (bX3_feed_6 3 _ rfl)
theorem dX3_feed_100 : decode cX3_feed 100 = .ok (.dup, 1) := dz_89 (bX3_feed_6 4 _ rfl)
theorem dX3_feed_101 : decode cX3_feed 101 = .ok (.getfield 435, 3) := dz_180 (bX3_feed_6 5 _ rfl) (bX3_feed_6 6 _ rfl) (bX3_feed_6 7 _ rfl)
theorem dX3_feed_104 : decode cX3_feed 104 = .ok (.iconst 1, 1) := dz_4 (bX3_feed_6 8 _ rfl)
theorem dX3_feed_105 : decode cX3_feed 105 = .ok (.iadd, 1) := dz_96 (bX3_feed_6 9 _ rfl)
theorem dX3_feed_106 : decode cX3_feed 106 = .ok (.putfield 435, 3) := dz_181 (bX3_feed_6 10 _ rfl) (bX3_feed_6 11 _ rfl) (bX3_feed_6 12 _ rfl)
theorem dX3_feed_109 : decode cX3_feed 109 = .ok (.iinc 6 1, 3) := dz_132 (bX3_feed_6 13 _ rfl) (bX3_feed_6 14 _ rfl) (bX3_feed_6 15 _ rfl)
theorem dX3_feed_112 : decode cX3_feed 112 = .ok (.goto (-94), 3) := dz_167 (bX3_feed_7 0 _ rfl) (bX3_feed_7 1 _ rfl) (bX3_feed_7 2 _ rfl)
theorem dX3_feed_115 : decode cX3_feed 115 = .ok (.aload_n 0, 1) := dz_42 (bX3_feed_7 3 _ rfl)
theorem dX3_feed_116 : decode cX3_feed 116 = .ok (.getfield 435, 3) := dz_180 (bX3_feed_7 4 _ rfl) (bX3_feed_7 5 _ rfl) (bX3_feed_7 6 _ rfl)
theorem dX3_feed_119 : decode cX3_feed 119 = .ok (.ireturn, 1) := dz_172 (bX3_feed_7 7 _ rfl)
def m_X3_feed_71 (x1 : Int32) (x2 : Int32) (x3 : Int32) (x4 : Int32) (x5 : Int32) (x6 : Int32) (y0 : Int32) (σ : ch_S) : Option ((Int32 × ch_S) ⊕ (Int32 × ch_S)) := (ch_nz 4).bind fun _ => (ch_mw σ fX3_tape (σ.1 fX3_taped) ((y0 >>> ((24 - (8 * (x6 - x6 / 4 * 4))) &&& 31)) &&& 255)).bind fun σ1 => (ch_mI σ1 fX3_taped ((σ1.1 fX3_taped) + 1)).bind fun σ2 => some (.inl (x6 + 1, σ2))
theorem s_X3_feed_71 {g : State} {m : Nat} {w : ch_W} {x1 : Int32} {x2 : Int32} {x3 : Int32} {x4 : Int32} {x5 : Int32} {x6 : Int32} {y0 : Int32} {σ : ch_S} {res : (Int32 × ch_S) ⊕ (Int32 × ch_S)} {Q : Outcome → ch_W → Prop} (h : m_X3_feed_71 x1 x2 x3 x4 x5 x6 y0 σ = some res) (hk : (ch_sm (fun s => ch_FT g false mX3_feed 2 18 [some (va_rf (some m)), some (.int x1), some (.int x2), some (.int x3), some (.int x4), some (.int x5), some (.int s.1), none] [] (ch_put m w s.2) Q) (fun r => ch_eI Q (r.1, ch_put m w r.2))) res) : ch_FT g false mX3_feed 2 71 [some (va_rf (some m)), some (.int x1), some (.int x2), some (.int x3), some (.int x4), some (.int x5), some (.int x6), none] [.int y0] (ch_put m w σ) Q := by
  unfold m_X3_feed_71 at h
  refine ch_istore 7 _ (ls1 := [some (va_rf (some m)), some (.int x1), some (.int x2), some (.int x3), some (.int x4), some (.int x5), some (.int x6), some (.int y0)]) dX3_feed_71 (Nat.le_of_ble_eq_true rfl) rfl (ch_aload_n 0 (some m) dX3_feed_73 rfl (mp_gA 0 dX3_feed_74 fl_X3_7 rfl (ch_aload_n 0 (some m) dX3_feed_77 rfl (mp_gI 1 dX3_feed_78 fl_X3_435 rfl (ch_iload 7 _ dX3_feed_81 rfl (ch_bipush _ 24 dX3_feed_83 rfl (ch_bipush _ 8 dX3_feed_85 rfl (?_))))))))
  refine ch_iload 6 _ dX3_feed_87 rfl (ch_iconst _ 4 dX3_feed_89 rfl (cp_rem dX3_feed_90 h (fun h => ?_)))
  refine ch_imul _ _ dX3_feed_91 (ch_isub _ _ dX3_feed_92 (ch_ishr _ _ dX3_feed_93 (ch_sipush _ 255 dX3_feed_94 rfl (ch_iand _ _ dX3_feed_97 (mp_iast dX3_feed_98 mk_0 rfl h (fun σ1 h => ?_))))))
  refine ch_aload_n 0 (some m) dX3_feed_99 rfl (ch_dup dX3_feed_100 (ch_cat _) (mp_gI 1 dX3_feed_101 fl_X3_435 rfl (ch_iconst _ 1 dX3_feed_104 rfl (ch_iadd _ _ dX3_feed_105 (mp_pI (k := 1) dX3_feed_106 fl_X3_435 rfl rfl rfl h (fun σ2 h => ?_))))))
  refine ch_iinc 6 _ _ (x6 + 1) (ls1 := [some (va_rf (some m)), some (.int x1), some (.int x2), some (.int x3), some (.int x4), some (.int x5), some (.int (x6 + 1)), some (.int y0)]) dX3_feed_109 rfl rfl (Nat.le_of_ble_eq_true rfl) rfl (ch_goto 18 dX3_feed_112 rfl (ch_FT.wk (ch_wS (ch_wS (ch_wS (ch_wS (ch_wS (ch_wS (ch_wS (ch_wN ch_w0)))))))) ?_))
  obtain rfl := Option.some.inj h
  exact hk

def m_X3_feed_18 (x1 : Int32) (x2 : Int32) (x3 : Int32) (x4 : Int32) (x5 : Int32) (x6 : Int32)  (σ : ch_S) : Option ((Int32 × ch_S) ⊕ (Int32 × ch_S)) := if x6 < 20 then (if x6 < 4 then (m_X3_feed_71 x1 x2 x3 x4 x5 x6 x1 σ) else (if x6 < 8 then (m_X3_feed_71 x1 x2 x3 x4 x5 x6 x2 σ) else (if x6 < 12 then (m_X3_feed_71 x1 x2 x3 x4 x5 x6 x3 σ) else (if x6 < 16 then (m_X3_feed_71 x1 x2 x3 x4 x5 x6 x4 σ) else (m_X3_feed_71 x1 x2 x3 x4 x5 x6 x5 σ))))) else (some (.inr ((σ.1 fX3_taped, σ))))
theorem s_X3_feed_18 {g : State} {m : Nat} {w : ch_W} {x1 : Int32} {x2 : Int32} {x3 : Int32} {x4 : Int32} {x5 : Int32} {x6 : Int32} {σ : ch_S} {res : (Int32 × ch_S) ⊕ (Int32 × ch_S)} {Q : Outcome → ch_W → Prop} (h : m_X3_feed_18 x1 x2 x3 x4 x5 x6 σ = some res) (hk : (ch_sm (fun s => ch_FT g false mX3_feed 2 18 [some (va_rf (some m)), some (.int x1), some (.int x2), some (.int x3), some (.int x4), some (.int x5), some (.int s.1), none] [] (ch_put m w s.2) Q) (fun r => ch_eI Q (r.1, ch_put m w r.2))) res) : ch_FT g false mX3_feed 2 18 [some (va_rf (some m)), some (.int x1), some (.int x2), some (.int x3), some (.int x4), some (.int x5), some (.int x6), none] [] (ch_put m w σ) Q := by
  unfold m_X3_feed_18 at h
  refine ch_iload 6 _ dX3_feed_18 rfl (ch_bipush _ 20 dX3_feed_20 rfl (cp_icmp_ge _ _ (tgt := 115) dX3_feed_22 rfl h (fun h => ?_) (fun h => ?_)))
  · obtain rfl := Option.some.inj h
    exact ch_aload_n 0 (some m) dX3_feed_115 rfl (mp_gI 1 dX3_feed_116 fl_X3_435 rfl (ch_ireturn _ dX3_feed_119 rfl rfl hk))
  · refine ch_iload 6 _ dX3_feed_25 rfl (ch_iconst _ 4 dX3_feed_27 rfl (cp_icmp_ge _ _ (tgt := 35) dX3_feed_28 rfl h (fun h => ?_) (fun h => ?_)))
    · refine ch_iload 6 _ dX3_feed_35 rfl (ch_bipush _ 8 dX3_feed_37 rfl (cp_icmp_ge _ _ (tgt := 46) dX3_feed_39 rfl h (fun h => ?_) (fun h => ?_)))
      · refine ch_iload 6 _ dX3_feed_46 rfl (ch_bipush _ 12 dX3_feed_48 rfl (cp_icmp_ge _ _ (tgt := 57) dX3_feed_50 rfl h (fun h => ?_) (fun h => ?_)))
        · refine ch_iload 6 _ dX3_feed_57 rfl (ch_bipush _ 16 dX3_feed_59 rfl (cp_icmp_ge _ _ (tgt := 69) dX3_feed_61 rfl h (fun h => ?_) (fun h => ?_)))
          · exact ch_iload 5 _ dX3_feed_69 rfl (ch_FT.wk (ch_wS (ch_wS (ch_wS (ch_wS (ch_wS (ch_wS (ch_wS (ch_wN ch_w0)))))))) (s_X3_feed_71  h hk))
          · exact ch_iload 4 _ dX3_feed_64 rfl (ch_goto 71 dX3_feed_66 rfl (ch_FT.wk (ch_wS (ch_wS (ch_wS (ch_wS (ch_wS (ch_wS (ch_wS (ch_wN ch_w0)))))))) (s_X3_feed_71  h hk)))
        · exact ch_iload_n 3 _ dX3_feed_53 rfl (ch_goto 71 dX3_feed_54 rfl (ch_FT.wk (ch_wS (ch_wS (ch_wS (ch_wS (ch_wS (ch_wS (ch_wS (ch_wN ch_w0)))))))) (s_X3_feed_71  h hk)))
      · exact ch_iload_n 2 _ dX3_feed_42 rfl (ch_goto 71 dX3_feed_43 rfl (ch_FT.wk (ch_wS (ch_wS (ch_wS (ch_wS (ch_wS (ch_wS (ch_wS (ch_wN ch_w0)))))))) (s_X3_feed_71  h hk)))
    · exact ch_iload_n 1 _ dX3_feed_31 rfl (ch_goto 71 dX3_feed_32 rfl (ch_FT.wk (ch_wS (ch_wS (ch_wS (ch_wS (ch_wS (ch_wS (ch_wS (ch_wN ch_w0)))))))) (s_X3_feed_71  h hk)))
theorem sl_X3_feed_18 {g : State} {m : Nat} {w : ch_W} {x1 : Int32} {x2 : Int32} {x3 : Int32} {x4 : Int32} {x5 : Int32} {a : Int32 × ch_S} {res : Int32 × ch_S} {Q : Outcome → ch_W → Prop} (h : ch_loop (fun (s : Int32 × ch_S) => m_X3_feed_18 x1 x2 x3 x4 x5 s.1 s.2) a = some res) (hk : (fun r => ch_eI Q (r.1, ch_put m w r.2)) res) : ch_FT g false mX3_feed 2 18 [some (va_rf (some m)), some (.int x1), some (.int x2), some (.int x3), some (.int x4), some (.int x5), some (.int a.1), none] [] (ch_put m w a.2) Q := by
  refine ch_loop_ind (fun (a : Int32 × ch_S) (r : Int32 × ch_S) => (fun r => ch_eI Q (r.1, ch_put m w r.2)) r → ch_FT g false mX3_feed 2 18 [some (va_rf (some m)), some (.int x1), some (.int x2), some (.int x3), some (.int x4), some (.int x5), some (.int a.1), none] [] (ch_put m w a.2) Q) ?_ ?_ a res h hk
  · intro a a2 b h1 ih hk
    exact s_X3_feed_18  h1 (ih hk)
  · intro a b h1 hk
    exact s_X3_feed_18  h1 hk

def m_X3_feed (x1 : Int32) (x2 : Int32) (x3 : Int32) (x4 : Int32) (x5 : Int32) (σ : ch_S) : Option (Int32 × ch_S) := if 3000 < ((σ.1 fX3_taped) + 20) then (some (((-1), σ))) else (ch_loop (fun (s : Int32 × ch_S) => m_X3_feed_18 x1 x2 x3 x4 x5 s.1 s.2) (0, σ))
theorem s_X3_feed {g : State} {m : Nat} {w : ch_W} {x1 : Int32} {x2 : Int32} {x3 : Int32} {x4 : Int32} {x5 : Int32} {σ : ch_S} {res : Int32 × ch_S} {Q : Outcome → ch_W → Prop} (h : m_X3_feed x1 x2 x3 x4 x5 σ = some res) (hk : (fun r => ch_eI Q (r.1, ch_put m w r.2)) res) : ch_CT g false yX3_feed 2 [.ref m, .int x1, .int x2, .int x3, .int x4, .int x5] (ch_put m w σ) Q := by
  unfold m_X3_feed at h
  refine ch_ctL mX3_feed (ls := [some (va_rf (some m)), some (.int x1), some (.int x2), some (.int x3), some (.int x4), some (.int x5), none, none]) q2174 rfl (ch_lyr (r := some m) (ch_lyi (ch_lyi (ch_lyi (ch_lyi (ch_lyi ch_ly0)))))) (Nat.le_of_ble_eq_true rfl) rfl ?_
  refine ch_aload_n 0 (some m) dX3_feed_0 rfl (mp_gI 1 dX3_feed_1 fl_X3_435 rfl (ch_bipush _ 20 dX3_feed_4 rfl (ch_iadd _ _ dX3_feed_6 (ch_sipush _ 3000 dX3_feed_7 rfl (cp_icmp_le _ _ (tgt := 15) dX3_feed_10 rfl h (fun h => ?_) (fun h => ?_))))))
  · exact ch_iconst _ 0 dX3_feed_15 rfl (ch_istore 6 _ (ls1 := [some (va_rf (some m)), some (.int x1), some (.int x2), some (.int x3), some (.int x4), some (.int x5), some (.int 0), none]) dX3_feed_16 (Nat.le_of_ble_eq_true rfl) rfl (ch_FT.wk (ch_wS (ch_wS (ch_wS (ch_wS (ch_wS (ch_wS (ch_wS (ch_wN ch_w0)))))))) (sl_X3_feed_18  h hk)))
  · obtain rfl := Option.some.inj h
    exact ch_iconst _ (-1) dX3_feed_13 rfl (ch_ireturn _ dX3_feed_14 rfl rfl hk)

theorem bX3_end_0 : ch_ck cX3_end 0 [27, 133, 9, 42, 180, 1, 179, 133, 184, 0, 228, 154, 0, 5, 2, 172] := ch_ckof (by decide +kernel)
theorem bX3_end_1 : ch_ck cX3_end 16 [42, 27, 181, 1, 179, 27, 172] := ch_ckof (by decide +kernel)
theorem dX3_end_0 : decode cX3_end 0 = .ok (.iload_n 1, 1) := dz_27 (bX3_end_0 0 _ rfl)
theorem dX3_end_1 : decode cX3_end 1 = .ok (.i2l, 1) := dz_133 (bX3_end_0 1 _ rfl)
theorem dX3_end_2 : decode cX3_end 2 = .ok (.lconst 0, 1) := dz_9 (bX3_end_0 2 _ rfl)
theorem dX3_end_3 : decode cX3_end 3 = .ok (.aload_n 0, 1) := dz_42 (bX3_end_0 3 _ rfl)
theorem dX3_end_4 : decode cX3_end 4 = .ok (.getfield 435, 3) := dz_180 (bX3_end_0 4 _ rfl) (bX3_end_0 5 _ rfl) (bX3_end_0 6 _ rfl)
theorem dX3_end_7 : decode cX3_end 7 = .ok (.i2l, 1) := dz_133 (bX3_end_0 7 _ rfl)
theorem dX3_end_8 : decode cX3_end 8 = .ok (.invokestatic 228, 3) := dz_184 (bX3_end_0 8 _ rfl) (bX3_end_0 9 _ rfl) (bX3_end_0 10 _ rfl)
theorem dX3_end_11 : decode cX3_end 11 = .ok (.ifCond .ne 5, 3) := dz_154 (bX3_end_0 11 _ rfl) (bX3_end_0 12 _ rfl) (bX3_end_0 13 _ rfl)
theorem dX3_end_14 : decode cX3_end 14 = .ok (.iconst (-1), 1) := dz_2 (bX3_end_0 14 _ rfl)
theorem dX3_end_15 : decode cX3_end 15 = .ok (.ireturn, 1) := dz_172 (bX3_end_0 15 _ rfl)
theorem dX3_end_16 : decode cX3_end 16 = .ok (.aload_n 0, 1) := dz_42 (bX3_end_1 0 _ rfl)
theorem dX3_end_17 : decode cX3_end 17 = .ok (.iload_n 1, 1) := dz_27 (bX3_end_1 1 _ rfl)
theorem dX3_end_18 : decode cX3_end 18 = .ok (.putfield 435, 3) := dz_181 (bX3_end_1 2 _ rfl) (bX3_end_1 3 _ rfl) (bX3_end_1 4 _ rfl)
theorem dX3_end_21 : decode cX3_end 21 = .ok (.iload_n 1, 1) := dz_27 (bX3_end_1 5 _ rfl)
theorem dX3_end_22 : decode cX3_end 22 = .ok (.ireturn, 1) := dz_172 (bX3_end_1 6 _ rfl)
def m_X3_end (x1 : Int32) (σ : ch_S) : Option (Int32 × ch_S) := (m_X3_isIn (Int32.toInt64 x1) 0 (Int32.toInt64 (σ.1 fX3_taped)) σ).bind fun v1 => if v1 = 0 then (some (((-1), σ))) else ((ch_mI σ fX3_taped x1).bind fun σ3 => some ((x1, σ3)))
theorem s_X3_end {g : State} {m : Nat} {w : ch_W} {x1 : Int32} {σ : ch_S} {res : Int32 × ch_S} {Q : Outcome → ch_W → Prop} (h : m_X3_end x1 σ = some res) (hk : (fun r => ch_eI Q (r.1, ch_put m w r.2)) res) : ch_CT g false yX3_end 3 [.ref m, .int x1] (ch_put m w σ) Q := by
  unfold m_X3_end at h
  refine ch_ctL mX3_end (ls := [some (va_rf (some m)), some (.int x1)]) q2178 rfl (ch_lyr (r := some m) (ch_lyi ch_ly0)) (Nat.le_of_ble_eq_true rfl) rfl ?_
  obtain ⟨v1, hp2, h⟩ := ch_bd h
  refine ch_iload_n 1 _ dX3_end_0 rfl (ch_i2l _ dX3_end_1 (ch_lconst _ 0 dX3_end_2 rfl (ch_aload_n 0 (some m) dX3_end_3 rfl (mp_gI 1 dX3_end_4 fl_X3_435 rfl (ch_i2l _ dX3_end_7 (ch_is yX3_isIn prog_14_method_4_code 6 (some .boolean) (d' := 2) (av := [.long (Int32.toInt64 x1), .long 0, .long (Int32.toInt64 (σ.1 fX3_taped))]) (rest := []) rfl dX3_end_8 q1897 q1898 q206 q1899 can_X3_isIn (Nat.le_of_ble_eq_true rfl) (Nat.le_of_ble_eq_true rfl) (cp_kI (v := v1) (w1 := ch_put m w σ) (fun Q' hq => s_X3_isIn hp2 hq) ?_)))))))
  refine cp_if_ne _ (tgt := 16) dX3_end_11 rfl h (fun h => ?_) (fun h => ?_)
  · refine ch_aload_n 0 (some m) dX3_end_16 rfl (ch_iload_n 1 _ dX3_end_17 rfl (mp_pI (k := 1) dX3_end_18 fl_X3_435 rfl rfl rfl h (fun σ3 h => ?_)))
    obtain rfl := Option.some.inj h
    exact ch_iload_n 1 _ dX3_end_21 rfl (ch_ireturn _ dX3_end_22 rfl rfl hk)
  · obtain rfl := Option.some.inj h
    exact ch_iconst _ (-1) dX3_end_14 rfl (ch_ireturn _ dX3_end_15 rfl rfl hk)

theorem bX3_heap_0 : ch_ck cX3_heap 0 [27, 133, 20, 2, 168, 20, 2, 170, 184, 0, 228, 154, 0, 5, 2, 172] := ch_ckof (by decide +kernel)
theorem bX3_heap_1 : ch_ck cX3_heap 16 [42, 27, 181, 0, 144, 4, 172] := ch_ckof (by decide +kernel)
theorem dX3_heap_0 : decode cX3_heap 0 = .ok (.iload_n 1, 1) := dz_27 (bX3_heap_0 0 _ rfl)
theorem dX3_heap_1 : decode cX3_heap 1 = .ok (.i2l, 1) := dz_133 (bX3_heap_0 1 _ rfl)
theorem dX3_heap_2 : decode cX3_heap 2 = .ok (.ldc2_w 680, 3) := dz_20 (bX3_heap_0 2 _ rfl) (bX3_heap_0 3 _ rfl) (bX3_heap_0 4 _ rfl)
theorem dX3_heap_5 : decode cX3_heap 5 = .ok (.ldc2_w 682, 3) := dz_20 (bX3_heap_0 5 _ rfl) (bX3_heap_0 6 _ rfl) (bX3_heap_0 7 _ rfl)
theorem dX3_heap_8 : decode cX3_heap 8 = .ok (.invokestatic 228, 3) := dz_184 (bX3_heap_0 8 _ rfl) (bX3_heap_0 9 _ rfl) (bX3_heap_0 10 _ rfl)
theorem dX3_heap_11 : decode cX3_heap 11 = .ok (.ifCond .ne 5, 3) := dz_154 (bX3_heap_0 11 _ rfl) (bX3_heap_0 12 _ rfl) (bX3_heap_0 13 _ rfl)
theorem dX3_heap_14 : decode cX3_heap 14 = .ok (.iconst (-1), 1) := dz_2 (bX3_heap_0 14 _ rfl)
theorem dX3_heap_15 : decode cX3_heap 15 = .ok (.ireturn, 1) := dz_172 (bX3_heap_0 15 _ rfl)
theorem dX3_heap_16 : decode cX3_heap 16 = .ok (.aload_n 0, 1) := dz_42 (bX3_heap_1 0 _ rfl)
theorem dX3_heap_17 : decode cX3_heap 17 = .ok (.iload_n 1, 1) := dz_27 (bX3_heap_1 1 _ rfl)
theorem dX3_heap_18 : decode cX3_heap 18 = .ok (.putfield 144, 3) := dz_181 (bX3_heap_1 2 _ rfl) (bX3_heap_1 3 _ rfl) (bX3_heap_1 4 _ rfl)
theorem dX3_heap_21 : decode cX3_heap 21 = .ok (.iconst 1, 1) := dz_4 (bX3_heap_1 5 _ rfl)
theorem dX3_heap_22 : decode cX3_heap 22 = .ok (.ireturn, 1) := dz_172 (bX3_heap_1 6 _ rfl)
def m_X3_heap (x1 : Int32) (σ : ch_S) : Option (Int32 × ch_S) := (m_X3_isIn (Int32.toInt64 x1) 10 10000 σ).bind fun v1 => if v1 = 0 then (some (((-1), σ))) else ((ch_mI σ fX3_heapNext x1).bind fun σ3 => some ((1, σ3)))
theorem s_X3_heap {g : State} {m : Nat} {w : ch_W} {x1 : Int32} {σ : ch_S} {res : Int32 × ch_S} {Q : Outcome → ch_W → Prop} (h : m_X3_heap x1 σ = some res) (hk : (fun r => ch_eI Q (r.1, ch_put m w r.2)) res) : ch_CT g false yX3_heap 3 [.ref m, .int x1] (ch_put m w σ) Q := by
  unfold m_X3_heap at h
  refine ch_ctL mX3_heap (ls := [some (va_rf (some m)), some (.int x1)]) q2182 rfl (ch_lyr (r := some m) (ch_lyi ch_ly0)) (Nat.le_of_ble_eq_true rfl) rfl ?_
  obtain ⟨v1, hp2, h⟩ := ch_bd h
  refine ch_iload_n 1 _ dX3_heap_0 rfl (ch_i2l _ dX3_heap_1 (ch_ldc2 680 10 dX3_heap_2 q2183 (ch_ldc2 682 10000 dX3_heap_5 q2184 (ch_is yX3_isIn prog_14_method_4_code 6 (some .boolean) (d' := 2) (av := [.long (Int32.toInt64 x1), .long 10, .long 10000]) (rest := []) rfl dX3_heap_8 q1897 q1898 q206 q1899 can_X3_isIn (Nat.le_of_ble_eq_true rfl) (Nat.le_of_ble_eq_true rfl) (cp_kI (v := v1) (w1 := ch_put m w σ) (fun Q' hq => s_X3_isIn hp2 hq) ?_)))))
  refine cp_if_ne _ (tgt := 16) dX3_heap_11 rfl h (fun h => ?_) (fun h => ?_)
  · refine ch_aload_n 0 (some m) dX3_heap_16 rfl (ch_iload_n 1 _ dX3_heap_17 rfl (mp_pI (k := 71) dX3_heap_18 fl_X3_144 rfl rfl rfl h (fun σ3 h => ?_)))
    obtain rfl := Option.some.inj h
    exact ch_iconst _ 1 dX3_heap_21 rfl (ch_ireturn _ dX3_heap_22 rfl rfl hk)
  · obtain rfl := Option.some.inj h
    exact ch_iconst _ (-1) dX3_heap_14 rfl (ch_ireturn _ dX3_heap_15 rfl rfl hk)

theorem bX3_input_0 : ch_ck cX3_input 0 [42, 180, 2, 123, 6, 96, 17, 1, 44, 164, 0, 5, 2, 172, 42, 180] := ch_ckof (by decide +kernel)
theorem bX3_input_1 : ch_ck cX3_input 16 [0, 151, 42, 180, 2, 123, 27, 79, 42, 180, 0, 151, 42, 180, 2, 123] := ch_ckof (by decide +kernel)
theorem bX3_input_2 : ch_ck cX3_input 32 [4, 96, 28, 79, 42, 180, 0, 151, 42, 180, 2, 123, 5, 96, 29, 79] := ch_ckof (by decide +kernel)
theorem bX3_input_3 : ch_ck cX3_input 48 [42, 89, 180, 2, 123, 6, 96, 181, 2, 123, 42, 180, 2, 123, 172] := ch_ckof (by decide +kernel)
theorem dX3_input_0 : decode cX3_input 0 = .ok (.aload_n 0, 1) := dz_42 (bX3_input_0 0 _ rfl)
theorem dX3_input_1 : decode cX3_input 1 = .ok (.getfield 635, 3) := dz_180 (bX3_input_0 1 _ rfl) (bX3_input_0 2 _ rfl) (bX3_input_0 3 _ rfl)
theorem dX3_input_4 : decode cX3_input 4 = .ok (.iconst 3, 1) := dz_6 (bX3_input_0 4 _ rfl)
theorem dX3_input_5 : decode cX3_input 5 = .ok (.iadd, 1) := dz_96 (bX3_input_0 5 _ rfl)
theorem dX3_input_6 : decode cX3_input 6 = .ok (.sipush 300, 3) := dz_17 (bX3_input_0 6 _ rfl) (bX3_input_0 7 _ rfl) (bX3_input_0 8 _ rfl)
theorem dX3_input_9 : decode cX3_input 9 = .ok (.if_icmp .le 5, 3) := dz_164 (bX3_input_0 9 _ rfl) (bX3_input_0 10 _ rfl) (bX3_input_0 11 _ rfl)
theorem dX3_input_12 : decode cX3_input 12 = .ok (.iconst (-1), 1) := dz_2 (bX3_input_0 12 _ rfl)
theorem dX3_input_13 : decode cX3_input 13 = .ok (.ireturn, 1) := dz_172 (bX3_input_0 13 _ rfl)
theorem dX3_input_14 : decode cX3_input 14 = .ok (.aload_n 0, 1) := dz_42 (bX3_input_0 14 _ rfl)
theorem dX3_input_15 : decode cX3_input 15 = .ok (.getfield 151, 3) := dz_180 (bX3_input_0 15 _ rfl) (bX3_input_1 0 _ rfl) (bX3_input_1 1 _ rfl)
theorem dX3_input_18 : decode cX3_input 18 = .ok (.aload_n 0, 1) := dz_42 (bX3_input_1 2 _ rfl)
theorem dX3_input_19 : decode cX3_input 19 = .ok (.getfield 635, 3) := dz_180 (bX3_input_1 3 _ rfl) (bX3_input_1 4 _ rfl) (bX3_input_1 5 _ rfl)
theorem dX3_input_22 : decode cX3_input 22 = .ok (.iload_n 1, 1) := dz_27 (bX3_input_1 6 _ rfl)
theorem dX3_input_23 : decode cX3_input 23 = .ok (.iastore, 1) := dz_79 (bX3_input_1 7 _ rfl)
theorem dX3_input_24 : decode cX3_input 24 = .ok (.aload_n 0, 1) := dz_42 (bX3_input_1 8 _ rfl)
theorem dX3_input_25 : decode cX3_input 25 = .ok (.getfield 151, 3) := dz_180 (bX3_input_1 9 _ rfl) (bX3_input_1 10 _ rfl) (bX3_input_1 11 _ rfl)
theorem dX3_input_28 : decode cX3_input 28 = .ok (.aload_n 0, 1) := dz_42 (bX3_input_1 12 _ rfl)
theorem dX3_input_29 : decode cX3_input 29 = .ok (.getfield 635, 3) := dz_180 (bX3_input_1 13 _ rfl) (bX3_input_1 14 _ rfl) (bX3_input_1 15 _ rfl)
theorem dX3_input_32 : decode cX3_input 32 = .ok (.iconst 1, 1) := dz_4 (bX3_input_2 0 _ rfl)
theorem dX3_input_33 : decode cX3_input 33 = .ok (.iadd, 1) := dz_96 (bX3_input_2 1 _ rfl)
theorem dX3_input_34 : decode cX3_input 34 = .ok (.iload_n 2, 1) := dz_28 (bX3_input_2 2 _ rfl)
theorem dX3_input_35 : decode cX3_input 35 = .ok (.iastore, 1) := dz_79 (bX3_input_2 3 _ rfl)
theorem dX3_input_36 : decode cX3_input 36 = .ok (.aload_n 0, 1) := dz_42 (bX3_input_2 4 _ rfl)
theorem dX3_input_37 : decode cX3_input 37 = .ok (.getfield 151, 3) := dz_180 (bX3_input_2 5 _ rfl) (bX3_input_2 6 _ rfl) (bX3_input_2 7 _ rfl)
theorem dX3_input_40 : decode cX3_input 40 = .ok (.aload_n 0, 1) := dz_42 (bX3_input_2 8 _ rfl)
theorem dX3_input_41 : decode cX3_input 41 = .ok (.getfield 635, 3) := dz_180 (bX3_input_2 9 _ rfl) (bX3_input_2 10 _ rfl) (bX3_input_2 11 _ rfl)
theorem dX3_input_44 : decode cX3_input 44 = .ok (.iconst 2, 1) := dz_5 (bX3_input_2 12 _ rfl)
theorem dX3_input_45 : decode cX3_input 45 = .ok (.iadd, 1) := dz_96 (bX3_input_2 13 _ rfl)
theorem dX3_input_46 : decode cX3_input 46 = .ok (.iload_n 3, 1) := dz_29 (bX3_input_2 14 _ rfl)
theorem dX3_input_47 : decode cX3_input 47 = .ok (.iastore, 1) := dz_79 (bX3_input_2 15 _ rfl)
theorem dX3_input_48 : decode cX3_input 48 = .ok (.aload_n 0, 1) := dz_42 (bX3_input_3 0 _ rfl)
theorem dX3_input_49 : decode cX3_input 49 = .ok (.dup, 1) := dz_89 (bX3_input_3 1 _ rfl)
theorem dX3_input_50 : decode cX3_input 50 = .ok (.getfield 635, 3) := dz_180 (bX3_input_3 2 _ rfl) (bX3_input_3 3 _ rfl) (bX3_input_3 4 _ rfl)
theorem dX3_input_53 : decode cX3_input 53 = .ok (.iconst 3, 1) := dz_6 (bX3_input_3 5 _ rfl)
theorem dX3_input_54 : decode cX3_input 54 = .ok (.iadd, 1) := dz_96 (bX3_input_3 6 _ rfl)
theorem dX3_input_55 : decode cX3_input 55 = .ok (.putfield 635, 3) := dz_181 (bX3_input_3 7 _ rfl) (bX3_input_3 8 _ rfl) (bX3_input_3 9 _ rfl)
theorem dX3_input_58 : decode cX3_input 58 = .ok (.aload_n 0, 1) := dz_42 (bX3_input_3 10 _ rfl)
theorem dX3_input_59 : decode cX3_input 59 = .ok (.getfield 635, 3) := dz_180 (bX3_input_3 11 _ rfl) (bX3_input_3 12 _ rfl) (bX3_input_3 13 _ rfl)
theorem dX3_input_62 : decode cX3_input 62 = .ok (.ireturn, 1) := dz_172 (bX3_input_3 14 _ rfl)
def m_X3_input (x1 : Int32) (x2 : Int32) (x3 : Int32) (σ : ch_S) : Option (Int32 × ch_S) := if 300 < ((σ.1 fX3_inputs) + 3) then (some (((-1), σ))) else ((ch_mw σ fX3_input (σ.1 fX3_inputs) x1).bind fun σ1 => (ch_mw σ1 fX3_input ((σ1.1 fX3_inputs) + 1) x2).bind fun σ2 => (ch_mw σ2 fX3_input ((σ2.1 fX3_inputs) + 2) x3).bind fun σ3 => (ch_mI σ3 fX3_inputs ((σ3.1 fX3_inputs) + 3)).bind fun σ4 => some ((σ4.1 fX3_inputs, σ4)))
theorem s_X3_input {g : State} {m : Nat} {w : ch_W} {x1 : Int32} {x2 : Int32} {x3 : Int32} {σ : ch_S} {res : Int32 × ch_S} {Q : Outcome → ch_W → Prop} (h : m_X3_input x1 x2 x3 σ = some res) (hk : (fun r => ch_eI Q (r.1, ch_put m w r.2)) res) : ch_CT g false yX3_input 2 [.ref m, .int x1, .int x2, .int x3] (ch_put m w σ) Q := by
  unfold m_X3_input at h
  refine ch_ctL mX3_input (ls := [some (va_rf (some m)), some (.int x1), some (.int x2), some (.int x3)]) q2188 rfl (ch_lyr (r := some m) (ch_lyi (ch_lyi (ch_lyi ch_ly0)))) (Nat.le_of_ble_eq_true rfl) rfl ?_
  refine ch_aload_n 0 (some m) dX3_input_0 rfl (mp_gI 80 dX3_input_1 fl_X3_635 rfl (ch_iconst _ 3 dX3_input_4 rfl (ch_iadd _ _ dX3_input_5 (ch_sipush _ 300 dX3_input_6 rfl (cp_icmp_le _ _ (tgt := 14) dX3_input_9 rfl h (fun h => ?_) (fun h => ?_))))))
  · refine ch_aload_n 0 (some m) dX3_input_14 rfl (mp_gA 81 dX3_input_15 fl_X3_151 rfl (ch_aload_n 0 (some m) dX3_input_18 rfl (mp_gI 80 dX3_input_19 fl_X3_635 rfl (ch_iload_n 1 _ dX3_input_22 rfl (mp_iast dX3_input_23 mk_81 rfl h (fun σ1 h => ?_))))))
    refine ch_aload_n 0 (some m) dX3_input_24 rfl (mp_gA 81 dX3_input_25 fl_X3_151 rfl (ch_aload_n 0 (some m) dX3_input_28 rfl (mp_gI 80 dX3_input_29 fl_X3_635 rfl (ch_iconst _ 1 dX3_input_32 rfl (ch_iadd _ _ dX3_input_33 (ch_iload_n 2 _ dX3_input_34 rfl (mp_iast dX3_input_35 mk_81 rfl h (fun σ2 h => ?_))))))))
    refine ch_aload_n 0 (some m) dX3_input_36 rfl (mp_gA 81 dX3_input_37 fl_X3_151 rfl (ch_aload_n 0 (some m) dX3_input_40 rfl (mp_gI 80 dX3_input_41 fl_X3_635 rfl (ch_iconst _ 2 dX3_input_44 rfl (ch_iadd _ _ dX3_input_45 (ch_iload_n 3 _ dX3_input_46 rfl (mp_iast dX3_input_47 mk_81 rfl h (fun σ3 h => ?_))))))))
    refine ch_aload_n 0 (some m) dX3_input_48 rfl (ch_dup dX3_input_49 (ch_cat _) (mp_gI 80 dX3_input_50 fl_X3_635 rfl (ch_iconst _ 3 dX3_input_53 rfl (ch_iadd _ _ dX3_input_54 (mp_pI (k := 80) dX3_input_55 fl_X3_635 rfl rfl rfl h (fun σ4 h => ?_))))))
    obtain rfl := Option.some.inj h
    exact ch_aload_n 0 (some m) dX3_input_58 rfl (mp_gI 80 dX3_input_59 fl_X3_635 rfl (ch_ireturn _ dX3_input_62 rfl rfl hk))
  · obtain rfl := Option.some.inj h
    exact ch_iconst _ (-1) dX3_input_12 rfl (ch_ireturn _ dX3_input_13 rfl rfl hk)

theorem bX3_object_0 : ch_ck cX3_object 0 [42, 180, 2, 39, 62, 42, 180, 0, 154, 29, 27, 79, 42, 180, 0, 157] := ch_ckof (by decide +kernel)
theorem bX3_object_1 : ch_ck cX3_object 16 [29, 42, 180, 2, 54, 79, 42, 180, 0, 160, 29, 28, 79, 42, 180, 2] := ch_ckof (by decide +kernel)
theorem bX3_object_2 : ch_ck cX3_object 32 [54, 54, 4, 21, 4, 42, 180, 2, 54, 28, 96, 162, 0, 25, 42, 180] := ch_ckof (by decide +kernel)
theorem bX3_object_3 : ch_ck cX3_object 48 [0, 172, 21, 4, 3, 79, 42, 180, 0, 175, 21, 4, 3, 84, 132, 4] := ch_ckof (by decide +kernel)
theorem bX3_object_4 : ch_ck cX3_object 64 [1, 167, 255, 226, 27, 54, 4, 21, 4, 155, 0, 116, 42, 180, 0, 94] := ch_ckof (by decide +kernel)
theorem bX3_object_5 : ch_ck cX3_object 80 [21, 4, 46, 54, 5, 21, 5, 42, 180, 0, 94, 21, 4, 4, 96, 46] := ch_ckof (by decide +kernel)
theorem bX3_object_6 : ch_ck cX3_object 96 [162, 0, 81, 42, 180, 0, 106, 21, 5, 51, 154, 0, 65, 42, 180, 0] := ch_ckof (by decide +kernel)
theorem bX3_object_7 : ch_ck cX3_object 112 [103, 21, 5, 46, 16, 10, 162, 0, 17, 42, 180, 0, 103, 21, 5, 46] := ch_ckof (by decide +kernel)
theorem bX3_object_8 : ch_ck cX3_object 128 [5, 159, 0, 6, 167, 0, 39, 42, 180, 0, 172, 42, 180, 2, 54, 42] := ch_ckof (by decide +kernel)
theorem bX3_object_9 : ch_ck cX3_object 144 [180, 0, 119, 21, 5, 46, 96, 2, 79, 42, 180, 0, 175, 42, 180, 2] := ch_ckof (by decide +kernel)
theorem bX3_object_10 : ch_ck cX3_object 160 [54, 42, 180, 0, 119, 21, 5, 46, 96, 4, 84, 132, 5, 1, 167, 255] := ch_ckof (by decide +kernel)
theorem bX3_object_11 : ch_ck cX3_object 176 [167, 42, 180, 0, 88, 21, 4, 46, 54, 4, 167, 255, 141, 42, 89, 180] := ch_ckof (by decide +kernel)
theorem bX3_object_12 : ch_ck cX3_object 192 [2, 54, 28, 96, 181, 2, 54, 42, 89, 180, 2, 39, 4, 96, 181, 2] := ch_ckof (by decide +kernel)
theorem bX3_object_13 : ch_ck cX3_object 208 [39, 42, 89, 180, 2, 60, 5, 28, 96, 96, 181, 2, 60, 42, 89, 180] := ch_ckof (by decide +kernel)
theorem bX3_object_14 : ch_ck cX3_object 224 [2, 69, 5, 28, 96, 96, 181, 2, 69, 29, 172] := ch_ckof (by decide +kernel)
theorem dX3_object_0 : decode cX3_object 0 = .ok (.aload_n 0, 1) := dz_42 (bX3_object_0 0 _ rfl)
theorem dX3_object_1 : decode cX3_object 1 = .ok (.getfield 551, 3) := dz_180 (bX3_object_0 1 _ rfl) (bX3_object_0 2 _ rfl) (bX3_object_0 3 _ rfl)
theorem dX3_object_4 : decode cX3_object 4 = .ok (.istore_n 3, 1) := dz_62 (bX3_object_0 4 _ rfl)
theorem dX3_object_5 : decode cX3_object 5 = .ok (.aload_n 0, 1) := dz_42 (bX3_object_0 5 _ rfl)
theorem dX3_object_6 : decode cX3_object 6 = .ok (.getfield 154, 3) := dz_180 (bX3_object_0 6 _ rfl) (bX3_object_0 7 _ rfl) (bX3_object_0 8 _ rfl)
theorem dX3_object_9 : decode cX3_object 9 = .ok (.iload_n 3, 1) := dz_29 (bX3_object_0 9 _ rfl)
theorem dX3_object_10 : decode cX3_object 10 = .ok (.iload_n 1, 1) := dz_27 (bX3_object_0 10 _ rfl)
theorem dX3_object_11 : decode cX3_object 11 = .ok (.iastore, 1) := dz_79 (bX3_object_0 11 _ rfl)
theorem dX3_object_12 : decode cX3_object 12 = .ok (.aload_n 0, 1) := dz_42 (bX3_object_0 12 _ rfl)
theorem dX3_object_13 : decode cX3_object 13 = .ok (.getfield 157, 3) := dz_180 (bX3_object_0 13 _ rfl) (bX3_object_0 14 _ rfl) (bX3_object_0 15 _ rfl)
theorem dX3_object_16 : decode cX3_object 16 = .ok (.iload_n 3, 1) := dz_29 (bX3_object_1 0 _ rfl)
theorem dX3_object_17 : decode cX3_object 17 = .ok (.aload_n 0, 1) := dz_42 (bX3_object_1 1 _ rfl)
theorem dX3_object_18 : decode cX3_object 18 = .ok (.getfield 566, 3) := dz_180 (bX3_object_1 2 _ rfl) (bX3_object_1 3 _ rfl) (bX3_object_1 4 _ rfl)
theorem dX3_object_21 : decode cX3_object 21 = .ok (.iastore, 1) := dz_79 (bX3_object_1 5 _ rfl)
theorem dX3_object_22 : decode cX3_object 22 = .ok (.aload_n 0, 1) := dz_42 (bX3_object_1 6 _ rfl)
theorem dX3_object_23 : decode cX3_object 23 = .ok (.getfield 160, 3) := dz_180 (bX3_object_1 7 _ rfl) (bX3_object_1 8 _ rfl) (bX3_object_1 9 _ rfl)
theorem dX3_object_26 : decode cX3_object 26 = .ok (.iload_n 3, 1) := dz_29 (bX3_object_1 10 _ rfl)
theorem dX3_object_27 : decode cX3_object 27 = .ok (.iload_n 2, 1) := dz_28 (bX3_object_1 11 _ rfl)
theorem dX3_object_28 : decode cX3_object 28 = .ok (.iastore, 1) := dz_79 (bX3_object_1 12 _ rfl)
theorem dX3_object_29 : decode cX3_object 29 = .ok (.aload_n 0, 1) := dz_42 (bX3_object_1 13 _ rfl)
theorem dX3_object_30 : decode cX3_object 30 = .ok (.getfield 566, 3) := dz_180 (bX3_object_1 14 _ rfl) (bX3_object_1 15 _ rfl) (bX3_object_2 0 _ rfl)
theorem dX3_object_33 : decode cX3_object 33 = .ok (.istore 4, 2) := dz_54 (bX3_object_2 1 _ rfl) (bX3_object_2 2 _ rfl)
theorem dX3_object_35 : decode cX3_object 35 = .ok (.iload 4, 2) := dz_21 (bX3_object_2 3 _ rfl) (bX3_object_2 4 _ rfl)
theorem dX3_object_37 : decode cX3_object 37 = .ok (.aload_n 0, 1) := dz_42 (bX3_object_2 5 _ rfl)
theorem dX3_object_38 : decode cX3_object 38 = .ok (.getfield 566, 3) := dz_180 (bX3_object_2 6 _ rfl) (bX3_object_2 7 _ rfl) (bX3_object_2 8 _ rfl)
theorem dX3_object_41 : decode cX3_object 41 = .ok (.iload_n 2, 1) := dz_28 (bX3_object_2 9 _ rfl)
theorem dX3_object_42 : decode cX3_object 42 = .ok (.iadd, 1) := dz_96 (bX3_object_2 10 _ rfl)
theorem dX3_object_43 : decode cX3_object 43 = .ok (.if_icmp .ge 25, 3) := dz_162 (bX3_object_2 11 _ rfl) (bX3_object_2 12 _ rfl) (bX3_object_2 13 _ rfl)
theorem dX3_object_46 : decode cX3_object 46 = .ok (.aload_n 0, 1) := dz_42 (bX3_object_2 14 _ rfl)
theorem dX3_object_47 : decode cX3_object 47 = .ok (.getfield 172, 3) := dz_180 (bX3_object_2 15 _ rfl) (bX3_object_3 0 _ rfl) (bX3_object_3 1 _ rfl)
theorem dX3_object_50 : decode cX3_object 50 = .ok (.iload 4, 2) := dz_21 (bX3_object_3 2 _ rfl) (bX3_object_3 3 _ rfl)
theorem dX3_object_52 : decode cX3_object 52 = .ok (.iconst 0, 1) := dz_3 (bX3_object_3 4 _ rfl)
theorem dX3_object_53 : decode cX3_object 53 = .ok (.iastore, 1) := dz_79 (bX3_object_3 5 _ rfl)
theorem dX3_object_54 : decode cX3_object 54 = .ok (.aload_n 0, 1) := dz_42 (bX3_object_3 6 _ rfl)
theorem dX3_object_55 : decode cX3_object 55 = .ok (.getfield 175, 3) := dz_180 (bX3_object_3 7 _ rfl) (bX3_object_3 8 _ rfl) (bX3_object_3 9 _ rfl)
theorem dX3_object_58 : decode cX3_object 58 = .ok (.iload 4, 2) := dz_21 (bX3_object_3 10 _ rfl) (bX3_object_3 11 _ rfl)
theorem dX3_object_60 : decode cX3_object 60 = .ok (.iconst 0, 1) := dz_3 (bX3_object_3 12 _ rfl)
theorem dX3_object_61 : decode cX3_object 61 = .ok (.bastore, 1) := dz_84 (bX3_object_3 13 _ rfl)
theorem dX3_object_62 : decode cX3_object 62 = .ok (.iinc 4 1, 3) := dz_132 (bX3_object_3 14 _ rfl) (bX3_object_3 15 _ rfl) (bX3_object_4 0 _ rfl)
theorem dX3_object_65 : decode cX3_object 65 = .ok (.goto (-30), 3) := dz_167 (bX3_object_4 1 _ rfl) (bX3_object_4 2 _ rfl) (bX3_object_4 3 _ rfl)
theorem dX3_object_68 : decode cX3_object 68 = .ok (.iload_n 1, 1) := dz_27 (bX3_object_4 4 _ rfl)
theorem dX3_object_69 : decode cX3_object 69 = .ok (.istore 4, 2) := dz_54 (bX3_object_4 5 _ rfl) (bX3_object_4 6 _ rfl)
theorem dX3_object_71 : decode cX3_object 71 = .ok (.iload 4, 2) := dz_21 (bX3_object_4 7 _ rfl) (bX3_object_4 8 _ rfl)
theorem dX3_object_73 : decode cX3_object 73 = .ok (.ifCond .lt 116, 3) := dz_155 (bX3_object_4 9 _ rfl) (bX3_object_4 10 _ rfl) (bX3_object_4 11 _ rfl)
theorem dX3_object_76 : decode cX3_object 76 = .ok (.aload_n 0, 1) := dz_42 (bX3_object_4 12 _ rfl)
theorem dX3_object_77 : decode cX3_object 77 = .ok (.getfield 94, 3) := dz_180 (bX3_object_4 13 _ rfl) (bX3_object_4 14 _ rfl) (bX3_object_4 15 _ rfl)
theorem dX3_object_80 : decode cX3_object 80 = .ok (.iload 4, 2) := dz_21 (bX3_object_5 0 _ rfl) (bX3_object_5 1 _ rfl)
theorem dX3_object_82 : decode cX3_object 82 = .ok (.iaload, 1) := dz_46 (bX3_object_5 2 _ rfl)
theorem dX3_object_83 : decode cX3_object 83 = .ok (.istore 5, 2) := dz_54 (bX3_object_5 3 _ rfl) (bX3_object_5 4 _ rfl)
theorem dX3_object_85 : decode cX3_object 85 = .ok (.iload 5, 2) := dz_21 (bX3_object_5 5 _ rfl) (bX3_object_5 6 _ rfl)
theorem dX3_object_87 : decode cX3_object 87 = .ok (.aload_n 0, 1) := dz_42 (bX3_object_5 7 _ rfl)
theorem dX3_object_88 : decode cX3_object 88 = .ok (.getfield 94, 3) := dz_180 (bX3_object_5 8 _ rfl) (bX3_object_5 9 _ rfl) (bX3_object_5 10 _ rfl)
theorem dX3_object_91 : decode cX3_object 91 = .ok (.iload 4, 2) := dz_21 (bX3_object_5 11 _ rfl) (bX3_object_5 12 _ rfl)
theorem dX3_object_93 : decode cX3_object 93 = .ok (.iconst 1, 1) := dz_4 (bX3_object_5 13 _ rfl)
theorem dX3_object_94 : decode cX3_object 94 = .ok (.iadd, 1) := dz_96 (bX3_object_5 14 _ rfl)
theorem dX3_object_95 : decode cX3_object 95 = .ok (.iaload, 1) := dz_46 (bX3_object_5 15 _ rfl)
theorem dX3_object_96 : decode cX3_object 96 = .ok (.if_icmp .ge 81, 3) := dz_162 (bX3_object_6 0 _ rfl) (bX3_object_6 1 _ rfl) (bX3_object_6 2 _ rfl)
theorem dX3_object_99 : decode cX3_object 99 = .ok (.aload_n 0, 1) := dz_42 (bX3_object_6 3 _ rfl)
theorem dX3_object_100 : decode cX3_object 100 = .ok (.getfield 106, 3) := dz_180 (bX3_object_6 4 _ rfl) (bX3_object_6 5 _ rfl) (bX3_object_6 6 _ rfl)
theorem dX3_object_103 : decode cX3_object 103 = .ok (.iload 5, 2) := dz_21 (bX3_object_6 7 _ rfl) (bX3_object_6 8 _ rfl)
theorem dX3_object_105 : decode cX3_object 105 = .ok (.baload, 1) := dz_51 (bX3_object_6 9 _ rfl)
theorem dX3_object_106 : decode cX3_object 106 = .ok (.ifCond .ne 65, 3) := dz_154 (bX3_object_6 10 _ rfl) (bX3_object_6 11 _ rfl) (bX3_object_6 12 _ rfl)
theorem dX3_object_109 : decode cX3_object 109 = .ok (.aload_n 0, 1) := dz_42 (bX3_object_6 13 _ rfl)
theorem dX3_object_110 : decode cX3_object 110 = .ok (.getfield 103, 3) := dz_180 (bX3_object_6 14 _ rfl) (bX3_object_6 15 _ rfl) (bX3_object_7 0 _ rfl)
theorem dX3_object_113 : decode cX3_object 113 = .ok (.iload 5, 2) := dz_21 (bX3_object_7 1 _ rfl) (bX3_object_7 2 _ rfl)
theorem dX3_object_115 : decode cX3_object 115 = .ok (.iaload, 1) := dz_46 (bX3_object_7 3 _ rfl)
theorem dX3_object_116 : decode cX3_object 116 = .ok (.bipush 10, 2) := dz_16 (bX3_object_7 4 _ rfl) (bX3_object_7 5 _ rfl)
theorem dX3_object_118 : decode cX3_object 118 = .ok (.if_icmp .ge 17, 3) := dz_162 (bX3_object_7 6 _ rfl) (bX3_object_7 7 _ rfl) (bX3_object_7 8 _ rfl)
theorem dX3_object_121 : decode cX3_object 121 = .ok (.aload_n 0, 1) := dz_42 (bX3_object_7 9 _ rfl)
theorem dX3_object_122 : decode cX3_object 122 = .ok (.getfield 103, 3) := dz_180 (bX3_object_7 10 _ rfl) (bX3_object_7 11 _ rfl) (bX3_object_7 12 _ rfl)
theorem dX3_object_125 : decode cX3_object 125 = .ok (.iload 5, 2) := dz_21 (bX3_object_7 13 _ rfl) (bX3_object_7 14 _ rfl)
theorem dX3_object_127 : decode cX3_object 127 = .ok (.iaload, 1) := dz_46 (bX3_object_7 15 _ rfl)
theorem dX3_object_128 : decode cX3_object 128 = .ok (.iconst 2, 1) := dz_5 (bX3_object_8 0 _ rfl)
theorem dX3_object_129 : decode cX3_object 129 = .ok (.if_icmp .eq 6, 3) := dz_159 (bX3_object_8 1 _ rfl) (bX3_object_8 2 _ rfl) (bX3_object_8 3 _ rfl)
theorem dX3_object_132 : decode cX3_object 132 = .ok (.goto 39, 3) := dz_167 (bX3_object_8 4 _ rfl) (bX3_object_8 5 _ rfl) (bX3_object_8 6 _ rfl)
theorem dX3_object_135 : decode cX3_object 135 = .ok (.aload_n 0, 1) := dz_42 (bX3_object_8 7 _ rfl)
theorem dX3_object_136 : decode cX3_object 136 = .ok (.getfield 172, 3) := dz_180 (bX3_object_8 8 _ rfl) (bX3_object_8 9 _ rfl) (bX3_object_8 10 _ rfl)
theorem dX3_object_139 : decode cX3_object 139 = .ok (.aload_n 0, 1) := dz_42 (bX3_object_8 11 _ rfl)
theorem dX3_object_140 : decode cX3_object 140 = .ok (.getfield 566, 3) := dz_180 (bX3_object_8 12 _ rfl) (bX3_object_8 13 _ rfl) (bX3_object_8 14 _ rfl)
theorem dX3_object_143 : decode cX3_object 143 = .ok (.aload_n 0, 1) := dz_42 (bX3_object_8 15 _ rfl)
theorem dX3_object_144 : decode cX3_object 144 = .ok (.getfield 119, 3) := dz_180 (bX3_object_9 0 _ rfl) (bX3_object_9 1 _ rfl) (bX3_object_9 2 _ rfl)
theorem dX3_object_147 : decode cX3_object 147 = .ok (.iload 5, 2) := dz_21 (bX3_object_9 3 _ rfl) (bX3_object_9 4 _ rfl)
theorem dX3_object_149 : decode cX3_object 149 = .ok (.iaload, 1) := dz_46 (bX3_object_9 5 _ rfl)
theorem dX3_object_150 : decode cX3_object 150 = .ok (.iadd, 1) := dz_96 (bX3_object_9 6 _ rfl)
theorem dX3_object_151 : decode cX3_object 151 = .ok (.iconst (-1), 1) := dz_2 (bX3_object_9 7 _ rfl)
theorem dX3_object_152 : decode cX3_object 152 = .ok (.iastore, 1) := dz_79 (bX3_object_9 8 _ rfl)
theorem dX3_object_153 : decode cX3_object 153 = .ok (.aload_n 0, 1) := dz_42 (bX3_object_9 9 _ rfl)
theorem dX3_object_154 : decode cX3_object 154 = .ok (.getfield 175, 3) := dz_180 (bX3_object_9 10 _ rfl) (bX3_object_9 11 _ rfl) (bX3_object_9 12 _ rfl)
theorem dX3_object_157 : decode cX3_object 157 = .ok (.aload_n 0, 1) := dz_42 (bX3_object_9 13 _ rfl)
theorem dX3_object_158 : decode cX3_object 158 = .ok (.getfield 566, 3) := dz_180 (bX3_object_9 14 _ rfl) (bX3_object_9 15 _ rfl) (bX3_object_10 0 _ rfl)
theorem dX3_object_161 : decode cX3_object 161 = .ok (.aload_n 0, 1) := dz_42 (bX3_object_10 1 _ rfl)
theorem dX3_object_162 : decode cX3_object 162 = .ok (.getfield 119, 3) := dz_180 (bX3_object_10 2 _ rfl) (bX3_object_10 3 _ rfl) (bX3_object_10 4 _ rfl)
theorem dX3_object_165 : decode cX3_object 165 = .ok (.iload 5, 2) := dz_21 (bX3_object_10 5 _ rfl) (bX3_object_10 6 _ rfl)
theorem dX3_object_167 : decode cX3_object 167 = .ok (.iaload, 1) := dz_46 (bX3_object_10 7 _ rfl)
theorem dX3_object_168 : decode cX3_object 168 = .ok (.iadd, 1) := dz_96 (bX3_object_10 8 _ rfl)
theorem dX3_object_169 : decode cX3_object 169 = .ok (.iconst 1, 1) := dz_4 (bX3_object_10 9 _ rfl)
theorem dX3_object_170 : decode cX3_object 170 = .ok (.bastore, 1) := dz_84 (bX3_object_10 10 _ rfl)
theorem dX3_object_171 : decode cX3_object 171 = .ok (.iinc 5 1, 3) := dz_132 (bX3_object_10 11 _ rfl) (bX3_object_10 12 _ rfl) (bX3_object_10 13 _ rfl)
theorem dX3_object_174 : decode cX3_object 174 = .ok (.goto (-89), 3) := dz_167 (bX3_object_10 14 _ rfl) (bX3_object_10 15 _ rfl) (bX3_object_11 0 _ rfl)
theorem dX3_object_177 : decode cX3_object 177 = .ok (.aload_n 0, 1) := dz_42 (bX3_object_11 1 _ rfl)
theorem dX3_object_178 : decode cX3_object 178 = .ok (.getfield 88, 3) := dz_180 (bX3_object_11 2 _ rfl) (bX3_object_11 3 _ rfl) (bX3_object_11 4 _ rfl)
theorem dX3_object_181 : decode cX3_object 181 = .ok (.iload 4, 2) := dz_21 (bX3_object_11 5 _ rfl) (bX3_object_11 6 _ rfl)
theorem dX3_object_183 : decode cX3_object 183 = .ok (.iaload, 1) := dz_46 (bX3_object_11 7 _ rfl)
theorem dX3_object_184 : decode cX3_object 184 = .ok (.istore 4, 2) := dz_54 (bX3_object_11 8 _ rfl) (bX3_object_11 9 _ rfl)
theorem dX3_object_186 : decode cX3_object 186 = .ok (.goto (-115), 3) := dz_167 (bX3_object_11 10 _ rfl) (bX3_object_11 11 _ rfl) (bX3_object_11 12 _ rfl)
theorem dX3_object_189 : decode cX3_object 189 = .ok (.aload_n 0, 1) := dz_42 (bX3_object_11 13 _ rfl)
theorem dX3_object_190 : decode cX3_object 190 = .ok (.dup, 1) := dz_89 (bX3_object_11 14 _ rfl)
theorem dX3_object_191 : decode cX3_object 191 = .ok (.getfield 566, 3) := dz_180 (bX3_object_11 15 _ rfl) (bX3_object_12 0 _ rfl) (bX3_object_12 1 _ rfl)
theorem dX3_object_194 : decode cX3_object 194 = .ok (.iload_n 2, 1) := dz_28 (bX3_object_12 2 _ rfl)
theorem dX3_object_195 : decode cX3_object 195 = .ok (.iadd, 1) := dz_96 (bX3_object_12 3 _ rfl)
theorem dX3_object_196 : decode cX3_object 196 = .ok (.putfield 566, 3) := dz_181 (bX3_object_12 4 _ rfl) (bX3_object_12 5 _ rfl) (bX3_object_12 6 _ rfl)
theorem dX3_object_199 : decode cX3_object 199 = .ok (.aload_n 0, 1) := dz_42 (bX3_object_12 7 _ rfl)
theorem dX3_object_200 : decode cX3_object 200 = .ok (.dup, 1) := dz_89 (bX3_object_12 8 _ rfl)
theorem dX3_object_201 : decode cX3_object 201 = .ok (.getfield 551, 3) := dz_180 (bX3_object_12 9 _ rfl) (bX3_object_12 10 _ rfl) (bX3_object_12 11 _ rfl)
theorem dX3_object_204 : decode cX3_object 204 = .ok (.iconst 1, 1) := dz_4 (bX3_object_12 12 _ rfl)
theorem dX3_object_205 : decode cX3_object 205 = .ok (.iadd, 1) := dz_96 (bX3_object_12 13 _ rfl)
theorem dX3_object_206 : decode cX3_object 206 = .ok (.putfield 551, 3) := dz_181 (bX3_object_12 14 _ rfl) (bX3_object_12 15 _ rfl) (bX3_object_13 0 _ rfl)
theorem dX3_object_209 : decode cX3_object 209 = .ok (.aload_n 0, 1) := dz_42 (bX3_object_13 1 _ rfl)
theorem dX3_object_210 : decode cX3_object 210 = .ok (.dup, 1) := dz_89 (bX3_object_13 2 _ rfl)
theorem dX3_object_211 : decode cX3_object 211 = .ok (.getfield 572, 3) := dz_180 (bX3_object_13 3 _ rfl) (bX3_object_13 4 _ rfl) (bX3_object_13 5 _ rfl)
theorem dX3_object_214 : decode cX3_object 214 = .ok (.iconst 2, 1) := dz_5 (bX3_object_13 6 _ rfl)
theorem dX3_object_215 : decode cX3_object 215 = .ok (.iload_n 2, 1) := dz_28 (bX3_object_13 7 _ rfl)
theorem dX3_object_216 : decode cX3_object 216 = .ok (.iadd, 1) := dz_96 (bX3_object_13 8 _ rfl)
theorem dX3_object_217 : decode cX3_object 217 = .ok (.iadd, 1) := dz_96 (bX3_object_13 9 _ rfl)
theorem dX3_object_218 : decode cX3_object 218 = .ok (.putfield 572, 3) := dz_181 (bX3_object_13 10 _ rfl) (bX3_object_13 11 _ rfl) (bX3_object_13 12 _ rfl)
theorem dX3_object_221 : decode cX3_object 221 = .ok (.aload_n 0, 1) := dz_42 (bX3_object_13 13 _ rfl)
theorem dX3_object_222 : decode cX3_object 222 = .ok (.dup, 1) := dz_89 (bX3_object_13 14 _ rfl)
theorem dX3_object_223 : decode cX3_object 223 = .ok (.getfield 581, 3) := dz_180 (bX3_object_13 15 _ rfl) (bX3_object_14 0 _ rfl) (bX3_object_14 1 _ rfl)
theorem dX3_object_226 : decode cX3_object 226 = .ok (.iconst 2, 1) := dz_5 (bX3_object_14 2 _ rfl)
theorem dX3_object_227 : decode cX3_object 227 = .ok (.iload_n 2, 1) := dz_28 (bX3_object_14 3 _ rfl)
theorem dX3_object_228 : decode cX3_object 228 = .ok (.iadd, 1) := dz_96 (bX3_object_14 4 _ rfl)
theorem dX3_object_229 : decode cX3_object 229 = .ok (.iadd, 1) := dz_96 (bX3_object_14 5 _ rfl)
theorem dX3_object_230 : decode cX3_object 230 = .ok (.putfield 581, 3) := dz_181 (bX3_object_14 6 _ rfl) (bX3_object_14 7 _ rfl) (bX3_object_14 8 _ rfl)
theorem dX3_object_233 : decode cX3_object 233 = .ok (.iload_n 3, 1) := dz_29 (bX3_object_14 9 _ rfl)
theorem dX3_object_234 : decode cX3_object 234 = .ok (.ireturn, 1) := dz_172 (bX3_object_14 10 _ rfl)
def m_X3_object_135 (x2 : Int32) (x3 : Int32) (x4 : Int32) (x5 : Int32)  (σ : ch_S) : Option ((Int32 × ch_S) ⊕ ((Int32 × ch_S) ⊕ (Int32 × ch_S))) := (ch_ma σ fX3_slot x5).bind fun v1 => (ch_mw σ fX3_words ((σ.1 fX3_worded) + v1) (-1)).bind fun σ2 => (ch_ma σ2 fX3_slot x5).bind fun v3 => (ch_bit 1).bind fun _ => (ch_mw σ2 fX3_isObject ((σ2.1 fX3_worded) + v3) 1).bind fun σ4 => some (.inl (x5 + 1, σ4))
theorem s_X3_object_135 {g : State} {m : Nat} {w : ch_W} {x2 : Int32} {x3 : Int32} {x4 : Int32} {x5 : Int32} {σ : ch_S} {res : (Int32 × ch_S) ⊕ ((Int32 × ch_S) ⊕ (Int32 × ch_S))} {Q : Outcome → ch_W → Prop} (h : m_X3_object_135 x2 x3 x4 x5 σ = some res) (hk : (ch_sm (fun s => ch_FT g false mX3_object 2 85 [some (va_rf (some m)), none, some (.int x2), some (.int x3), some (.int x4), some (.int s.1)] [] (ch_put m w s.2) Q) (ch_sm (fun s => ch_FT g false mX3_object 2 71 [some (va_rf (some m)), none, some (.int x2), some (.int x3), some (.int s.1), none] [] (ch_put m w s.2) Q) (fun r => ch_eI Q (r.1, ch_put m w r.2)))) res) : ch_FT g false mX3_object 2 135 [some (va_rf (some m)), none, some (.int x2), some (.int x3), some (.int x4), some (.int x5)] [] (ch_put m w σ) Q := by
  unfold m_X3_object_135 at h
  refine ch_aload_n 0 (some m) dX3_object_135 rfl (mp_gA 91 dX3_object_136 fl_X3_172 rfl (ch_aload_n 0 (some m) dX3_object_139 rfl (mp_gI 90 dX3_object_140 fl_X3_566 rfl (ch_aload_n 0 (some m) dX3_object_143 rfl (mp_gA 52 dX3_object_144 fl_X3_119 rfl (ch_iload 5 _ dX3_object_147 rfl (mp_iald dX3_object_149 mk_52 h (fun v1 h => ?_))))))))
  refine ch_iadd _ _ dX3_object_150 (ch_iconst _ (-1) dX3_object_151 rfl (mp_iast dX3_object_152 mk_91 rfl h (fun σ2 h => ?_)))
  refine ch_aload_n 0 (some m) dX3_object_153 rfl (mp_gA 92 dX3_object_154 fl_X3_175 rfl (ch_aload_n 0 (some m) dX3_object_157 rfl (mp_gI 90 dX3_object_158 fl_X3_566 rfl (ch_aload_n 0 (some m) dX3_object_161 rfl (mp_gA 52 dX3_object_162 fl_X3_119 rfl (ch_iload 5 _ dX3_object_165 rfl (mp_iald dX3_object_167 mk_52 h (fun v3 h => ?_))))))))
  refine ch_iadd _ _ dX3_object_168 (ch_iconst _ 1 dX3_object_169 rfl (mp_zast dX3_object_170 mk_92 rfl h (fun σ4 h => ?_)))
  refine ch_iinc 5 _ _ (x5 + 1) (ls1 := [some (va_rf (some m)), none, some (.int x2), some (.int x3), some (.int x4), some (.int (x5 + 1))]) dX3_object_171 rfl rfl (Nat.le_of_ble_eq_true rfl) rfl (ch_goto 85 dX3_object_174 rfl (ch_FT.wk (ch_wS (ch_wN (ch_wS (ch_wS (ch_wS (ch_wS ch_w0)))))) ?_))
  obtain rfl := Option.some.inj h
  exact hk

def m_X3_object_85 (x2 : Int32) (x3 : Int32) (x4 : Int32) (x5 : Int32)  (σ : ch_S) : Option ((Int32 × ch_S) ⊕ ((Int32 × ch_S) ⊕ (Int32 × ch_S))) := (ch_ma σ fX3_memberFrom (x4 + 1)).bind fun v1 => if x5 < v1 then ((ch_ma σ fX3_isMethod x5).bind fun v3 => if v3 = 0 then ((ch_ma σ fX3_memberType x5).bind fun v4 => if v4 < 10 then ((ch_ma σ fX3_memberType x5).bind fun v5 => if v5 = 2 then (m_X3_object_135 x2 x3 x4 x5 σ) else (some (.inl (x5 + 1, σ)))) else (m_X3_object_135 x2 x3 x4 x5 σ)) else (some (.inl (x5 + 1, σ)))) else ((ch_ma σ fX3_parent x4).bind fun v2 => some (.inr (.inl (v2, σ))))
theorem s_X3_object_85 {g : State} {m : Nat} {w : ch_W} {x2 : Int32} {x3 : Int32} {x4 : Int32} {x5 : Int32} {σ : ch_S} {res : (Int32 × ch_S) ⊕ ((Int32 × ch_S) ⊕ (Int32 × ch_S))} {Q : Outcome → ch_W → Prop} (h : m_X3_object_85 x2 x3 x4 x5 σ = some res) (hk : (ch_sm (fun s => ch_FT g false mX3_object 2 85 [some (va_rf (some m)), none, some (.int x2), some (.int x3), some (.int x4), some (.int s.1)] [] (ch_put m w s.2) Q) (ch_sm (fun s => ch_FT g false mX3_object 2 71 [some (va_rf (some m)), none, some (.int x2), some (.int x3), some (.int s.1), none] [] (ch_put m w s.2) Q) (fun r => ch_eI Q (r.1, ch_put m w r.2)))) res) : ch_FT g false mX3_object 2 85 [some (va_rf (some m)), none, some (.int x2), some (.int x3), some (.int x4), some (.int x5)] [] (ch_put m w σ) Q := by
  unfold m_X3_object_85 at h
  refine ch_iload 5 _ dX3_object_85 rfl (ch_aload_n 0 (some m) dX3_object_87 rfl (mp_gA 43 dX3_object_88 fl_X3_94 rfl (ch_iload 4 _ dX3_object_91 rfl (ch_iconst _ 1 dX3_object_93 rfl (ch_iadd _ _ dX3_object_94 (mp_iald dX3_object_95 mk_43 h (fun v1 h => ?_)))))))
  refine cp_icmp_ge _ _ (tgt := 177) dX3_object_96 rfl h (fun h => ?_) (fun h => ?_)
  · refine ch_aload_n 0 (some m) dX3_object_177 rfl (mp_gA 41 dX3_object_178 fl_X3_88 rfl (ch_iload 4 _ dX3_object_181 rfl (mp_iald dX3_object_183 mk_41 h (fun v2 h => ?_))))
    refine ch_istore 4 _ (ls1 := [some (va_rf (some m)), none, some (.int x2), some (.int x3), some (.int v2), some (.int x5)]) dX3_object_184 (Nat.le_of_ble_eq_true rfl) rfl (ch_goto 71 dX3_object_186 rfl (ch_FT.wk (ch_wS (ch_wN (ch_wS (ch_wS (ch_wS (ch_wN ch_w0)))))) ?_))
    obtain rfl := Option.some.inj h
    exact hk
  · refine ch_aload_n 0 (some m) dX3_object_99 rfl (mp_gA 48 dX3_object_100 fl_X3_106 rfl (ch_iload 5 _ dX3_object_103 rfl (mp_zald dX3_object_105 mk_48 h (fun v3 h => ?_))))
    refine cp_if_ne _ (tgt := 171) dX3_object_106 rfl h (fun h => ?_) (fun h => ?_)
    · refine ch_iinc 5 _ _ (x5 + 1) (ls1 := [some (va_rf (some m)), none, some (.int x2), some (.int x3), some (.int x4), some (.int (x5 + 1))]) dX3_object_171 rfl rfl (Nat.le_of_ble_eq_true rfl) rfl (ch_goto 85 dX3_object_174 rfl (ch_FT.wk (ch_wS (ch_wN (ch_wS (ch_wS (ch_wS (ch_wS ch_w0)))))) ?_))
      obtain rfl := Option.some.inj h
      exact hk
    · refine ch_aload_n 0 (some m) dX3_object_109 rfl (mp_gA 47 dX3_object_110 fl_X3_103 rfl (ch_iload 5 _ dX3_object_113 rfl (mp_iald dX3_object_115 mk_47 h (fun v4 h => ?_))))
      refine ch_bipush _ 10 dX3_object_116 rfl (cp_icmp_ge _ _ (tgt := 135) dX3_object_118 rfl h (fun h => ?_) (fun h => ?_))
      · exact ch_FT.wk (ch_wS (ch_wN (ch_wS (ch_wS (ch_wS (ch_wS ch_w0)))))) (s_X3_object_135  h hk)
      · refine ch_aload_n 0 (some m) dX3_object_121 rfl (mp_gA 47 dX3_object_122 fl_X3_103 rfl (ch_iload 5 _ dX3_object_125 rfl (mp_iald dX3_object_127 mk_47 h (fun v5 h => ?_))))
        refine ch_iconst _ 2 dX3_object_128 rfl (cp_icmp_eq _ _ (tgt := 135) dX3_object_129 rfl h (fun h => ?_) (fun h => ?_))
        · exact ch_FT.wk (ch_wS (ch_wN (ch_wS (ch_wS (ch_wS (ch_wS ch_w0)))))) (s_X3_object_135  h hk)
        · refine ch_goto 171 dX3_object_132 rfl (ch_iinc 5 _ _ (x5 + 1) (ls1 := [some (va_rf (some m)), none, some (.int x2), some (.int x3), some (.int x4), some (.int (x5 + 1))]) dX3_object_171 rfl rfl (Nat.le_of_ble_eq_true rfl) rfl (ch_goto 85 dX3_object_174 rfl (ch_FT.wk (ch_wS (ch_wN (ch_wS (ch_wS (ch_wS (ch_wS ch_w0)))))) ?_)))
          obtain rfl := Option.some.inj h
          exact hk
theorem sl_X3_object_85 {g : State} {m : Nat} {w : ch_W} {x2 : Int32} {x3 : Int32} {x4 : Int32} {a : Int32 × ch_S} {res : (Int32 × ch_S) ⊕ (Int32 × ch_S)} {Q : Outcome → ch_W → Prop} (h : ch_loop (fun (s : Int32 × ch_S) => m_X3_object_85 x2 x3 x4 s.1 s.2) a = some res) (hk : (ch_sm (fun s => ch_FT g false mX3_object 2 71 [some (va_rf (some m)), none, some (.int x2), some (.int x3), some (.int s.1), none] [] (ch_put m w s.2) Q) (fun r => ch_eI Q (r.1, ch_put m w r.2))) res) : ch_FT g false mX3_object 2 85 [some (va_rf (some m)), none, some (.int x2), some (.int x3), some (.int x4), some (.int a.1)] [] (ch_put m w a.2) Q := by
  refine ch_loop_ind (fun (a : Int32 × ch_S) (r : (Int32 × ch_S) ⊕ (Int32 × ch_S)) => (ch_sm (fun s => ch_FT g false mX3_object 2 71 [some (va_rf (some m)), none, some (.int x2), some (.int x3), some (.int s.1), none] [] (ch_put m w s.2) Q) (fun r => ch_eI Q (r.1, ch_put m w r.2))) r → ch_FT g false mX3_object 2 85 [some (va_rf (some m)), none, some (.int x2), some (.int x3), some (.int x4), some (.int a.1)] [] (ch_put m w a.2) Q) ?_ ?_ a res h hk
  · intro a a2 b h1 ih hk
    exact s_X3_object_85  h1 (ih hk)
  · intro a b h1 hk
    exact s_X3_object_85  h1 hk

def m_X3_object_71 (x2 : Int32) (x3 : Int32) (x4 : Int32)  (σ : ch_S) : Option ((Int32 × ch_S) ⊕ (Int32 × ch_S)) := if x4 < 0 then ((ch_mI σ fX3_worded ((σ.1 fX3_worded) + x2)).bind fun σ1 => (ch_mI σ1 fX3_objects ((σ1.1 fX3_objects) + 1)).bind fun σ2 => (ch_mI σ2 fX3_bound ((σ2.1 fX3_bound) + (2 + x2))).bind fun σ3 => (ch_mI σ3 fX3_made ((σ3.1 fX3_made) + (2 + x2))).bind fun σ4 => some (.inr ((x3, σ4)))) else ((ch_ma σ fX3_memberFrom x4).bind fun v5 => ch_loop (fun (s : Int32 × ch_S) => m_X3_object_85 x2 x3 x4 s.1 s.2) (v5, σ))
theorem s_X3_object_71 {g : State} {m : Nat} {w : ch_W} {x2 : Int32} {x3 : Int32} {x4 : Int32} {σ : ch_S} {res : (Int32 × ch_S) ⊕ (Int32 × ch_S)} {Q : Outcome → ch_W → Prop} (h : m_X3_object_71 x2 x3 x4 σ = some res) (hk : (ch_sm (fun s => ch_FT g false mX3_object 2 71 [some (va_rf (some m)), none, some (.int x2), some (.int x3), some (.int s.1), none] [] (ch_put m w s.2) Q) (fun r => ch_eI Q (r.1, ch_put m w r.2))) res) : ch_FT g false mX3_object 2 71 [some (va_rf (some m)), none, some (.int x2), some (.int x3), some (.int x4), none] [] (ch_put m w σ) Q := by
  unfold m_X3_object_71 at h
  refine ch_iload 4 _ dX3_object_71 rfl (cp_if_lt _ (tgt := 189) dX3_object_73 rfl h (fun h => ?_) (fun h => ?_))
  · refine ch_aload_n 0 (some m) dX3_object_189 rfl (ch_dup dX3_object_190 (ch_cat _) (mp_gI 90 dX3_object_191 fl_X3_566 rfl (ch_iload_n 2 _ dX3_object_194 rfl (ch_iadd _ _ dX3_object_195 (mp_pI (k := 90) dX3_object_196 fl_X3_566 rfl rfl rfl h (fun σ1 h => ?_))))))
    refine ch_aload_n 0 (some m) dX3_object_199 rfl (ch_dup dX3_object_200 (ch_cat _) (mp_gI 82 dX3_object_201 fl_X3_551 rfl (ch_iconst _ 1 dX3_object_204 rfl (ch_iadd _ _ dX3_object_205 (mp_pI (k := 82) dX3_object_206 fl_X3_551 rfl rfl rfl h (fun σ2 h => ?_))))))
    refine ch_aload_n 0 (some m) dX3_object_209 rfl (ch_dup dX3_object_210 (ch_cat _) (mp_gI 73 dX3_object_211 fl_X3_572 rfl (ch_iconst _ 2 dX3_object_214 rfl (ch_iload_n 2 _ dX3_object_215 rfl (ch_iadd _ _ dX3_object_216 (ch_iadd _ _ dX3_object_217 (mp_pI (k := 73) dX3_object_218 fl_X3_572 rfl rfl rfl h (fun σ3 h => ?_))))))))
    refine ch_aload_n 0 (some m) dX3_object_221 rfl (ch_dup dX3_object_222 (ch_cat _) (mp_gI 74 dX3_object_223 fl_X3_581 rfl (ch_iconst _ 2 dX3_object_226 rfl (ch_iload_n 2 _ dX3_object_227 rfl (ch_iadd _ _ dX3_object_228 (ch_iadd _ _ dX3_object_229 (mp_pI (k := 74) dX3_object_230 fl_X3_581 rfl rfl rfl h (fun σ4 h => ?_))))))))
    obtain rfl := Option.some.inj h
    exact ch_iload_n 3 _ dX3_object_233 rfl (ch_ireturn _ dX3_object_234 rfl rfl hk)
  · refine ch_aload_n 0 (some m) dX3_object_76 rfl (mp_gA 43 dX3_object_77 fl_X3_94 rfl (ch_iload 4 _ dX3_object_80 rfl (mp_iald dX3_object_82 mk_43 h (fun v5 h => ?_))))
    exact ch_istore 5 _ (ls1 := [some (va_rf (some m)), none, some (.int x2), some (.int x3), some (.int x4), some (.int v5)]) dX3_object_83 (Nat.le_of_ble_eq_true rfl) rfl (ch_FT.wk (ch_wS (ch_wN (ch_wS (ch_wS (ch_wS (ch_wS ch_w0)))))) (sl_X3_object_85  h hk))
theorem sl_X3_object_71 {g : State} {m : Nat} {w : ch_W} {x2 : Int32} {x3 : Int32} {a : Int32 × ch_S} {res : Int32 × ch_S} {Q : Outcome → ch_W → Prop} (h : ch_loop (fun (s : Int32 × ch_S) => m_X3_object_71 x2 x3 s.1 s.2) a = some res) (hk : (fun r => ch_eI Q (r.1, ch_put m w r.2)) res) : ch_FT g false mX3_object 2 71 [some (va_rf (some m)), none, some (.int x2), some (.int x3), some (.int a.1), none] [] (ch_put m w a.2) Q := by
  refine ch_loop_ind (fun (a : Int32 × ch_S) (r : Int32 × ch_S) => (fun r => ch_eI Q (r.1, ch_put m w r.2)) r → ch_FT g false mX3_object 2 71 [some (va_rf (some m)), none, some (.int x2), some (.int x3), some (.int a.1), none] [] (ch_put m w a.2) Q) ?_ ?_ a res h hk
  · intro a a2 b h1 ih hk
    exact s_X3_object_71  h1 (ih hk)
  · intro a b h1 hk
    exact s_X3_object_71  h1 hk

def m_X3_object_35 (x1 : Int32) (x2 : Int32) (x3 : Int32) (x4 : Int32)  (σ : ch_S) : Option ((Int32 × ch_S) ⊕ (Int32 × ch_S)) := if x4 < ((σ.1 fX3_worded) + x2) then ((ch_mw σ fX3_words x4 0).bind fun σ1 => (ch_bit 0).bind fun _ => (ch_mw σ1 fX3_isObject x4 0).bind fun σ2 => some (.inl (x4 + 1, σ2))) else ((ch_loop (fun (s : Int32 × ch_S) => m_X3_object_71 x2 x3 s.1 s.2) (x1, σ)).bind fun r => some (.inr (r)))
theorem s_X3_object_35 {g : State} {m : Nat} {w : ch_W} {x1 : Int32} {x2 : Int32} {x3 : Int32} {x4 : Int32} {σ : ch_S} {res : (Int32 × ch_S) ⊕ (Int32 × ch_S)} {Q : Outcome → ch_W → Prop} (h : m_X3_object_35 x1 x2 x3 x4 σ = some res) (hk : (ch_sm (fun s => ch_FT g false mX3_object 2 35 [some (va_rf (some m)), some (.int x1), some (.int x2), some (.int x3), some (.int s.1), none] [] (ch_put m w s.2) Q) (fun r => ch_eI Q (r.1, ch_put m w r.2))) res) : ch_FT g false mX3_object 2 35 [some (va_rf (some m)), some (.int x1), some (.int x2), some (.int x3), some (.int x4), none] [] (ch_put m w σ) Q := by
  unfold m_X3_object_35 at h
  refine ch_iload 4 _ dX3_object_35 rfl (ch_aload_n 0 (some m) dX3_object_37 rfl (mp_gI 90 dX3_object_38 fl_X3_566 rfl (ch_iload_n 2 _ dX3_object_41 rfl (ch_iadd _ _ dX3_object_42 (cp_icmp_ge _ _ (tgt := 68) dX3_object_43 rfl h (fun h => ?_) (fun h => ?_))))))
  · obtain ⟨r, hr, h⟩ := ch_bd h
    obtain rfl := Option.some.inj h
    exact ch_iload_n 1 _ dX3_object_68 rfl (ch_istore 4 _ (ls1 := [some (va_rf (some m)), some (.int x1), some (.int x2), some (.int x3), some (.int x1), none]) dX3_object_69 (Nat.le_of_ble_eq_true rfl) rfl (ch_FT.wk (ch_wS (ch_wN (ch_wS (ch_wS (ch_wS (ch_wN ch_w0)))))) (sl_X3_object_71  hr hk)))
  · refine ch_aload_n 0 (some m) dX3_object_46 rfl (mp_gA 91 dX3_object_47 fl_X3_172 rfl (ch_iload 4 _ dX3_object_50 rfl (ch_iconst _ 0 dX3_object_52 rfl (mp_iast dX3_object_53 mk_91 rfl h (fun σ1 h => ?_)))))
    refine ch_aload_n 0 (some m) dX3_object_54 rfl (mp_gA 92 dX3_object_55 fl_X3_175 rfl (ch_iload 4 _ dX3_object_58 rfl (ch_iconst _ 0 dX3_object_60 rfl (mp_zast dX3_object_61 mk_92 rfl h (fun σ2 h => ?_)))))
    refine ch_iinc 4 _ _ (x4 + 1) (ls1 := [some (va_rf (some m)), some (.int x1), some (.int x2), some (.int x3), some (.int (x4 + 1)), none]) dX3_object_62 rfl rfl (Nat.le_of_ble_eq_true rfl) rfl (ch_goto 35 dX3_object_65 rfl (ch_FT.wk (ch_wS (ch_wS (ch_wS (ch_wS (ch_wS (ch_wN ch_w0)))))) ?_))
    obtain rfl := Option.some.inj h
    exact hk
theorem sl_X3_object_35 {g : State} {m : Nat} {w : ch_W} {x1 : Int32} {x2 : Int32} {x3 : Int32} {a : Int32 × ch_S} {res : Int32 × ch_S} {Q : Outcome → ch_W → Prop} (h : ch_loop (fun (s : Int32 × ch_S) => m_X3_object_35 x1 x2 x3 s.1 s.2) a = some res) (hk : (fun r => ch_eI Q (r.1, ch_put m w r.2)) res) : ch_FT g false mX3_object 2 35 [some (va_rf (some m)), some (.int x1), some (.int x2), some (.int x3), some (.int a.1), none] [] (ch_put m w a.2) Q := by
  refine ch_loop_ind (fun (a : Int32 × ch_S) (r : Int32 × ch_S) => (fun r => ch_eI Q (r.1, ch_put m w r.2)) r → ch_FT g false mX3_object 2 35 [some (va_rf (some m)), some (.int x1), some (.int x2), some (.int x3), some (.int a.1), none] [] (ch_put m w a.2) Q) ?_ ?_ a res h hk
  · intro a a2 b h1 ih hk
    exact s_X3_object_35  h1 (ih hk)
  · intro a b h1 hk
    exact s_X3_object_35  h1 hk

def m_X3_object (x1 : Int32) (x2 : Int32) (σ : ch_S) : Option (Int32 × ch_S) := (ch_mw σ fX3_classOfObject (σ.1 fX3_objects) x1).bind fun σ1 => (ch_mw σ1 fX3_wordsFrom (σ.1 fX3_objects) (σ1.1 fX3_worded)).bind fun σ2 => (ch_mw σ2 fX3_wordsMany (σ.1 fX3_objects) x2).bind fun σ3 => ch_loop (fun (s : Int32 × ch_S) => m_X3_object_35 x1 x2 (σ.1 fX3_objects) s.1 s.2) (σ3.1 fX3_worded, σ3)
theorem s_X3_object {g : State} {m : Nat} {w : ch_W} {x1 : Int32} {x2 : Int32} {σ : ch_S} {res : Int32 × ch_S} {Q : Outcome → ch_W → Prop} (h : m_X3_object x1 x2 σ = some res) (hk : (fun r => ch_eI Q (r.1, ch_put m w r.2)) res) : ch_CT g false yX3_object 2 [.ref m, .int x1, .int x2] (ch_put m w σ) Q := by
  unfold m_X3_object at h
  refine ch_ctL mX3_object (ls := [some (va_rf (some m)), some (.int x1), some (.int x2), none, none, none]) q2197 rfl (ch_lyr (r := some m) (ch_lyi (ch_lyi ch_ly0))) (Nat.le_of_ble_eq_true rfl) rfl ?_
  refine ch_aload_n 0 (some m) dX3_object_0 rfl (mp_gI 82 dX3_object_1 fl_X3_551 rfl (ch_istore_n 3 _ (ls1 := [some (va_rf (some m)), some (.int x1), some (.int x2), some (.int (σ.1 fX3_objects)), none, none]) dX3_object_4 (Nat.le_of_ble_eq_true rfl) rfl (ch_aload_n 0 (some m) dX3_object_5 rfl (mp_gA 83 dX3_object_6 fl_X3_154 rfl (ch_iload_n 3 _ dX3_object_9 rfl (ch_iload_n 1 _ dX3_object_10 rfl (mp_iast dX3_object_11 mk_83 rfl h (fun σ1 h => ?_))))))))
  refine ch_aload_n 0 (some m) dX3_object_12 rfl (mp_gA 84 dX3_object_13 fl_X3_157 rfl (ch_iload_n 3 _ dX3_object_16 rfl (ch_aload_n 0 (some m) dX3_object_17 rfl (mp_gI 90 dX3_object_18 fl_X3_566 rfl (mp_iast dX3_object_21 mk_84 rfl h (fun σ2 h => ?_))))))
  refine ch_aload_n 0 (some m) dX3_object_22 rfl (mp_gA 85 dX3_object_23 fl_X3_160 rfl (ch_iload_n 3 _ dX3_object_26 rfl (ch_iload_n 2 _ dX3_object_27 rfl (mp_iast dX3_object_28 mk_85 rfl h (fun σ3 h => ?_)))))
  exact ch_aload_n 0 (some m) dX3_object_29 rfl (mp_gI 90 dX3_object_30 fl_X3_566 rfl (ch_istore 4 _ (ls1 := [some (va_rf (some m)), some (.int x1), some (.int x2), some (.int (σ.1 fX3_objects)), some (.int (σ3.1 fX3_worded)), none]) dX3_object_33 (Nat.le_of_ble_eq_true rfl) rfl (ch_FT.wk (ch_wS (ch_wS (ch_wS (ch_wS (ch_wS (ch_wN ch_w0)))))) (sl_X3_object_35  h hk))))

theorem bX3_setLocal_0 : ch_ck cX3_setLocal 0 [42, 180, 0, 191, 42, 180, 0, 181, 27, 46, 28, 96, 29, 79, 42, 180] := ch_ckof (by decide +kernel)
theorem bX3_setLocal_1 : ch_ck cX3_setLocal 16 [0, 194, 42, 180, 0, 181, 27, 46, 28, 96, 21, 4, 84, 177] := ch_ckof (by decide +kernel)
theorem dX3_setLocal_0 : decode cX3_setLocal 0 = .ok (.aload_n 0, 1) := dz_42 (bX3_setLocal_0 0 _ rfl)
theorem dX3_setLocal_1 : decode cX3_setLocal 1 = .ok (.getfield 191, 3) := dz_180 (bX3_setLocal_0 1 _ rfl) (bX3_setLocal_0 2 _ rfl) (bX3_setLocal_0 3 _ rfl)
theorem dX3_setLocal_4 : decode cX3_setLocal 4 = .ok (.aload_n 0, 1) := dz_42 (bX3_setLocal_0 4 _ rfl)
theorem dX3_setLocal_5 : decode cX3_setLocal 5 = .ok (.getfield 181, 3) := dz_180 (bX3_setLocal_0 5 _ rfl) (bX3_setLocal_0 6 _ rfl) (bX3_setLocal_0 7 _ rfl)
theorem dX3_setLocal_8 : decode cX3_setLocal 8 = .ok (.iload_n 1, 1) := dz_27 (bX3_setLocal_0 8 _ rfl)
theorem dX3_setLocal_9 : decode cX3_setLocal 9 = .ok (.iaload, 1) := dz_46 (bX3_setLocal_0 9 _ rfl)
theorem dX3_setLocal_10 : decode cX3_setLocal 10 = .ok (.iload_n 2, 1) := dz_28 (bX3_setLocal_0 10 _ rfl)
theorem dX3_setLocal_11 : decode cX3_setLocal 11 = .ok (.iadd, 1) := dz_96 (bX3_setLocal_0 11 _ rfl)
theorem dX3_setLocal_12 : decode cX3_setLocal 12 = .ok (.iload_n 3, 1) := dz_29 (bX3_setLocal_0 12 _ rfl)
theorem dX3_setLocal_13 : decode cX3_setLocal 13 = .ok (.iastore, 1) := dz_79 (bX3_setLocal_0 13 _ rfl)
theorem dX3_setLocal_14 : decode cX3_setLocal 14 = .ok (.aload_n 0, 1) := dz_42 (bX3_setLocal_0 14 _ rfl)
theorem dX3_setLocal_15 : decode cX3_setLocal 15 = .ok (.getfield 194, 3) := dz_180 (bX3_setLocal_0 15 _ rfl) (bX3_setLocal_1 0 _ rfl) (bX3_setLocal_1 1 _ rfl)
theorem dX3_setLocal_18 : decode cX3_setLocal 18 = .ok (.aload_n 0, 1) := dz_42 (bX3_setLocal_1 2 _ rfl)
theorem dX3_setLocal_19 : decode cX3_setLocal 19 = .ok (.getfield 181, 3) := dz_180 (bX3_setLocal_1 3 _ rfl) (bX3_setLocal_1 4 _ rfl) (bX3_setLocal_1 5 _ rfl)
theorem dX3_setLocal_22 : decode cX3_setLocal 22 = .ok (.iload_n 1, 1) := dz_27 (bX3_setLocal_1 6 _ rfl)
theorem dX3_setLocal_23 : decode cX3_setLocal 23 = .ok (.iaload, 1) := dz_46 (bX3_setLocal_1 7 _ rfl)
theorem dX3_setLocal_24 : decode cX3_setLocal 24 = .ok (.iload_n 2, 1) := dz_28 (bX3_setLocal_1 8 _ rfl)
theorem dX3_setLocal_25 : decode cX3_setLocal 25 = .ok (.iadd, 1) := dz_96 (bX3_setLocal_1 9 _ rfl)
theorem dX3_setLocal_26 : decode cX3_setLocal 26 = .ok (.iload 4, 2) := dz_21 (bX3_setLocal_1 10 _ rfl) (bX3_setLocal_1 11 _ rfl)
theorem dX3_setLocal_28 : decode cX3_setLocal 28 = .ok (.bastore, 1) := dz_84 (bX3_setLocal_1 12 _ rfl)
theorem dX3_setLocal_29 : decode cX3_setLocal 29 = .ok (.return_, 1) := dz_177 (bX3_setLocal_1 13 _ rfl)
def m_X3_setLocal (x1 : Int32) (x2 : Int32) (x3 : Int32) (x4 : Int32) (σ : ch_S) : Option (ch_S) := (ch_ma σ fX3_openFrom x1).bind fun v1 => (ch_mw σ fX3_local (v1 + x2) x3).bind fun σ2 => (ch_ma σ2 fX3_openFrom x1).bind fun v3 => (ch_bit x4).bind fun _ => (ch_mw σ2 fX3_isLocalObject (v3 + x2) x4).bind fun σ4 => some (σ4)
theorem s_X3_setLocal {g : State} {m : Nat} {w : ch_W} {x1 : Int32} {x2 : Int32} {x3 : Int32} {x4 : Int32} {σ : ch_S} {res : ch_S} {Q : Outcome → ch_W → Prop} (h : m_X3_setLocal x1 x2 x3 x4 σ = some res) (hk : (fun r => ch_eV Q (ch_put m w r)) res) : ch_CT g false yX3_setLocal 2 [.ref m, .int x1, .int x2, .int x3, .int x4] (ch_put m w σ) Q := by
  unfold m_X3_setLocal at h
  refine ch_ctL mX3_setLocal (ls := [some (va_rf (some m)), some (.int x1), some (.int x2), some (.int x3), some (.int x4)]) q2205 rfl (ch_lyr (r := some m) (ch_lyi (ch_lyi (ch_lyi (ch_lyi ch_ly0))))) (Nat.le_of_ble_eq_true rfl) rfl ?_
  refine ch_aload_n 0 (some m) dX3_setLocal_0 rfl (mp_gA 98 dX3_setLocal_1 fl_X3_191 rfl (ch_aload_n 0 (some m) dX3_setLocal_4 rfl (mp_gA 95 dX3_setLocal_5 fl_X3_181 rfl (ch_iload_n 1 _ dX3_setLocal_8 rfl (mp_iald dX3_setLocal_9 mk_95 h (fun v1 h => ?_))))))
  refine ch_iload_n 2 _ dX3_setLocal_10 rfl (ch_iadd _ _ dX3_setLocal_11 (ch_iload_n 3 _ dX3_setLocal_12 rfl (mp_iast dX3_setLocal_13 mk_98 rfl h (fun σ2 h => ?_))))
  refine ch_aload_n 0 (some m) dX3_setLocal_14 rfl (mp_gA 99 dX3_setLocal_15 fl_X3_194 rfl (ch_aload_n 0 (some m) dX3_setLocal_18 rfl (mp_gA 95 dX3_setLocal_19 fl_X3_181 rfl (ch_iload_n 1 _ dX3_setLocal_22 rfl (mp_iald dX3_setLocal_23 mk_95 h (fun v3 h => ?_))))))
  refine ch_iload_n 2 _ dX3_setLocal_24 rfl (ch_iadd _ _ dX3_setLocal_25 (ch_iload 4 _ dX3_setLocal_26 rfl (mp_zast dX3_setLocal_28 mk_99 rfl h (fun σ4 h => ?_))))
  obtain rfl := Option.some.inj h
  exact ch_return dX3_setLocal_29 rfl hk

theorem bX3_todo_0 : ch_ck cX3_todo 0 [42, 180, 0, 205, 42, 180, 2, 72, 27, 79, 42, 180, 0, 208, 42, 180] := ch_ckof (by decide +kernel)
theorem bX3_todo_1 : ch_ck cX3_todo 16 [2, 72, 28, 79, 42, 89, 180, 2, 72, 4, 96, 181, 2, 72, 177] := ch_ckof (by decide +kernel)
theorem dX3_todo_0 : decode cX3_todo 0 = .ok (.aload_n 0, 1) := dz_42 (bX3_todo_0 0 _ rfl)
theorem dX3_todo_1 : decode cX3_todo 1 = .ok (.getfield 205, 3) := dz_180 (bX3_todo_0 1 _ rfl) (bX3_todo_0 2 _ rfl) (bX3_todo_0 3 _ rfl)
theorem dX3_todo_4 : decode cX3_todo 4 = .ok (.aload_n 0, 1) := dz_42 (bX3_todo_0 4 _ rfl)
theorem dX3_todo_5 : decode cX3_todo 5 = .ok (.getfield 584, 3) := dz_180 (bX3_todo_0 5 _ rfl) (bX3_todo_0 6 _ rfl) (bX3_todo_0 7 _ rfl)
theorem dX3_todo_8 : decode cX3_todo 8 = .ok (.iload_n 1, 1) := dz_27 (bX3_todo_0 8 _ rfl)
theorem dX3_todo_9 : decode cX3_todo 9 = .ok (.iastore, 1) := dz_79 (bX3_todo_0 9 _ rfl)
theorem dX3_todo_10 : decode cX3_todo 10 = .ok (.aload_n 0, 1) := dz_42 (bX3_todo_0 10 _ rfl)
theorem dX3_todo_11 : decode cX3_todo 11 = .ok (.getfield 208, 3) := dz_180 (bX3_todo_0 11 _ rfl) (bX3_todo_0 12 _ rfl) (bX3_todo_0 13 _ rfl)
theorem dX3_todo_14 : decode cX3_todo 14 = .ok (.aload_n 0, 1) := dz_42 (bX3_todo_0 14 _ rfl)
theorem dX3_todo_15 : decode cX3_todo 15 = .ok (.getfield 584, 3) := dz_180 (bX3_todo_0 15 _ rfl) (bX3_todo_1 0 _ rfl) (bX3_todo_1 1 _ rfl)
theorem dX3_todo_18 : decode cX3_todo 18 = .ok (.iload_n 2, 1) := dz_28 (bX3_todo_1 2 _ rfl)
theorem dX3_todo_19 : decode cX3_todo 19 = .ok (.iastore, 1) := dz_79 (bX3_todo_1 3 _ rfl)
theorem dX3_todo_20 : decode cX3_todo 20 = .ok (.aload_n 0, 1) := dz_42 (bX3_todo_1 4 _ rfl)
theorem dX3_todo_21 : decode cX3_todo 21 = .ok (.dup, 1) := dz_89 (bX3_todo_1 5 _ rfl)
theorem dX3_todo_22 : decode cX3_todo 22 = .ok (.getfield 584, 3) := dz_180 (bX3_todo_1 6 _ rfl) (bX3_todo_1 7 _ rfl) (bX3_todo_1 8 _ rfl)
theorem dX3_todo_25 : decode cX3_todo 25 = .ok (.iconst 1, 1) := dz_4 (bX3_todo_1 9 _ rfl)
theorem dX3_todo_26 : decode cX3_todo 26 = .ok (.iadd, 1) := dz_96 (bX3_todo_1 10 _ rfl)
theorem dX3_todo_27 : decode cX3_todo 27 = .ok (.putfield 584, 3) := dz_181 (bX3_todo_1 11 _ rfl) (bX3_todo_1 12 _ rfl) (bX3_todo_1 13 _ rfl)
theorem dX3_todo_30 : decode cX3_todo 30 = .ok (.return_, 1) := dz_177 (bX3_todo_1 14 _ rfl)
def m_X3_todo (x1 : Int32) (x2 : Int32) (σ : ch_S) : Option (ch_S) := (ch_mw σ fX3_todoIs (σ.1 fX3_todo) x1).bind fun σ1 => (ch_mw σ1 fX3_todoOf (σ1.1 fX3_todo) x2).bind fun σ2 => (ch_mI σ2 fX3_todo ((σ2.1 fX3_todo) + 1)).bind fun σ3 => some (σ3)
theorem s_X3_todo {g : State} {m : Nat} {w : ch_W} {x1 : Int32} {x2 : Int32} {σ : ch_S} {res : ch_S} {Q : Outcome → ch_W → Prop} (h : m_X3_todo x1 x2 σ = some res) (hk : (fun r => ch_eV Q (ch_put m w r)) res) : ch_CT g false yX3_todo 2 [.ref m, .int x1, .int x2] (ch_put m w σ) Q := by
  unfold m_X3_todo at h
  refine ch_ctL mX3_todo (ls := [some (va_rf (some m)), some (.int x1), some (.int x2)]) q2209 rfl (ch_lyr (r := some m) (ch_lyi (ch_lyi ch_ly0))) (Nat.le_of_ble_eq_true rfl) rfl ?_
  refine ch_aload_n 0 (some m) dX3_todo_0 rfl (mp_gA 104 dX3_todo_1 fl_X3_205 rfl (ch_aload_n 0 (some m) dX3_todo_4 rfl (mp_gI 103 dX3_todo_5 fl_X3_584 rfl (ch_iload_n 1 _ dX3_todo_8 rfl (mp_iast dX3_todo_9 mk_104 rfl h (fun σ1 h => ?_))))))
  refine ch_aload_n 0 (some m) dX3_todo_10 rfl (mp_gA 105 dX3_todo_11 fl_X3_208 rfl (ch_aload_n 0 (some m) dX3_todo_14 rfl (mp_gI 103 dX3_todo_15 fl_X3_584 rfl (ch_iload_n 2 _ dX3_todo_18 rfl (mp_iast dX3_todo_19 mk_105 rfl h (fun σ2 h => ?_))))))
  refine ch_aload_n 0 (some m) dX3_todo_20 rfl (ch_dup dX3_todo_21 (ch_cat _) (mp_gI 103 dX3_todo_22 fl_X3_584 rfl (ch_iconst _ 1 dX3_todo_25 rfl (ch_iadd _ _ dX3_todo_26 (mp_pI (k := 103) dX3_todo_27 fl_X3_584 rfl rfl rfl h (fun σ3 h => ?_))))))
  obtain rfl := Option.some.inj h
  exact ch_return dX3_todo_30 rfl hk

theorem bX3_begin_0 : ch_ck cX3_begin 0 [42, 180, 2, 42, 54, 5, 42, 180, 0, 181, 21, 5, 21, 5, 154, 0] := ch_ckof (by decide +kernel)
theorem bX3_begin_1 : ch_ck cX3_begin 16 [7, 3, 167, 0, 22, 42, 180, 0, 181, 21, 5, 4, 100, 46, 42, 180] := ch_ckof (by decide +kernel)
theorem bX3_begin_2 : ch_ck cX3_begin 32 [0, 184, 21, 5, 4, 100, 46, 96, 79, 42, 180, 0, 178, 21, 5, 27] := ch_ckof (by decide +kernel)
theorem bX3_begin_3 : ch_ck cX3_begin 48 [79, 42, 180, 0, 184, 21, 5, 21, 4, 79, 3, 54, 6, 21, 6, 21] := ch_ckof (by decide +kernel)
theorem bX3_begin_4 : ch_ck cX3_begin 64 [4, 162, 0, 35, 42, 21, 5, 21, 6, 42, 180, 0, 198, 29, 21, 6] := ch_ckof (by decide +kernel)
theorem bX3_begin_5 : ch_ck cX3_begin 80 [96, 46, 42, 180, 0, 201, 29, 21, 6, 96, 51, 182, 2, 86, 132, 6] := ch_ckof (by decide +kernel)
theorem bX3_begin_6 : ch_ck cX3_begin 96 [1, 167, 255, 220, 42, 89, 180, 2, 42, 4, 96, 181, 2, 42, 42, 16] := ch_ckof (by decide +kernel)
theorem bX3_begin_7 : ch_ck cX3_begin 112 [8, 28, 182, 2, 84, 42, 6, 42, 180, 0, 113, 28, 46, 182, 2, 84] := ch_ckof (by decide +kernel)
theorem bX3_begin_8 : ch_ck cX3_begin 128 [177] := ch_ckof (by decide +kernel)
theorem dX3_begin_0 : decode cX3_begin 0 = .ok (.aload_n 0, 1) := dz_42 (bX3_begin_0 0 _ rfl)
theorem dX3_begin_1 : decode cX3_begin 1 = .ok (.getfield 554, 3) := dz_180 (bX3_begin_0 1 _ rfl) (bX3_begin_0 2 _ rfl) (bX3_begin_0 3 _ rfl)
theorem dX3_begin_4 : decode cX3_begin 4 = .ok (.istore 5, 2) := dz_54 (bX3_begin_0 4 _ rfl) (bX3_begin_0 5 _ rfl)
theorem dX3_begin_6 : decode cX3_begin 6 = .ok (.aload_n 0, 1) := dz_42 (bX3_begin_0 6 _ rfl)
theorem dX3_begin_7 : decode cX3_begin 7 = .ok (.getfield 181, 3) := dz_180 (bX3_begin_0 7 _ rfl) (bX3_begin_0 8 _ rfl) (bX3_begin_0 9 _ rfl)
theorem dX3_begin_10 : decode cX3_begin 10 = .ok (.iload 5, 2) := dz_21 (bX3_begin_0 10 _ rfl) (bX3_begin_0 11 _ rfl)
theorem dX3_begin_12 : decode cX3_begin 12 = .ok (.iload 5, 2) := dz_21 (bX3_begin_0 12 _ rfl) (bX3_begin_0 13 _ rfl)
theorem dX3_begin_14 : decode cX3_begin 14 = .ok (.ifCond .ne 7, 3) := dz_154 (bX3_begin_0 14 _ rfl) (bX3_begin_0 15 _ rfl) (bX3_begin_1 0 _ rfl)
theorem dX3_begin_17 : decode cX3_begin 17 = .ok (.iconst 0, 1) := dz_3 (bX3_begin_1 1 _ rfl)
theorem dX3_begin_18 : decode cX3_begin 18 = .ok (.goto 22, 3) := dz_167 (bX3_begin_1 2 _ rfl) (bX3_begin_1 3 _ rfl) (bX3_begin_1 4 _ rfl)
theorem dX3_begin_21 : decode cX3_begin 21 = .ok (.aload_n 0, 1) := dz_42 (bX3_begin_1 5 _ rfl)
theorem dX3_begin_22 : decode cX3_begin 22 = .ok (.getfield 181, 3) := dz_180 (bX3_begin_1 6 _ rfl) (bX3_begin_1 7 _ rfl) (bX3_begin_1 8 _ rfl)
theorem dX3_begin_25 : decode cX3_begin 25 = .ok (.iload 5, 2) := dz_21 (bX3_begin_1 9 _ rfl) (bX3_begin_1 10 _ rfl)
theorem dX3_begin_27 : decode cX3_begin 27 = .ok (.iconst 1, 1) := dz_4 (bX3_begin_1 11 _ rfl)
theorem dX3_begin_28 : decode cX3_begin 28 = .ok (.isub, 1) := dz_100 (bX3_begin_1 12 _ rfl)
theorem dX3_begin_29 : decode cX3_begin 29 = .ok (.iaload, 1) := dz_46 (bX3_begin_1 13 _ rfl)
theorem dX3_begin_30 : decode cX3_begin 30 = .ok (.aload_n 0, 1) := dz_42 (bX3_begin_1 14 _ rfl)
theorem dX3_begin_31 : decode cX3_begin 31 = .ok (.getfield 184, 3) := dz_180 (bX3_begin_1 15 _ rfl) (bX3_begin_2 0 _ rfl) (bX3_begin_2 1 _ rfl)
theorem dX3_begin_34 : decode cX3_begin 34 = .ok (.iload 5, 2) := dz_21 (bX3_begin_2 2 _ rfl) (bX3_begin_2 3 _ rfl)
theorem dX3_begin_36 : decode cX3_begin 36 = .ok (.iconst 1, 1) := dz_4 (bX3_begin_2 4 _ rfl)
theorem dX3_begin_37 : decode cX3_begin 37 = .ok (.isub, 1) := dz_100 (bX3_begin_2 5 _ rfl)
theorem dX3_begin_38 : decode cX3_begin 38 = .ok (.iaload, 1) := dz_46 (bX3_begin_2 6 _ rfl)
theorem dX3_begin_39 : decode cX3_begin 39 = .ok (.iadd, 1) := dz_96 (bX3_begin_2 7 _ rfl)
theorem dX3_begin_40 : decode cX3_begin 40 = .ok (.iastore, 1) := dz_79 (bX3_begin_2 8 _ rfl)
theorem dX3_begin_41 : decode cX3_begin 41 = .ok (.aload_n 0, 1) := dz_42 (bX3_begin_2 9 _ rfl)
theorem dX3_begin_42 : decode cX3_begin 42 = .ok (.getfield 178, 3) := dz_180 (bX3_begin_2 10 _ rfl) (bX3_begin_2 11 _ rfl) (bX3_begin_2 12 _ rfl)
theorem dX3_begin_45 : decode cX3_begin 45 = .ok (.iload 5, 2) := dz_21 (bX3_begin_2 13 _ rfl) (bX3_begin_2 14 _ rfl)
theorem dX3_begin_47 : decode cX3_begin 47 = .ok (.iload_n 1, 1) := dz_27 (bX3_begin_2 15 _ rfl)
theorem dX3_begin_48 : decode cX3_begin 48 = .ok (.iastore, 1) := dz_79 (bX3_begin_3 0 _ rfl)
theorem dX3_begin_49 : decode cX3_begin 49 = .ok (.aload_n 0, 1) := dz_42 (bX3_begin_3 1 _ rfl)
theorem dX3_begin_50 : decode cX3_begin 50 = .ok (.getfield 184, 3) := dz_180 (bX3_begin_3 2 _ rfl) (bX3_begin_3 3 _ rfl) (bX3_begin_3 4 _ rfl)
theorem dX3_begin_53 : decode cX3_begin 53 = .ok (.iload 5, 2) := dz_21 (bX3_begin_3 5 _ rfl) (bX3_begin_3 6 _ rfl)
theorem dX3_begin_55 : decode cX3_begin 55 = .ok (.iload 4, 2) := dz_21 (bX3_begin_3 7 _ rfl) (bX3_begin_3 8 _ rfl)
theorem dX3_begin_57 : decode cX3_begin 57 = .ok (.iastore, 1) := dz_79 (bX3_begin_3 9 _ rfl)
theorem dX3_begin_58 : decode cX3_begin 58 = .ok (.iconst 0, 1) := dz_3 (bX3_begin_3 10 _ rfl)
theorem dX3_begin_59 : decode cX3_begin 59 = .ok (.istore 6, 2) := dz_54 (bX3_begin_3 11 _ rfl) (bX3_begin_3 12 _ rfl)
theorem dX3_begin_61 : decode cX3_begin 61 = .ok (.iload 6, 2) := dz_21 (bX3_begin_3 13 _ rfl) (bX3_begin_3 14 _ rfl)
theorem dX3_begin_63 : decode cX3_begin 63 = .ok (.iload 4, 2) := dz_21 (bX3_begin_3 15 _ rfl) (bX3_begin_4 0 _ rfl)
theorem dX3_begin_65 : decode cX3_begin 65 = .ok (.if_icmp .ge 35, 3) := dz_162 (bX3_begin_4 1 _ rfl) (bX3_begin_4 2 _ rfl) (bX3_begin_4 3 _ rfl)
theorem dX3_begin_68 : decode cX3_begin 68 = .ok (.aload_n 0, 1) := dz_42 (bX3_begin_4 4 _ rfl)
theorem dX3_begin_69 : decode cX3_begin 69 = .ok (.iload 5, 2) := dz_21 (bX3_begin_4 5 _ rfl) (bX3_begin_4 6 _ rfl)
theorem dX3_begin_71 : decode cX3_begin 71 = .ok (.iload 6, 2) := dz_21 (bX3_begin_4 7 _ rfl) (bX3_begin_4 8 _ rfl)
theorem dX3_begin_73 : decode cX3_begin 73 = .ok (.aload_n 0, 1) := dz_42 (bX3_begin_4 9 _ rfl)
theorem dX3_begin_74 : decode cX3_begin 74 = .ok (.getfield 198, 3) := dz_180 (bX3_begin_4 10 _ rfl) (bX3_begin_4 11 _ rfl) (bX3_begin_4 12 _ rfl)
theorem dX3_begin_77 : decode cX3_begin 77 = .ok (.iload_n 3, 1) := dz_29 (bX3_begin_4 13 _ rfl)
theorem dX3_begin_78 : decode cX3_begin 78 = .ok (.iload 6, 2) := dz_21 (bX3_begin_4 14 _ rfl) (bX3_begin_4 15 _ rfl)
theorem dX3_begin_80 : decode cX3_begin 80 = .ok (.iadd, 1) := dz_96 (bX3_begin_5 0 _ rfl)
theorem dX3_begin_81 : decode cX3_begin 81 = .ok (.iaload, 1) := dz_46 (bX3_begin_5 1 _ rfl)
theorem dX3_begin_82 : decode cX3_begin 82 = .ok (.aload_n 0, 1) := dz_42 (bX3_begin_5 2 _ rfl)
theorem dX3_begin_83 : decode cX3_begin 83 = .ok (.getfield 201, 3) := dz_180 (bX3_begin_5 3 _ rfl) (bX3_begin_5 4 _ rfl) (bX3_begin_5 5 _ rfl)
theorem dX3_begin_86 : decode cX3_begin 86 = .ok (.iload_n 3, 1) := dz_29 (bX3_begin_5 6 _ rfl)
theorem dX3_begin_87 : decode cX3_begin 87 = .ok (.iload 6, 2) := dz_21 (bX3_begin_5 7 _ rfl) (bX3_begin_5 8 _ rfl)
theorem dX3_begin_89 : decode cX3_begin 89 = .ok (.iadd, 1) := dz_96 (bX3_begin_5 9 _ rfl)
theorem dX3_begin_90 : decode cX3_begin 90 = .ok (.baload, 1) := dz_51 (bX3_begin_5 10 _ rfl)
theorem dX3_begin_91 : decode cX3_begin 91 = .ok (.invokevirtual 598, 3) := dz_182 (bX3_begin_5 11 _ rfl) (bX3_begin_5 12 _ rfl) (bX3_begin_5 13 _ rfl)
theorem dX3_begin_94 : decode cX3_begin 94 = .ok (.iinc 6 1, 3) := dz_132 (bX3_begin_5 14 _ rfl) (bX3_begin_5 15 _ rfl) (bX3_begin_6 0 _ rfl)
theorem dX3_begin_97 : decode cX3_begin 97 = .ok (.goto (-36), 3) := dz_167 (bX3_begin_6 1 _ rfl) (bX3_begin_6 2 _ rfl) (bX3_begin_6 3 _ rfl)
theorem dX3_begin_100 : decode cX3_begin 100 = .ok (.aload_n 0, 1) := dz_42 (bX3_begin_6 4 _ rfl)
theorem dX3_begin_101 : decode cX3_begin 101 = .ok (.dup, 1) := dz_89 (bX3_begin_6 5 _ rfl)
theorem dX3_begin_102 : decode cX3_begin 102 = .ok (.getfield 554, 3) := dz_180 (bX3_begin_6 6 _ rfl) (bX3_begin_6 7 _ rfl) (bX3_begin_6 8 _ rfl)
theorem dX3_begin_105 : decode cX3_begin 105 = .ok (.iconst 1, 1) := dz_4 (bX3_begin_6 9 _ rfl)
theorem dX3_begin_106 : decode cX3_begin 106 = .ok (.iadd, 1) := dz_96 (bX3_begin_6 10 _ rfl)
theorem dX3_begin_107 : decode cX3_begin 107 = .ok (.putfield 554, 3) := dz_181 (bX3_begin_6 11 _ rfl) (bX3_begin_6 12 _ rfl) (bX3_begin_6 13 _ rfl)
theorem dX3_begin_110 : decode cX3_begin 110 = .ok (.aload_n 0, 1) := dz_42 (bX3_begin_6 14 _ rfl)
theorem dX3_begin_111 : decode cX3_begin 111 = .ok (.bipush 8, 2) := dz_16 (bX3_begin_6 15 _ rfl) (bX3_begin_7 0 _ rfl)
theorem dX3_begin_113 : decode cX3_begin 113 = .ok (.iload_n 2, 1) := dz_28 (bX3_begin_7 1 _ rfl)
theorem dX3_begin_114 : decode cX3_begin 114 = .ok (.invokevirtual 596, 3) := dz_182 (bX3_begin_7 2 _ rfl) (bX3_begin_7 3 _ rfl) (bX3_begin_7 4 _ rfl)
theorem dX3_begin_117 : decode cX3_begin 117 = .ok (.aload_n 0, 1) := dz_42 (bX3_begin_7 5 _ rfl)
theorem dX3_begin_118 : decode cX3_begin 118 = .ok (.iconst 3, 1) := dz_6 (bX3_begin_7 6 _ rfl)
theorem dX3_begin_119 : decode cX3_begin 119 = .ok (.aload_n 0, 1) := dz_42 (bX3_begin_7 7 _ rfl)
theorem dX3_begin_120 : decode cX3_begin 120 = .ok (.getfield 113, 3) := dz_180 (bX3_begin_7 8 _ rfl) (bX3_begin_7 9 _ rfl) (bX3_begin_7 10 _ rfl)
theorem dX3_begin_123 : decode cX3_begin 123 = .ok (.iload_n 2, 1) := dz_28 (bX3_begin_7 11 _ rfl)
theorem dX3_begin_124 : decode cX3_begin 124 = .ok (.iaload, 1) := dz_46 (bX3_begin_7 12 _ rfl)
theorem dX3_begin_125 : decode cX3_begin 125 = .ok (.invokevirtual 596, 3) := dz_182 (bX3_begin_7 13 _ rfl) (bX3_begin_7 14 _ rfl) (bX3_begin_7 15 _ rfl)
theorem dX3_begin_128 : decode cX3_begin 128 = .ok (.return_, 1) := dz_177 (bX3_begin_8 0 _ rfl)
def m_X3_begin_61 (x2 : Int32) (x3 : Int32) (x4 : Int32) (x5 : Int32) (x6 : Int32)  (σ : ch_S) : Option ((Int32 × ch_S) ⊕ (ch_S)) := if x6 < x4 then ((ch_ma σ fX3_pile (x3 + x6)).bind fun v7 => (ch_ma σ fX3_isPileObject (x3 + x6)).bind fun v8 => (m_X3_setLocal x5 x6 v7 v8 σ).bind fun p9 => some (.inl (x6 + 1, p9))) else ((ch_mI σ fX3_open ((σ.1 fX3_open) + 1)).bind fun σ1 => (m_X3_todo 8 x2 σ1).bind fun p2 => (ch_ma p2 fX3_body x2).bind fun v4 => (m_X3_todo 3 v4 p2).bind fun p5 => some (.inr (p5)))
theorem s_X3_begin_61 {g : State} {m : Nat} {w : ch_W} {x2 : Int32} {x3 : Int32} {x4 : Int32} {x5 : Int32} {x6 : Int32} {σ : ch_S} {res : (Int32 × ch_S) ⊕ (ch_S)} {Q : Outcome → ch_W → Prop} (h : m_X3_begin_61 x2 x3 x4 x5 x6 σ = some res) (hk : (ch_sm (fun s => ch_FT g false mX3_begin 3 61 [some (va_rf (some m)), none, some (.int x2), some (.int x3), some (.int x4), some (.int x5), some (.int s.1)] [] (ch_put m w s.2) Q) (fun r => ch_eV Q (ch_put m w r))) res) : ch_FT g false mX3_begin 3 61 [some (va_rf (some m)), none, some (.int x2), some (.int x3), some (.int x4), some (.int x5), some (.int x6)] [] (ch_put m w σ) Q := by
  unfold m_X3_begin_61 at h
  refine ch_iload 6 _ dX3_begin_61 rfl (ch_iload 4 _ dX3_begin_63 rfl (cp_icmp_ge _ _ (tgt := 100) dX3_begin_65 rfl h (fun h => ?_) (fun h => ?_)))
  · refine ch_aload_n 0 (some m) dX3_begin_100 rfl (ch_dup dX3_begin_101 (ch_cat _) (mp_gI 93 dX3_begin_102 fl_X3_554 rfl (ch_iconst _ 1 dX3_begin_105 rfl (ch_iadd _ _ dX3_begin_106 (mp_pI (k := 93) dX3_begin_107 fl_X3_554 rfl rfl rfl h (fun σ1 h => ?_))))))
    obtain ⟨p2, hp3, h⟩ := ch_bd h
    refine ch_aload_n 0 (some m) dX3_begin_110 rfl (ch_bipush _ 8 dX3_begin_111 rfl (ch_iload_n 2 _ dX3_begin_113 rfl (ch_iv yX3_todo prog_14_method_83_code 3 none (ci := 3) (q := (RX3, TX3, 109)) (b := m) (d' := 2) (av := [.int 8, .int x2]) (rest := []) rfl dX3_begin_114 q2206 q2208 rfl qs174 q2209 can_X3_todo (Nat.le_of_ble_eq_true rfl) (Nat.le_of_ble_eq_true rfl) ch_put_tag (cp_kV (w1 := ch_put m w p2) (fun Q' hq => s_X3_todo hp3 hq) ?_))))
    refine ch_aload_n 0 (some m) dX3_begin_117 rfl (ch_iconst _ 3 dX3_begin_118 rfl (ch_aload_n 0 (some m) dX3_begin_119 rfl (mp_gA 50 dX3_begin_120 fl_X3_113 rfl (ch_iload_n 2 _ dX3_begin_123 rfl (mp_iald dX3_begin_124 mk_50 h (fun v4 h => ?_))))))
    obtain ⟨p5, hp6, h⟩ := ch_bd h
    refine ch_iv yX3_todo prog_14_method_83_code 3 none (ci := 3) (q := (RX3, TX3, 109)) (b := m) (d' := 2) (av := [.int 3, .int v4]) (rest := []) rfl dX3_begin_125 q2206 q2208 rfl qs174 q2209 can_X3_todo (Nat.le_of_ble_eq_true rfl) (Nat.le_of_ble_eq_true rfl) ch_put_tag (cp_kV (w1 := ch_put m w p5) (fun Q' hq => s_X3_todo hp6 hq) ?_)
    obtain rfl := Option.some.inj h
    exact ch_return dX3_begin_128 rfl hk
  · refine ch_aload_n 0 (some m) dX3_begin_68 rfl (ch_iload 5 _ dX3_begin_69 rfl (ch_iload 6 _ dX3_begin_71 rfl (ch_aload_n 0 (some m) dX3_begin_73 rfl (mp_gA 101 dX3_begin_74 fl_X3_198 rfl (ch_iload_n 3 _ dX3_begin_77 rfl (ch_iload 6 _ dX3_begin_78 rfl (ch_iadd _ _ dX3_begin_80 (?_))))))))
    refine mp_iald dX3_begin_81 mk_101 h (fun v7 h => ?_)
    refine ch_aload_n 0 (some m) dX3_begin_82 rfl (mp_gA 102 dX3_begin_83 fl_X3_201 rfl (ch_iload_n 3 _ dX3_begin_86 rfl (ch_iload 6 _ dX3_begin_87 rfl (ch_iadd _ _ dX3_begin_89 (mp_zald dX3_begin_90 mk_102 h (fun v8 h => ?_))))))
    obtain ⟨p9, hp10, h⟩ := ch_bd h
    refine ch_iv yX3_setLocal prog_14_method_87_code 5 none (ci := 3) (q := (RX3, TX3, 109)) (b := m) (d' := 2) (av := [.int x5, .int x6, .int v7, .int v8]) (rest := []) rfl dX3_begin_91 q2202 q2204 rfl qs173 q2205 can_X3_setLocal (Nat.le_of_ble_eq_true rfl) (Nat.le_of_ble_eq_true rfl) ch_put_tag (cp_kV (w1 := ch_put m w p9) (fun Q' hq => s_X3_setLocal hp10 hq) ?_)
    refine ch_iinc 6 _ _ (x6 + 1) (ls1 := [some (va_rf (some m)), none, some (.int x2), some (.int x3), some (.int x4), some (.int x5), some (.int (x6 + 1))]) dX3_begin_94 rfl rfl (Nat.le_of_ble_eq_true rfl) rfl (ch_goto 61 dX3_begin_97 rfl (ch_FT.wk (ch_wS (ch_wN (ch_wS (ch_wS (ch_wS (ch_wS (ch_wS ch_w0))))))) ?_))
    obtain rfl := Option.some.inj h
    exact hk
theorem sl_X3_begin_61 {g : State} {m : Nat} {w : ch_W} {x2 : Int32} {x3 : Int32} {x4 : Int32} {x5 : Int32} {a : Int32 × ch_S} {res : ch_S} {Q : Outcome → ch_W → Prop} (h : ch_loop (fun (s : Int32 × ch_S) => m_X3_begin_61 x2 x3 x4 x5 s.1 s.2) a = some res) (hk : (fun r => ch_eV Q (ch_put m w r)) res) : ch_FT g false mX3_begin 3 61 [some (va_rf (some m)), none, some (.int x2), some (.int x3), some (.int x4), some (.int x5), some (.int a.1)] [] (ch_put m w a.2) Q := by
  refine ch_loop_ind (fun (a : Int32 × ch_S) (r : ch_S) => (fun r => ch_eV Q (ch_put m w r)) r → ch_FT g false mX3_begin 3 61 [some (va_rf (some m)), none, some (.int x2), some (.int x3), some (.int x4), some (.int x5), some (.int a.1)] [] (ch_put m w a.2) Q) ?_ ?_ a res h hk
  · intro a a2 b h1 ih hk
    exact s_X3_begin_61  h1 (ih hk)
  · intro a b h1 hk
    exact s_X3_begin_61  h1 hk

def m_X3_begin_40 (x1 : Int32) (x2 : Int32) (x3 : Int32) (x4 : Int32) (x5 : Int32) (y0 : Int32) (y1 : Int32) (σ : ch_S) : Option (ch_S) := (ch_mw σ fX3_openFrom y1 y0).bind fun σ1 => (ch_mw σ1 fX3_openThis x5 x1).bind fun σ2 => (ch_mw σ2 fX3_openMany x5 x4).bind fun σ3 => ch_loop (fun (s : Int32 × ch_S) => m_X3_begin_61 x2 x3 x4 x5 s.1 s.2) (0, σ3)
theorem s_X3_begin_40 {g : State} {m : Nat} {w : ch_W} {x1 : Int32} {x2 : Int32} {x3 : Int32} {x4 : Int32} {x5 : Int32} {y0 : Int32} {y1 : Int32} {σ : ch_S} {res : ch_S} {Q : Outcome → ch_W → Prop} (h : m_X3_begin_40 x1 x2 x3 x4 x5 y0 y1 σ = some res) (hk : (fun r => ch_eV Q (ch_put m w r)) res) : ch_FT g false mX3_begin 3 40 [some (va_rf (some m)), some (.int x1), some (.int x2), some (.int x3), some (.int x4), some (.int x5), none] [.int y0, .int y1, va_rf (ch_mr m fX3_openFrom)] (ch_put m w σ) Q := by
  unfold m_X3_begin_40 at h
  refine mp_iast dX3_begin_40 mk_95 rfl h (fun σ1 h => ?_)
  refine ch_aload_n 0 (some m) dX3_begin_41 rfl (mp_gA 94 dX3_begin_42 fl_X3_178 rfl (ch_iload 5 _ dX3_begin_45 rfl (ch_iload_n 1 _ dX3_begin_47 rfl (mp_iast dX3_begin_48 mk_94 rfl h (fun σ2 h => ?_)))))
  refine ch_aload_n 0 (some m) dX3_begin_49 rfl (mp_gA 96 dX3_begin_50 fl_X3_184 rfl (ch_iload 5 _ dX3_begin_53 rfl (ch_iload 4 _ dX3_begin_55 rfl (mp_iast dX3_begin_57 mk_96 rfl h (fun σ3 h => ?_)))))
  exact ch_iconst _ 0 dX3_begin_58 rfl (ch_istore 6 _ (ls1 := [some (va_rf (some m)), some (.int x1), some (.int x2), some (.int x3), some (.int x4), some (.int x5), some (.int 0)]) dX3_begin_59 (Nat.le_of_ble_eq_true rfl) rfl (ch_FT.wk (ch_wS (ch_wN (ch_wS (ch_wS (ch_wS (ch_wS (ch_wS ch_w0))))))) (sl_X3_begin_61  h hk)))

def m_X3_begin (x1 : Int32) (x2 : Int32) (x3 : Int32) (x4 : Int32) (σ : ch_S) : Option (ch_S) := if (σ.1 fX3_open) = 0 then (m_X3_begin_40 x1 x2 x3 x4 (σ.1 fX3_open) 0 (σ.1 fX3_open) σ) else ((ch_ma σ fX3_openFrom ((σ.1 fX3_open) - 1)).bind fun v1 => (ch_ma σ fX3_openMany ((σ.1 fX3_open) - 1)).bind fun v2 => m_X3_begin_40 x1 x2 x3 x4 (σ.1 fX3_open) (v1 + v2) (σ.1 fX3_open) σ)
theorem s_X3_begin {g : State} {m : Nat} {w : ch_W} {x1 : Int32} {x2 : Int32} {x3 : Int32} {x4 : Int32} {σ : ch_S} {res : ch_S} {Q : Outcome → ch_W → Prop} (h : m_X3_begin x1 x2 x3 x4 σ = some res) (hk : (fun r => ch_eV Q (ch_put m w r)) res) : ch_CT g false yX3_begin 3 [.ref m, .int x1, .int x2, .int x3, .int x4] (ch_put m w σ) Q := by
  unfold m_X3_begin at h
  refine ch_ctL mX3_begin (ls := [some (va_rf (some m)), some (.int x1), some (.int x2), some (.int x3), some (.int x4), none, none]) q2201 rfl (ch_lyr (r := some m) (ch_lyi (ch_lyi (ch_lyi (ch_lyi ch_ly0))))) (Nat.le_of_ble_eq_true rfl) rfl ?_
  refine ch_aload_n 0 (some m) dX3_begin_0 rfl (mp_gI 93 dX3_begin_1 fl_X3_554 rfl (ch_istore 5 _ (ls1 := [some (va_rf (some m)), some (.int x1), some (.int x2), some (.int x3), some (.int x4), some (.int (σ.1 fX3_open)), none]) dX3_begin_4 (Nat.le_of_ble_eq_true rfl) rfl (ch_aload_n 0 (some m) dX3_begin_6 rfl (mp_gA 95 dX3_begin_7 fl_X3_181 rfl (ch_iload 5 _ dX3_begin_10 rfl (ch_iload 5 _ dX3_begin_12 rfl (cp_if_ne _ (tgt := 21) dX3_begin_14 rfl h (fun h => ?_) (fun h => ?_))))))))
  · refine ch_aload_n 0 (some m) dX3_begin_21 rfl (mp_gA 95 dX3_begin_22 fl_X3_181 rfl (ch_iload 5 _ dX3_begin_25 rfl (ch_iconst _ 1 dX3_begin_27 rfl (ch_isub _ _ dX3_begin_28 (mp_iald dX3_begin_29 mk_95 h (fun v1 h => ?_))))))
    refine ch_aload_n 0 (some m) dX3_begin_30 rfl (mp_gA 96 dX3_begin_31 fl_X3_184 rfl (ch_iload 5 _ dX3_begin_34 rfl (ch_iconst _ 1 dX3_begin_36 rfl (ch_isub _ _ dX3_begin_37 (mp_iald dX3_begin_38 mk_96 h (fun v2 h => ?_))))))
    exact ch_iadd _ _ dX3_begin_39 (ch_FT.wk (ch_wS (ch_wS (ch_wS (ch_wS (ch_wS (ch_wS (ch_wN ch_w0))))))) (s_X3_begin_40  h hk))
  · exact ch_iconst _ 0 dX3_begin_17 rfl (ch_goto 40 dX3_begin_18 rfl (ch_FT.wk (ch_wS (ch_wS (ch_wS (ch_wS (ch_wS (ch_wS (ch_wN ch_w0))))))) (s_X3_begin_40  h hk)))

theorem bX3_isLeaf_0 : ch_ck cX3_isLeaf 0 [42, 180, 0, 25, 27, 46, 8, 164, 0, 36, 42, 180, 0, 25, 27, 46] := ch_ckof (by decide +kernel)
theorem bX3_isLeaf_1 : ch_ck cX3_isLeaf 16 [16, 19, 159, 0, 25, 42, 180, 0, 25, 27, 46, 16, 20, 159, 0, 14] := ch_ckof (by decide +kernel)
theorem bX3_isLeaf_2 : ch_ck cX3_isLeaf 32 [42, 180, 0, 25, 27, 46, 16, 21, 160, 0, 7, 4, 167, 0, 4, 3] := ch_ckof (by decide +kernel)
theorem bX3_isLeaf_3 : ch_ck cX3_isLeaf 48 [172] := ch_ckof (by decide +kernel)
theorem dX3_isLeaf_0 : decode cX3_isLeaf 0 = .ok (.aload_n 0, 1) := dz_42 (bX3_isLeaf_0 0 _ rfl)
theorem dX3_isLeaf_1 : decode cX3_isLeaf 1 = .ok (.getfield 25, 3) := dz_180 (bX3_isLeaf_0 1 _ rfl) (bX3_isLeaf_0 2 _ rfl) (bX3_isLeaf_0 3 _ rfl)
theorem dX3_isLeaf_4 : decode cX3_isLeaf 4 = .ok (.iload_n 1, 1) := dz_27 (bX3_isLeaf_0 4 _ rfl)
theorem dX3_isLeaf_5 : decode cX3_isLeaf 5 = .ok (.iaload, 1) := dz_46 (bX3_isLeaf_0 5 _ rfl)
theorem dX3_isLeaf_6 : decode cX3_isLeaf 6 = .ok (.iconst 5, 1) := dz_8 (bX3_isLeaf_0 6 _ rfl)
theorem dX3_isLeaf_7 : decode cX3_isLeaf 7 = .ok (.if_icmp .le 36, 3) := dz_164 (bX3_isLeaf_0 7 _ rfl) (bX3_isLeaf_0 8 _ rfl) (bX3_isLeaf_0 9 _ rfl)
theorem dX3_isLeaf_10 : decode cX3_isLeaf 10 = .ok (.aload_n 0, 1) := dz_42 (bX3_isLeaf_0 10 _ rfl)
theorem dX3_isLeaf_11 : decode cX3_isLeaf 11 = .ok (.getfield 25, 3) := dz_180 (bX3_isLeaf_0 11 _ rfl) (bX3_isLeaf_0 12 _ rfl) (bX3_isLeaf_0 13 _ rfl)
theorem dX3_isLeaf_14 : decode cX3_isLeaf 14 = .ok (.iload_n 1, 1) := dz_27 (bX3_isLeaf_0 14 _ rfl)
theorem dX3_isLeaf_15 : decode cX3_isLeaf 15 = .ok (.iaload, 1) := dz_46 (bX3_isLeaf_0 15 _ rfl)
theorem dX3_isLeaf_16 : decode cX3_isLeaf 16 = .ok (.bipush 19, 2) := dz_16 (bX3_isLeaf_1 0 _ rfl) (bX3_isLeaf_1 1 _ rfl)
theorem dX3_isLeaf_18 : decode cX3_isLeaf 18 = .ok (.if_icmp .eq 25, 3) := dz_159 (bX3_isLeaf_1 2 _ rfl) (bX3_isLeaf_1 3 _ rfl) (bX3_isLeaf_1 4 _ rfl)
theorem dX3_isLeaf_21 : decode cX3_isLeaf 21 = .ok (.aload_n 0, 1) := dz_42 (bX3_isLeaf_1 5 _ rfl)
theorem dX3_isLeaf_22 : decode cX3_isLeaf 22 = .ok (.getfield 25, 3) := dz_180 (bX3_isLeaf_1 6 _ rfl) (bX3_isLeaf_1 7 _ rfl) (bX3_isLeaf_1 8 _ rfl)
theorem dX3_isLeaf_25 : decode cX3_isLeaf 25 = .ok (.iload_n 1, 1) := dz_27 (bX3_isLeaf_1 9 _ rfl)
theorem dX3_isLeaf_26 : decode cX3_isLeaf 26 = .ok (.iaload, 1) := dz_46 (bX3_isLeaf_1 10 _ rfl)
theorem dX3_isLeaf_27 : decode cX3_isLeaf 27 = .ok (.bipush 20, 2) := dz_16 (bX3_isLeaf_1 11 _ rfl) (bX3_isLeaf_1 12 _ rfl)
theorem dX3_isLeaf_29 : decode cX3_isLeaf 29 = .ok (.if_icmp .eq 14, 3) := dz_159 (bX3_isLeaf_1 13 _ rfl) (bX3_isLeaf_1 14 _ rfl) (bX3_isLeaf_1 15 _ rfl)
theorem dX3_isLeaf_32 : decode cX3_isLeaf 32 = .ok (.aload_n 0, 1) := dz_42 (bX3_isLeaf_2 0 _ rfl)
theorem dX3_isLeaf_33 : decode cX3_isLeaf 33 = .ok (.getfield 25, 3) := dz_180 (bX3_isLeaf_2 1 _ rfl) (bX3_isLeaf_2 2 _ rfl) (bX3_isLeaf_2 3 _ rfl)
theorem dX3_isLeaf_36 : decode cX3_isLeaf 36 = .ok (.iload_n 1, 1) := dz_27 (bX3_isLeaf_2 4 _ rfl)
theorem dX3_isLeaf_37 : decode cX3_isLeaf 37 = .ok (.iaload, 1) := dz_46 (bX3_isLeaf_2 5 _ rfl)
theorem dX3_isLeaf_38 : decode cX3_isLeaf 38 = .ok (.bipush 21, 2) := dz_16 (bX3_isLeaf_2 6 _ rfl) (bX3_isLeaf_2 7 _ rfl)
theorem dX3_isLeaf_40 : decode cX3_isLeaf 40 = .ok (.if_icmp .ne 7, 3) := dz_160 (bX3_isLeaf_2 8 _ rfl) (bX3_isLeaf_2 9 _ rfl) (bX3_isLeaf_2 10 _ rfl)
theorem dX3_isLeaf_43 : decode cX3_isLeaf 43 = .ok (.iconst 1, 1) := dz_4 (bX3_isLeaf_2 11 _ rfl)
theorem dX3_isLeaf_44 : decode cX3_isLeaf 44 = .ok (.goto 4, 3) := dz_167 (bX3_isLeaf_2 12 _ rfl) (bX3_isLeaf_2 13 _ rfl) (bX3_isLeaf_2 14 _ rfl)
theorem dX3_isLeaf_47 : decode cX3_isLeaf 47 = .ok (.iconst 0, 1) := dz_3 (bX3_isLeaf_2 15 _ rfl)
theorem dX3_isLeaf_48 : decode cX3_isLeaf 48 = .ok (.ireturn, 1) := dz_172 (bX3_isLeaf_3 0 _ rfl)
def m_X3_isLeaf (x1 : Int32) (σ : ch_S) : Option (Int32) := (ch_ma σ fX3_is x1).bind fun v1 => if 5 < v1 then ((ch_ma σ fX3_is x1).bind fun v2 => if v2 = 19 then (some (1)) else ((ch_ma σ fX3_is x1).bind fun v3 => if v3 = 20 then (some (1)) else ((ch_ma σ fX3_is x1).bind fun v4 => if v4 = 21 then (some (1)) else (some (0))))) else (some (1))
theorem s_X3_isLeaf {g : State} {m : Nat} {w : ch_W} {x1 : Int32} {σ : ch_S} {res : Int32} {Q : Outcome → ch_W → Prop} (h : m_X3_isLeaf x1 σ = some res) (hk : (fun r => ch_eI Q (r, ch_put m w σ)) res) : ch_CT g false yX3_isLeaf 2 [.ref m, .int x1] (ch_put m w σ) Q := by
  unfold m_X3_isLeaf at h
  refine ch_ctL mX3_isLeaf (ls := [some (va_rf (some m)), some (.int x1)]) q2221 rfl (ch_lyr (r := some m) (ch_lyi ch_ly0)) (Nat.le_of_ble_eq_true rfl) rfl ?_
  refine ch_aload_n 0 (some m) dX3_isLeaf_0 rfl (mp_gA 16 dX3_isLeaf_1 fl_X3_25 rfl (ch_iload_n 1 _ dX3_isLeaf_4 rfl (mp_iald dX3_isLeaf_5 mk_16 h (fun v1 h => ?_))))
  refine ch_iconst _ 5 dX3_isLeaf_6 rfl (cp_icmp_le _ _ (tgt := 43) dX3_isLeaf_7 rfl h (fun h => ?_) (fun h => ?_))
  · obtain rfl := Option.some.inj h
    exact ch_iconst _ 1 dX3_isLeaf_43 rfl (ch_goto 48 dX3_isLeaf_44 rfl (ch_ireturn _ dX3_isLeaf_48 rfl rfl hk))
  · refine ch_aload_n 0 (some m) dX3_isLeaf_10 rfl (mp_gA 16 dX3_isLeaf_11 fl_X3_25 rfl (ch_iload_n 1 _ dX3_isLeaf_14 rfl (mp_iald dX3_isLeaf_15 mk_16 h (fun v2 h => ?_))))
    refine ch_bipush _ 19 dX3_isLeaf_16 rfl (cp_icmp_eq _ _ (tgt := 43) dX3_isLeaf_18 rfl h (fun h => ?_) (fun h => ?_))
    · obtain rfl := Option.some.inj h
      exact ch_iconst _ 1 dX3_isLeaf_43 rfl (ch_goto 48 dX3_isLeaf_44 rfl (ch_ireturn _ dX3_isLeaf_48 rfl rfl hk))
    · refine ch_aload_n 0 (some m) dX3_isLeaf_21 rfl (mp_gA 16 dX3_isLeaf_22 fl_X3_25 rfl (ch_iload_n 1 _ dX3_isLeaf_25 rfl (mp_iald dX3_isLeaf_26 mk_16 h (fun v3 h => ?_))))
      refine ch_bipush _ 20 dX3_isLeaf_27 rfl (cp_icmp_eq _ _ (tgt := 43) dX3_isLeaf_29 rfl h (fun h => ?_) (fun h => ?_))
      · obtain rfl := Option.some.inj h
        exact ch_iconst _ 1 dX3_isLeaf_43 rfl (ch_goto 48 dX3_isLeaf_44 rfl (ch_ireturn _ dX3_isLeaf_48 rfl rfl hk))
      · refine ch_aload_n 0 (some m) dX3_isLeaf_32 rfl (mp_gA 16 dX3_isLeaf_33 fl_X3_25 rfl (ch_iload_n 1 _ dX3_isLeaf_36 rfl (mp_iald dX3_isLeaf_37 mk_16 h (fun v4 h => ?_))))
        refine ch_bipush _ 21 dX3_isLeaf_38 rfl (cp_icmp_ne _ _ (tgt := 47) dX3_isLeaf_40 rfl h (fun h => ?_) (fun h => ?_))
        · obtain rfl := Option.some.inj h
          exact ch_iconst _ 0 dX3_isLeaf_47 rfl (ch_ireturn _ dX3_isLeaf_48 rfl rfl hk)
        · obtain rfl := Option.some.inj h
          exact ch_iconst _ 1 dX3_isLeaf_43 rfl (ch_goto 48 dX3_isLeaf_44 rfl (ch_ireturn _ dX3_isLeaf_48 rfl rfl hk))

theorem bX3_isStep_0 : ch_ck cX3_isStep 0 [42, 180, 0, 205, 42, 180, 2, 72, 4, 100, 46, 60, 27, 4, 159, 0] := ch_ckof (by decide +kernel)
theorem bX3_isStep_1 : ch_ck cX3_isStep 16 [35, 27, 5, 159, 0, 30, 27, 7, 159, 0, 25, 27, 154, 0, 25, 42] := ch_ckof (by decide +kernel)
theorem bX3_isStep_2 : ch_ck cX3_isStep 32 [42, 180, 0, 208, 42, 180, 2, 72, 4, 100, 46, 182, 2, 108, 153, 0] := ch_ckof (by decide +kernel)
theorem bX3_isStep_3 : ch_ck cX3_isStep 48 [7, 4, 167, 0, 4, 3, 172] := ch_ckof (by decide +kernel)
theorem dX3_isStep_0 : decode cX3_isStep 0 = .ok (.aload_n 0, 1) := dz_42 (bX3_isStep_0 0 _ rfl)
theorem dX3_isStep_1 : decode cX3_isStep 1 = .ok (.getfield 205, 3) := dz_180 (bX3_isStep_0 1 _ rfl) (bX3_isStep_0 2 _ rfl) (bX3_isStep_0 3 _ rfl)
theorem dX3_isStep_4 : decode cX3_isStep 4 = .ok (.aload_n 0, 1) := dz_42 (bX3_isStep_0 4 _ rfl)
theorem dX3_isStep_5 : decode cX3_isStep 5 = .ok (.getfield 584, 3) := dz_180 (bX3_isStep_0 5 _ rfl) (bX3_isStep_0 6 _ rfl) (bX3_isStep_0 7 _ rfl)
theorem dX3_isStep_8 : decode cX3_isStep 8 = .ok (.iconst 1, 1) := dz_4 (bX3_isStep_0 8 _ rfl)
theorem dX3_isStep_9 : decode cX3_isStep 9 = .ok (.isub, 1) := dz_100 (bX3_isStep_0 9 _ rfl)
theorem dX3_isStep_10 : decode cX3_isStep 10 = .ok (.iaload, 1) := dz_46 (bX3_isStep_0 10 _ rfl)
theorem dX3_isStep_11 : decode cX3_isStep 11 = .ok (.istore_n 1, 1) := dz_60 (bX3_isStep_0 11 _ rfl)
theorem dX3_isStep_12 : decode cX3_isStep 12 = .ok (.iload_n 1, 1) := dz_27 (bX3_isStep_0 12 _ rfl)
theorem dX3_isStep_13 : decode cX3_isStep 13 = .ok (.iconst 1, 1) := dz_4 (bX3_isStep_0 13 _ rfl)
theorem dX3_isStep_14 : decode cX3_isStep 14 = .ok (.if_icmp .eq 35, 3) := dz_159 (bX3_isStep_0 14 _ rfl) (bX3_isStep_0 15 _ rfl) (bX3_isStep_1 0 _ rfl)
theorem dX3_isStep_17 : decode cX3_isStep 17 = .ok (.iload_n 1, 1) := dz_27 (bX3_isStep_1 1 _ rfl)
theorem dX3_isStep_18 : decode cX3_isStep 18 = .ok (.iconst 2, 1) := dz_5 (bX3_isStep_1 2 _ rfl)
theorem dX3_isStep_19 : decode cX3_isStep 19 = .ok (.if_icmp .eq 30, 3) := dz_159 (bX3_isStep_1 3 _ rfl) (bX3_isStep_1 4 _ rfl) (bX3_isStep_1 5 _ rfl)
theorem dX3_isStep_22 : decode cX3_isStep 22 = .ok (.iload_n 1, 1) := dz_27 (bX3_isStep_1 6 _ rfl)
theorem dX3_isStep_23 : decode cX3_isStep 23 = .ok (.iconst 4, 1) := dz_7 (bX3_isStep_1 7 _ rfl)
theorem dX3_isStep_24 : decode cX3_isStep 24 = .ok (.if_icmp .eq 25, 3) := dz_159 (bX3_isStep_1 8 _ rfl) (bX3_isStep_1 9 _ rfl) (bX3_isStep_1 10 _ rfl)
theorem dX3_isStep_27 : decode cX3_isStep 27 = .ok (.iload_n 1, 1) := dz_27 (bX3_isStep_1 11 _ rfl)
theorem dX3_isStep_28 : decode cX3_isStep 28 = .ok (.ifCond .ne 25, 3) := dz_154 (bX3_isStep_1 12 _ rfl) (bX3_isStep_1 13 _ rfl) (bX3_isStep_1 14 _ rfl)
theorem dX3_isStep_31 : decode cX3_isStep 31 = .ok (.aload_n 0, 1) := dz_42 (bX3_isStep_1 15 _ rfl)
theorem dX3_isStep_32 : decode cX3_isStep 32 = .ok (.aload_n 0, 1) := dz_42 (bX3_isStep_2 0 _ rfl)
theorem dX3_isStep_33 : decode cX3_isStep 33 = .ok (.getfield 208, 3) := dz_180 (bX3_isStep_2 1 _ rfl) (bX3_isStep_2 2 _ rfl) (bX3_isStep_2 3 _ rfl)
theorem dX3_isStep_36 : decode cX3_isStep 36 = .ok (.aload_n 0, 1) := dz_42 (bX3_isStep_2 4 _ rfl)
theorem dX3_isStep_37 : decode cX3_isStep 37 = .ok (.getfield 584, 3) := dz_180 (bX3_isStep_2 5 _ rfl) (bX3_isStep_2 6 _ rfl) (bX3_isStep_2 7 _ rfl)
theorem dX3_isStep_40 : decode cX3_isStep 40 = .ok (.iconst 1, 1) := dz_4 (bX3_isStep_2 8 _ rfl)
theorem dX3_isStep_41 : decode cX3_isStep 41 = .ok (.isub, 1) := dz_100 (bX3_isStep_2 9 _ rfl)
theorem dX3_isStep_42 : decode cX3_isStep 42 = .ok (.iaload, 1) := dz_46 (bX3_isStep_2 10 _ rfl)
theorem dX3_isStep_43 : decode cX3_isStep 43 = .ok (.invokevirtual 620, 3) := dz_182 (bX3_isStep_2 11 _ rfl) (bX3_isStep_2 12 _ rfl) (bX3_isStep_2 13 _ rfl)
theorem dX3_isStep_46 : decode cX3_isStep 46 = .ok (.ifCond .eq 7, 3) := dz_153 (bX3_isStep_2 14 _ rfl) (bX3_isStep_2 15 _ rfl) (bX3_isStep_3 0 _ rfl)
theorem dX3_isStep_49 : decode cX3_isStep 49 = .ok (.iconst 1, 1) := dz_4 (bX3_isStep_3 1 _ rfl)
theorem dX3_isStep_50 : decode cX3_isStep 50 = .ok (.goto 4, 3) := dz_167 (bX3_isStep_3 2 _ rfl) (bX3_isStep_3 3 _ rfl) (bX3_isStep_3 4 _ rfl)
theorem dX3_isStep_53 : decode cX3_isStep 53 = .ok (.iconst 0, 1) := dz_3 (bX3_isStep_3 5 _ rfl)
theorem dX3_isStep_54 : decode cX3_isStep 54 = .ok (.ireturn, 1) := dz_172 (bX3_isStep_3 6 _ rfl)
def m_X3_isStep  (σ : ch_S) : Option (Int32) := (ch_ma σ fX3_todoIs ((σ.1 fX3_todo) - 1)).bind fun v1 => if v1 = 1 then (some (1)) else (if v1 = 2 then (some (1)) else (if v1 = 4 then (some (1)) else (if v1 = 0 then ((ch_ma σ fX3_todoOf ((σ.1 fX3_todo) - 1)).bind fun v2 => (m_X3_isLeaf v2 σ).bind fun v3 => if v3 = 0 then (some (0)) else (some (1))) else (some (0)))))
theorem s_X3_isStep {g : State} {m : Nat} {w : ch_W} {σ : ch_S} {res : Int32} {Q : Outcome → ch_W → Prop} (h : m_X3_isStep  σ = some res) (hk : (fun r => ch_eI Q (r, ch_put m w σ)) res) : ch_CT g false yX3_isStep 3 [.ref m] (ch_put m w σ) Q := by
  unfold m_X3_isStep at h
  refine ch_ctL mX3_isStep (ls := [some (va_rf (some m)), none]) q2217 rfl (ch_lyr (r := some m) ch_ly0) (Nat.le_of_ble_eq_true rfl) rfl ?_
  refine ch_aload_n 0 (some m) dX3_isStep_0 rfl (mp_gA 104 dX3_isStep_1 fl_X3_205 rfl (ch_aload_n 0 (some m) dX3_isStep_4 rfl (mp_gI 103 dX3_isStep_5 fl_X3_584 rfl (ch_iconst _ 1 dX3_isStep_8 rfl (ch_isub _ _ dX3_isStep_9 (mp_iald dX3_isStep_10 mk_104 h (fun v1 h => ?_)))))))
  refine ch_istore_n 1 _ (ls1 := [some (va_rf (some m)), some (.int v1)]) dX3_isStep_11 (Nat.le_of_ble_eq_true rfl) rfl (ch_iload_n 1 _ dX3_isStep_12 rfl (ch_iconst _ 1 dX3_isStep_13 rfl (cp_icmp_eq _ _ (tgt := 49) dX3_isStep_14 rfl h (fun h => ?_) (fun h => ?_))))
  · obtain rfl := Option.some.inj h
    exact ch_iconst _ 1 dX3_isStep_49 rfl (ch_goto 54 dX3_isStep_50 rfl (ch_ireturn _ dX3_isStep_54 rfl rfl hk))
  · refine ch_iload_n 1 _ dX3_isStep_17 rfl (ch_iconst _ 2 dX3_isStep_18 rfl (cp_icmp_eq _ _ (tgt := 49) dX3_isStep_19 rfl h (fun h => ?_) (fun h => ?_)))
    · obtain rfl := Option.some.inj h
      exact ch_iconst _ 1 dX3_isStep_49 rfl (ch_goto 54 dX3_isStep_50 rfl (ch_ireturn _ dX3_isStep_54 rfl rfl hk))
    · refine ch_iload_n 1 _ dX3_isStep_22 rfl (ch_iconst _ 4 dX3_isStep_23 rfl (cp_icmp_eq _ _ (tgt := 49) dX3_isStep_24 rfl h (fun h => ?_) (fun h => ?_)))
      · obtain rfl := Option.some.inj h
        exact ch_iconst _ 1 dX3_isStep_49 rfl (ch_goto 54 dX3_isStep_50 rfl (ch_ireturn _ dX3_isStep_54 rfl rfl hk))
      · refine ch_iload_n 1 _ dX3_isStep_27 rfl (cp_if_ne _ (tgt := 53) dX3_isStep_28 rfl h (fun h => ?_) (fun h => ?_))
        · obtain rfl := Option.some.inj h
          exact ch_iconst _ 0 dX3_isStep_53 rfl (ch_ireturn _ dX3_isStep_54 rfl rfl hk)
        · refine ch_aload_n 0 (some m) dX3_isStep_31 rfl (ch_aload_n 0 (some m) dX3_isStep_32 rfl (mp_gA 105 dX3_isStep_33 fl_X3_208 rfl (ch_aload_n 0 (some m) dX3_isStep_36 rfl (mp_gI 103 dX3_isStep_37 fl_X3_584 rfl (ch_iconst _ 1 dX3_isStep_40 rfl (ch_isub _ _ dX3_isStep_41 (mp_iald dX3_isStep_42 mk_105 h (fun v2 h => ?_))))))))
          obtain ⟨v3, hp4, h⟩ := ch_bd h
          refine ch_iv yX3_isLeaf prog_14_method_89_code 2 (some .boolean) (ci := 3) (q := (RX3, TX3, 109)) (b := m) (d' := 2) (av := [.int v2]) (rest := []) rfl dX3_isStep_43 q2218 q2220 rfl qs177 q2221 can_X3_isLeaf (Nat.le_of_ble_eq_true rfl) (Nat.le_of_ble_eq_true rfl) ch_put_tag (cp_kI (v := v3) (w1 := ch_put m w σ) (fun Q' hq => s_X3_isLeaf hp4 hq) ?_)
          refine cp_if_eq _ (tgt := 53) dX3_isStep_46 rfl h (fun h => ?_) (fun h => ?_)
          · obtain rfl := Option.some.inj h
            exact ch_iconst _ 0 dX3_isStep_53 rfl (ch_ireturn _ dX3_isStep_54 rfl rfl hk)
          · obtain rfl := Option.some.inj h
            exact ch_iconst _ 1 dX3_isStep_49 rfl (ch_goto 54 dX3_isStep_50 rfl (ch_ireturn _ dX3_isStep_54 rfl rfl hk))

theorem bX3_unfold_0 : ch_ck cX3_unfold 0 [42, 180, 0, 25, 27, 46, 61, 28, 16, 16, 159, 0, 9, 28, 16, 17] := ch_ckof (by decide +kernel)
theorem bX3_unfold_1 : ch_ck cX3_unfold 16 [160, 0, 21, 42, 5, 27, 182, 2, 84, 42, 3, 42, 180, 0, 28, 27] := ch_ckof (by decide +kernel)
theorem bX3_unfold_2 : ch_ck cX3_unfold 32 [46, 182, 2, 84, 177, 42, 4, 27, 182, 2, 84, 28, 16, 8, 159, 0] := ch_ckof (by decide +kernel)
theorem bX3_unfold_3 : ch_ck cX3_unfold 48 [9, 28, 16, 9, 160, 0, 40, 42, 180, 0, 141, 27, 46, 4, 100, 62] := ch_ckof (by decide +kernel)
theorem bX3_unfold_4 : ch_ck cX3_unfold 64 [29, 155, 0, 27, 42, 3, 42, 180, 0, 40, 42, 180, 0, 31, 27, 46] := ch_ckof (by decide +kernel)
theorem bX3_unfold_5 : ch_ck cX3_unfold 80 [29, 96, 46, 182, 2, 84, 132, 3, 255, 167, 255, 231, 28, 16, 15, 159] := ch_ckof (by decide +kernel)
theorem bX3_unfold_6 : ch_ck cX3_unfold 96 [0, 9, 28, 16, 7, 160, 0, 14, 42, 3, 42, 180, 0, 31, 27, 46] := ch_ckof (by decide +kernel)
theorem bX3_unfold_7 : ch_ck cX3_unfold 112 [182, 2, 84, 28, 16, 9, 159, 0, 14, 42, 3, 42, 180, 0, 28, 27] := ch_ckof (by decide +kernel)
theorem bX3_unfold_8 : ch_ck cX3_unfold 128 [46, 182, 2, 84, 177] := ch_ckof (by decide +kernel)
theorem dX3_unfold_0 : decode cX3_unfold 0 = .ok (.aload_n 0, 1) := dz_42 (bX3_unfold_0 0 _ rfl)
theorem dX3_unfold_1 : decode cX3_unfold 1 = .ok (.getfield 25, 3) := dz_180 (bX3_unfold_0 1 _ rfl) (bX3_unfold_0 2 _ rfl) (bX3_unfold_0 3 _ rfl)
theorem dX3_unfold_4 : decode cX3_unfold 4 = .ok (.iload_n 1, 1) := dz_27 (bX3_unfold_0 4 _ rfl)
theorem dX3_unfold_5 : decode cX3_unfold 5 = .ok (.iaload, 1) := dz_46 (bX3_unfold_0 5 _ rfl)
theorem dX3_unfold_6 : decode cX3_unfold 6 = .ok (.istore_n 2, 1) := dz_61 (bX3_unfold_0 6 _ rfl)
theorem dX3_unfold_7 : decode cX3_unfold 7 = .ok (.iload_n 2, 1) := dz_28 (bX3_unfold_0 7 _ rfl)
theorem dX3_unfold_8 : decode cX3_unfold 8 = .ok (.bipush 16, 2) := dz_16 (bX3_unfold_0 8 _ rfl) (bX3_unfold_0 9 _ rfl)
theorem dX3_unfold_10 : decode cX3_unfold 10 = .ok (.if_icmp .eq 9, 3) := dz_159 (bX3_unfold_0 10 _ rfl) (bX3_unfold_0 11 _ rfl) (bX3_unfold_0 12 _ rfl)
theorem dX3_unfold_13 : decode cX3_unfold 13 = .ok (.iload_n 2, 1) := dz_28 (bX3_unfold_0 13 _ rfl)
theorem dX3_unfold_14 : decode cX3_unfold 14 = .ok (.bipush 17, 2) := dz_16 (bX3_unfold_0 14 _ rfl) (bX3_unfold_0 15 _ rfl)
theorem dX3_unfold_16 : decode cX3_unfold 16 = .ok (.if_icmp .ne 21, 3) := dz_160 (bX3_unfold_1 0 _ rfl) (bX3_unfold_1 1 _ rfl) (bX3_unfold_1 2 _ rfl)
theorem dX3_unfold_19 : decode cX3_unfold 19 = .ok (.aload_n 0, 1) := dz_42 (bX3_unfold_1 3 _ rfl)
theorem dX3_unfold_20 : decode cX3_unfold 20 = .ok (.iconst 2, 1) := dz_5 (bX3_unfold_1 4 _ rfl)
theorem dX3_unfold_21 : decode cX3_unfold 21 = .ok (.iload_n 1, 1) := dz_27 (bX3_unfold_1 5 _ rfl)
theorem dX3_unfold_22 : decode cX3_unfold 22 = .ok (.invokevirtual 596, 3) := dz_182 (bX3_unfold_1 6 _ rfl) (bX3_unfold_1 7 _ rfl) (bX3_unfold_1 8 _ rfl)
theorem dX3_unfold_25 : decode cX3_unfold 25 = .ok (.aload_n 0, 1) := dz_42 (bX3_unfold_1 9 _ rfl)
theorem dX3_unfold_26 : decode cX3_unfold 26 = .ok (.iconst 0, 1) := dz_3 (bX3_unfold_1 10 _ rfl)
theorem dX3_unfold_27 : decode cX3_unfold 27 = .ok (.aload_n 0, 1) := dz_42 (bX3_unfold_1 11 _ rfl)
theorem dX3_unfold_28 : decode cX3_unfold 28 = .ok (.getfield 28, 3) := dz_180 (bX3_unfold_1 12 _ rfl) (bX3_unfold_1 13 _ rfl) (bX3_unfold_1 14 _ rfl)
theorem dX3_unfold_31 : decode cX3_unfold 31 = .ok (.iload_n 1, 1) := dz_27 (bX3_unfold_1 15 _ rfl)
theorem dX3_unfold_32 : decode cX3_unfold 32 = .ok (.iaload, 1) := dz_46 (bX3_unfold_2 0 _ rfl)
theorem dX3_unfold_33 : decode cX3_unfold 33 = .ok (.invokevirtual 596, 3) := dz_182 (bX3_unfold_2 1 _ rfl) (bX3_unfold_2 2 _ rfl) (bX3_unfold_2 3 _ rfl)
theorem dX3_unfold_36 : decode cX3_unfold 36 = .ok (.return_, 1) := dz_177 (bX3_unfold_2 4 _ rfl)
theorem dX3_unfold_37 : decode cX3_unfold 37 = .ok (.aload_n 0, 1) := dz_42 (bX3_unfold_2 5 _ rfl)
theorem dX3_unfold_38 : decode cX3_unfold 38 = .ok (.iconst 1, 1) := dz_4 (bX3_unfold_2 6 _ rfl)
theorem dX3_unfold_39 : decode cX3_unfold 39 = .ok (.iload_n 1, 1) := dz_27 (bX3_unfold_2 7 _ rfl)
theorem dX3_unfold_40 : decode cX3_unfold 40 = .ok (.invokevirtual 596, 3) := dz_182 (bX3_unfold_2 8 _ rfl) (bX3_unfold_2 9 _ rfl) (bX3_unfold_2 10 _ rfl)
theorem dX3_unfold_43 : decode cX3_unfold 43 = .ok (.iload_n 2, 1) := dz_28 (bX3_unfold_2 11 _ rfl)
theorem dX3_unfold_44 : decode cX3_unfold 44 = .ok (.bipush 8, 2) := dz_16 (bX3_unfold_2 12 _ rfl) (bX3_unfold_2 13 _ rfl)
theorem dX3_unfold_46 : decode cX3_unfold 46 = .ok (.if_icmp .eq 9, 3) := dz_159 (bX3_unfold_2 14 _ rfl) (bX3_unfold_2 15 _ rfl) (bX3_unfold_3 0 _ rfl)
theorem dX3_unfold_49 : decode cX3_unfold 49 = .ok (.iload_n 2, 1) := dz_28 (bX3_unfold_3 1 _ rfl)
theorem dX3_unfold_50 : decode cX3_unfold 50 = .ok (.bipush 9, 2) := dz_16 (bX3_unfold_3 2 _ rfl) (bX3_unfold_3 3 _ rfl)
theorem dX3_unfold_52 : decode cX3_unfold 52 = .ok (.if_icmp .ne 40, 3) := dz_160 (bX3_unfold_3 4 _ rfl) (bX3_unfold_3 5 _ rfl) (bX3_unfold_3 6 _ rfl)
theorem dX3_unfold_55 : decode cX3_unfold 55 = .ok (.aload_n 0, 1) := dz_42 (bX3_unfold_3 7 _ rfl)
theorem dX3_unfold_56 : decode cX3_unfold 56 = .ok (.getfield 141, 3) := dz_180 (bX3_unfold_3 8 _ rfl) (bX3_unfold_3 9 _ rfl) (bX3_unfold_3 10 _ rfl)
theorem dX3_unfold_59 : decode cX3_unfold 59 = .ok (.iload_n 1, 1) := dz_27 (bX3_unfold_3 11 _ rfl)
theorem dX3_unfold_60 : decode cX3_unfold 60 = .ok (.iaload, 1) := dz_46 (bX3_unfold_3 12 _ rfl)
theorem dX3_unfold_61 : decode cX3_unfold 61 = .ok (.iconst 1, 1) := dz_4 (bX3_unfold_3 13 _ rfl)
theorem dX3_unfold_62 : decode cX3_unfold 62 = .ok (.isub, 1) := dz_100 (bX3_unfold_3 14 _ rfl)
theorem dX3_unfold_63 : decode cX3_unfold 63 = .ok (.istore_n 3, 1) := dz_62 (bX3_unfold_3 15 _ rfl)
theorem dX3_unfold_64 : decode cX3_unfold 64 = .ok (.iload_n 3, 1) := dz_29 (bX3_unfold_4 0 _ rfl)
theorem dX3_unfold_65 : decode cX3_unfold 65 = .ok (.ifCond .lt 27, 3) := dz_155 (bX3_unfold_4 1 _ rfl) (bX3_unfold_4 2 _ rfl) (bX3_unfold_4 3 _ rfl)
theorem dX3_unfold_68 : decode cX3_unfold 68 = .ok (.aload_n 0, 1) := dz_42 (bX3_unfold_4 4 _ rfl)
theorem dX3_unfold_69 : decode cX3_unfold 69 = .ok (.iconst 0, 1) := dz_3 (bX3_unfold_4 5 _ rfl)
theorem dX3_unfold_70 : decode cX3_unfold 70 = .ok (.aload_n 0, 1) := dz_42 (bX3_unfold_4 6 _ rfl)
theorem dX3_unfold_71 : decode cX3_unfold 71 = .ok (.getfield 40, 3) := dz_180 (bX3_unfold_4 7 _ rfl) (bX3_unfold_4 8 _ rfl) (bX3_unfold_4 9 _ rfl)
theorem dX3_unfold_74 : decode cX3_unfold 74 = .ok (.aload_n 0, 1) := dz_42 (bX3_unfold_4 10 _ rfl)
theorem dX3_unfold_75 : decode cX3_unfold 75 = .ok (.getfield 31, 3) := dz_180 (bX3_unfold_4 11 _ rfl) (bX3_unfold_4 12 _ rfl) (bX3_unfold_4 13 _ rfl)
theorem dX3_unfold_78 : decode cX3_unfold 78 = .ok (.iload_n 1, 1) := dz_27 (bX3_unfold_4 14 _ rfl)
theorem dX3_unfold_79 : decode cX3_unfold 79 = .ok (.iaload, 1) := dz_46 (bX3_unfold_4 15 _ rfl)
theorem dX3_unfold_80 : decode cX3_unfold 80 = .ok (.iload_n 3, 1) := dz_29 (bX3_unfold_5 0 _ rfl)
theorem dX3_unfold_81 : decode cX3_unfold 81 = .ok (.iadd, 1) := dz_96 (bX3_unfold_5 1 _ rfl)
theorem dX3_unfold_82 : decode cX3_unfold 82 = .ok (.iaload, 1) := dz_46 (bX3_unfold_5 2 _ rfl)
theorem dX3_unfold_83 : decode cX3_unfold 83 = .ok (.invokevirtual 596, 3) := dz_182 (bX3_unfold_5 3 _ rfl) (bX3_unfold_5 4 _ rfl) (bX3_unfold_5 5 _ rfl)
theorem dX3_unfold_86 : decode cX3_unfold 86 = .ok (.iinc 3 (-1), 3) := dz_132 (bX3_unfold_5 6 _ rfl) (bX3_unfold_5 7 _ rfl) (bX3_unfold_5 8 _ rfl)
theorem dX3_unfold_89 : decode cX3_unfold 89 = .ok (.goto (-25), 3) := dz_167 (bX3_unfold_5 9 _ rfl) (bX3_unfold_5 10 _ rfl) (bX3_unfold_5 11 _ rfl)
theorem dX3_unfold_92 : decode cX3_unfold 92 = .ok (.iload_n 2, 1) := dz_28 (bX3_unfold_5 12 _ rfl)
theorem dX3_unfold_93 : decode cX3_unfold 93 = .ok (.bipush 15, 2) := dz_16 (bX3_unfold_5 13 _ rfl) (bX3_unfold_5 14 _ rfl)
theorem dX3_unfold_95 : decode cX3_unfold 95 = .ok (.if_icmp .eq 9, 3) := dz_159 (bX3_unfold_5 15 _ rfl) (bX3_unfold_6 0 _ rfl) (bX3_unfold_6 1 _ rfl)
theorem dX3_unfold_98 : decode cX3_unfold 98 = .ok (.iload_n 2, 1) := dz_28 (bX3_unfold_6 2 _ rfl)
theorem dX3_unfold_99 : decode cX3_unfold 99 = .ok (.bipush 7, 2) := dz_16 (bX3_unfold_6 3 _ rfl) (bX3_unfold_6 4 _ rfl)
theorem dX3_unfold_101 : decode cX3_unfold 101 = .ok (.if_icmp .ne 14, 3) := dz_160 (bX3_unfold_6 5 _ rfl) (bX3_unfold_6 6 _ rfl) (bX3_unfold_6 7 _ rfl)
theorem dX3_unfold_104 : decode cX3_unfold 104 = .ok (.aload_n 0, 1) := dz_42 (bX3_unfold_6 8 _ rfl)
theorem dX3_unfold_105 : decode cX3_unfold 105 = .ok (.iconst 0, 1) := dz_3 (bX3_unfold_6 9 _ rfl)
theorem dX3_unfold_106 : decode cX3_unfold 106 = .ok (.aload_n 0, 1) := dz_42 (bX3_unfold_6 10 _ rfl)
theorem dX3_unfold_107 : decode cX3_unfold 107 = .ok (.getfield 31, 3) := dz_180 (bX3_unfold_6 11 _ rfl) (bX3_unfold_6 12 _ rfl) (bX3_unfold_6 13 _ rfl)
theorem dX3_unfold_110 : decode cX3_unfold 110 = .ok (.iload_n 1, 1) := dz_27 (bX3_unfold_6 14 _ rfl)
theorem dX3_unfold_111 : decode cX3_unfold 111 = .ok (.iaload, 1) := dz_46 (bX3_unfold_6 15 _ rfl)
theorem dX3_unfold_112 : decode cX3_unfold 112 = .ok (.invokevirtual 596, 3) := dz_182 (bX3_unfold_7 0 _ rfl) (bX3_unfold_7 1 _ rfl) (bX3_unfold_7 2 _ rfl)
theorem dX3_unfold_115 : decode cX3_unfold 115 = .ok (.iload_n 2, 1) := dz_28 (bX3_unfold_7 3 _ rfl)
theorem dX3_unfold_116 : decode cX3_unfold 116 = .ok (.bipush 9, 2) := dz_16 (bX3_unfold_7 4 _ rfl) (bX3_unfold_7 5 _ rfl)
theorem dX3_unfold_118 : decode cX3_unfold 118 = .ok (.if_icmp .eq 14, 3) := dz_159 (bX3_unfold_7 6 _ rfl) (bX3_unfold_7 7 _ rfl) (bX3_unfold_7 8 _ rfl)
theorem dX3_unfold_121 : decode cX3_unfold 121 = .ok (.aload_n 0, 1) := dz_42 (bX3_unfold_7 9 _ rfl)
theorem dX3_unfold_122 : decode cX3_unfold 122 = .ok (.iconst 0, 1) := dz_3 (bX3_unfold_7 10 _ rfl)
theorem dX3_unfold_123 : decode cX3_unfold 123 = .ok (.aload_n 0, 1) := dz_42 (bX3_unfold_7 11 _ rfl)
theorem dX3_unfold_124 : decode cX3_unfold 124 = .ok (.getfield 28, 3) := dz_180 (bX3_unfold_7 12 _ rfl) (bX3_unfold_7 13 _ rfl) (bX3_unfold_7 14 _ rfl)
theorem dX3_unfold_127 : decode cX3_unfold 127 = .ok (.iload_n 1, 1) := dz_27 (bX3_unfold_7 15 _ rfl)
theorem dX3_unfold_128 : decode cX3_unfold 128 = .ok (.iaload, 1) := dz_46 (bX3_unfold_8 0 _ rfl)
theorem dX3_unfold_129 : decode cX3_unfold 129 = .ok (.invokevirtual 596, 3) := dz_182 (bX3_unfold_8 1 _ rfl) (bX3_unfold_8 2 _ rfl) (bX3_unfold_8 3 _ rfl)
theorem dX3_unfold_132 : decode cX3_unfold 132 = .ok (.return_, 1) := dz_177 (bX3_unfold_8 4 _ rfl)
def m_X3_unfold_19 (x1 : Int32)  (σ : ch_S) : Option (ch_S) := (m_X3_todo 2 x1 σ).bind fun p1 => (ch_ma p1 fX3_one x1).bind fun v3 => (m_X3_todo 0 v3 p1).bind fun p4 => some (p4)
theorem s_X3_unfold_19 {g : State} {m : Nat} {w : ch_W} {x1 : Int32} {σ : ch_S} {res : ch_S} {Q : Outcome → ch_W → Prop} (h : m_X3_unfold_19 x1 σ = some res) (hk : (fun r => ch_eV Q (ch_put m w r)) res) : ch_FT g false mX3_unfold 3 19 [some (va_rf (some m)), some (.int x1), none, none] [] (ch_put m w σ) Q := by
  unfold m_X3_unfold_19 at h
  obtain ⟨p1, hp2, h⟩ := ch_bd h
  refine ch_aload_n 0 (some m) dX3_unfold_19 rfl (ch_iconst _ 2 dX3_unfold_20 rfl (ch_iload_n 1 _ dX3_unfold_21 rfl (ch_iv yX3_todo prog_14_method_83_code 3 none (ci := 3) (q := (RX3, TX3, 109)) (b := m) (d' := 2) (av := [.int 2, .int x1]) (rest := []) rfl dX3_unfold_22 q2206 q2208 rfl qs174 q2209 can_X3_todo (Nat.le_of_ble_eq_true rfl) (Nat.le_of_ble_eq_true rfl) ch_put_tag (cp_kV (w1 := ch_put m w p1) (fun Q' hq => s_X3_todo hp2 hq) ?_))))
  refine ch_aload_n 0 (some m) dX3_unfold_25 rfl (ch_iconst _ 0 dX3_unfold_26 rfl (ch_aload_n 0 (some m) dX3_unfold_27 rfl (mp_gA 17 dX3_unfold_28 fl_X3_28 rfl (ch_iload_n 1 _ dX3_unfold_31 rfl (mp_iald dX3_unfold_32 mk_17 h (fun v3 h => ?_))))))
  obtain ⟨p4, hp5, h⟩ := ch_bd h
  refine ch_iv yX3_todo prog_14_method_83_code 3 none (ci := 3) (q := (RX3, TX3, 109)) (b := m) (d' := 2) (av := [.int 0, .int v3]) (rest := []) rfl dX3_unfold_33 q2206 q2208 rfl qs174 q2209 can_X3_todo (Nat.le_of_ble_eq_true rfl) (Nat.le_of_ble_eq_true rfl) ch_put_tag (cp_kV (w1 := ch_put m w p4) (fun Q' hq => s_X3_todo hp5 hq) ?_)
  obtain rfl := Option.some.inj h
  exact ch_return dX3_unfold_36 rfl hk

def m_X3_unfold_115 (x1 : Int32) (x2 : Int32)  (σ : ch_S) : Option (ch_S) := if x2 = 9 then (some (σ)) else ((ch_ma σ fX3_one x1).bind fun v1 => (m_X3_todo 0 v1 σ).bind fun p2 => some (p2))
theorem s_X3_unfold_115 {g : State} {m : Nat} {w : ch_W} {x1 : Int32} {x2 : Int32} {σ : ch_S} {res : ch_S} {Q : Outcome → ch_W → Prop} (h : m_X3_unfold_115 x1 x2 σ = some res) (hk : (fun r => ch_eV Q (ch_put m w r)) res) : ch_FT g false mX3_unfold 3 115 [some (va_rf (some m)), some (.int x1), some (.int x2), none] [] (ch_put m w σ) Q := by
  unfold m_X3_unfold_115 at h
  refine ch_iload_n 2 _ dX3_unfold_115 rfl (ch_bipush _ 9 dX3_unfold_116 rfl (cp_icmp_eq _ _ (tgt := 132) dX3_unfold_118 rfl h (fun h => ?_) (fun h => ?_)))
  · obtain rfl := Option.some.inj h
    exact ch_return dX3_unfold_132 rfl hk
  · refine ch_aload_n 0 (some m) dX3_unfold_121 rfl (ch_iconst _ 0 dX3_unfold_122 rfl (ch_aload_n 0 (some m) dX3_unfold_123 rfl (mp_gA 17 dX3_unfold_124 fl_X3_28 rfl (ch_iload_n 1 _ dX3_unfold_127 rfl (mp_iald dX3_unfold_128 mk_17 h (fun v1 h => ?_))))))
    obtain ⟨p2, hp3, h⟩ := ch_bd h
    refine ch_iv yX3_todo prog_14_method_83_code 3 none (ci := 3) (q := (RX3, TX3, 109)) (b := m) (d' := 2) (av := [.int 0, .int v1]) (rest := []) rfl dX3_unfold_129 q2206 q2208 rfl qs174 q2209 can_X3_todo (Nat.le_of_ble_eq_true rfl) (Nat.le_of_ble_eq_true rfl) ch_put_tag (cp_kV (w1 := ch_put m w p2) (fun Q' hq => s_X3_todo hp3 hq) ?_)
    obtain rfl := Option.some.inj h
    exact ch_return dX3_unfold_132 rfl hk

def m_X3_unfold_104 (x1 : Int32) (x2 : Int32)  (σ : ch_S) : Option (ch_S) := (ch_ma σ fX3_two x1).bind fun v1 => (m_X3_todo 0 v1 σ).bind fun p2 => m_X3_unfold_115 x1 x2 p2
theorem s_X3_unfold_104 {g : State} {m : Nat} {w : ch_W} {x1 : Int32} {x2 : Int32} {σ : ch_S} {res : ch_S} {Q : Outcome → ch_W → Prop} (h : m_X3_unfold_104 x1 x2 σ = some res) (hk : (fun r => ch_eV Q (ch_put m w r)) res) : ch_FT g false mX3_unfold 3 104 [some (va_rf (some m)), some (.int x1), some (.int x2), none] [] (ch_put m w σ) Q := by
  unfold m_X3_unfold_104 at h
  refine ch_aload_n 0 (some m) dX3_unfold_104 rfl (ch_iconst _ 0 dX3_unfold_105 rfl (ch_aload_n 0 (some m) dX3_unfold_106 rfl (mp_gA 18 dX3_unfold_107 fl_X3_31 rfl (ch_iload_n 1 _ dX3_unfold_110 rfl (mp_iald dX3_unfold_111 mk_18 h (fun v1 h => ?_))))))
  obtain ⟨p2, hp3, h⟩ := ch_bd h
  refine ch_iv yX3_todo prog_14_method_83_code 3 none (ci := 3) (q := (RX3, TX3, 109)) (b := m) (d' := 2) (av := [.int 0, .int v1]) (rest := []) rfl dX3_unfold_112 q2206 q2208 rfl qs174 q2209 can_X3_todo (Nat.le_of_ble_eq_true rfl) (Nat.le_of_ble_eq_true rfl) ch_put_tag (cp_kV (w1 := ch_put m w p2) (fun Q' hq => s_X3_todo hp3 hq) ?_)
  exact ch_FT.wk (ch_wS (ch_wS (ch_wS (ch_wN ch_w0)))) (s_X3_unfold_115  h hk)

def m_X3_unfold_92 (x1 : Int32) (x2 : Int32)  (σ : ch_S) : Option (ch_S) := if x2 = 15 then (m_X3_unfold_104 x1 x2 σ) else (if x2 = 7 then (m_X3_unfold_104 x1 x2 σ) else (m_X3_unfold_115 x1 x2 σ))
theorem s_X3_unfold_92 {g : State} {m : Nat} {w : ch_W} {x1 : Int32} {x2 : Int32} {σ : ch_S} {res : ch_S} {Q : Outcome → ch_W → Prop} (h : m_X3_unfold_92 x1 x2 σ = some res) (hk : (fun r => ch_eV Q (ch_put m w r)) res) : ch_FT g false mX3_unfold 3 92 [some (va_rf (some m)), some (.int x1), some (.int x2), none] [] (ch_put m w σ) Q := by
  unfold m_X3_unfold_92 at h
  refine ch_iload_n 2 _ dX3_unfold_92 rfl (ch_bipush _ 15 dX3_unfold_93 rfl (cp_icmp_eq _ _ (tgt := 104) dX3_unfold_95 rfl h (fun h => ?_) (fun h => ?_)))
  · exact ch_FT.wk (ch_wS (ch_wS (ch_wS (ch_wN ch_w0)))) (s_X3_unfold_104  h hk)
  · refine ch_iload_n 2 _ dX3_unfold_98 rfl (ch_bipush _ 7 dX3_unfold_99 rfl (cp_icmp_ne _ _ (tgt := 115) dX3_unfold_101 rfl h (fun h => ?_) (fun h => ?_)))
    · exact ch_FT.wk (ch_wS (ch_wS (ch_wS (ch_wN ch_w0)))) (s_X3_unfold_115  h hk)
    · exact ch_FT.wk (ch_wS (ch_wS (ch_wS (ch_wN ch_w0)))) (s_X3_unfold_104  h hk)

def m_X3_unfold_64 (x1 : Int32) (x2 : Int32) (x3 : Int32)  (σ : ch_S) : Option ((Int32 × ch_S) ⊕ (ch_S)) := if x3 < 0 then ((m_X3_unfold_92 x1 x2 σ).bind fun r => some (.inr (r))) else ((ch_ma σ fX3_two x1).bind fun v1 => (ch_ma σ fX3_list (v1 + x3)).bind fun v2 => (m_X3_todo 0 v2 σ).bind fun p3 => some (.inl (x3 + (-1), p3)))
theorem s_X3_unfold_64 {g : State} {m : Nat} {w : ch_W} {x1 : Int32} {x2 : Int32} {x3 : Int32} {σ : ch_S} {res : (Int32 × ch_S) ⊕ (ch_S)} {Q : Outcome → ch_W → Prop} (h : m_X3_unfold_64 x1 x2 x3 σ = some res) (hk : (ch_sm (fun s => ch_FT g false mX3_unfold 3 64 [some (va_rf (some m)), some (.int x1), some (.int x2), some (.int s.1)] [] (ch_put m w s.2) Q) (fun r => ch_eV Q (ch_put m w r))) res) : ch_FT g false mX3_unfold 3 64 [some (va_rf (some m)), some (.int x1), some (.int x2), some (.int x3)] [] (ch_put m w σ) Q := by
  unfold m_X3_unfold_64 at h
  refine ch_iload_n 3 _ dX3_unfold_64 rfl (cp_if_lt _ (tgt := 92) dX3_unfold_65 rfl h (fun h => ?_) (fun h => ?_))
  · obtain ⟨r, hr, h⟩ := ch_bd h
    obtain rfl := Option.some.inj h
    exact ch_FT.wk (ch_wS (ch_wS (ch_wS (ch_wN ch_w0)))) (s_X3_unfold_92  hr hk)
  · refine ch_aload_n 0 (some m) dX3_unfold_68 rfl (ch_iconst _ 0 dX3_unfold_69 rfl (ch_aload_n 0 (some m) dX3_unfold_70 rfl (mp_gA 22 dX3_unfold_71 fl_X3_40 rfl (ch_aload_n 0 (some m) dX3_unfold_74 rfl (mp_gA 18 dX3_unfold_75 fl_X3_31 rfl (ch_iload_n 1 _ dX3_unfold_78 rfl (mp_iald dX3_unfold_79 mk_18 h (fun v1 h => ?_))))))))
    refine ch_iload_n 3 _ dX3_unfold_80 rfl (ch_iadd _ _ dX3_unfold_81 (mp_iald dX3_unfold_82 mk_22 h (fun v2 h => ?_)))
    obtain ⟨p3, hp4, h⟩ := ch_bd h
    refine ch_iv yX3_todo prog_14_method_83_code 3 none (ci := 3) (q := (RX3, TX3, 109)) (b := m) (d' := 2) (av := [.int 0, .int v2]) (rest := []) rfl dX3_unfold_83 q2206 q2208 rfl qs174 q2209 can_X3_todo (Nat.le_of_ble_eq_true rfl) (Nat.le_of_ble_eq_true rfl) ch_put_tag (cp_kV (w1 := ch_put m w p3) (fun Q' hq => s_X3_todo hp4 hq) ?_)
    refine ch_iinc 3 _ _ (x3 + (-1)) (ls1 := [some (va_rf (some m)), some (.int x1), some (.int x2), some (.int (x3 + (-1)))]) dX3_unfold_86 rfl rfl (Nat.le_of_ble_eq_true rfl) rfl (ch_goto 64 dX3_unfold_89 rfl (ch_FT.wk (ch_wS (ch_wS (ch_wS (ch_wS ch_w0)))) ?_))
    obtain rfl := Option.some.inj h
    exact hk
theorem sl_X3_unfold_64 {g : State} {m : Nat} {w : ch_W} {x1 : Int32} {x2 : Int32} {a : Int32 × ch_S} {res : ch_S} {Q : Outcome → ch_W → Prop} (h : ch_loop (fun (s : Int32 × ch_S) => m_X3_unfold_64 x1 x2 s.1 s.2) a = some res) (hk : (fun r => ch_eV Q (ch_put m w r)) res) : ch_FT g false mX3_unfold 3 64 [some (va_rf (some m)), some (.int x1), some (.int x2), some (.int a.1)] [] (ch_put m w a.2) Q := by
  refine ch_loop_ind (fun (a : Int32 × ch_S) (r : ch_S) => (fun r => ch_eV Q (ch_put m w r)) r → ch_FT g false mX3_unfold 3 64 [some (va_rf (some m)), some (.int x1), some (.int x2), some (.int a.1)] [] (ch_put m w a.2) Q) ?_ ?_ a res h hk
  · intro a a2 b h1 ih hk
    exact s_X3_unfold_64  h1 (ih hk)
  · intro a b h1 hk
    exact s_X3_unfold_64  h1 hk

def m_X3_unfold_55 (x1 : Int32) (x2 : Int32)  (σ : ch_S) : Option (ch_S) := (ch_ma σ fX3_manyOf x1).bind fun v1 => ch_loop (fun (s : Int32 × ch_S) => m_X3_unfold_64 x1 x2 s.1 s.2) (v1 - 1, σ)
theorem s_X3_unfold_55 {g : State} {m : Nat} {w : ch_W} {x1 : Int32} {x2 : Int32} {σ : ch_S} {res : ch_S} {Q : Outcome → ch_W → Prop} (h : m_X3_unfold_55 x1 x2 σ = some res) (hk : (fun r => ch_eV Q (ch_put m w r)) res) : ch_FT g false mX3_unfold 3 55 [some (va_rf (some m)), some (.int x1), some (.int x2), none] [] (ch_put m w σ) Q := by
  unfold m_X3_unfold_55 at h
  refine ch_aload_n 0 (some m) dX3_unfold_55 rfl (mp_gA 68 dX3_unfold_56 fl_X3_141 rfl (ch_iload_n 1 _ dX3_unfold_59 rfl (mp_iald dX3_unfold_60 mk_68 h (fun v1 h => ?_))))
  exact ch_iconst _ 1 dX3_unfold_61 rfl (ch_isub _ _ dX3_unfold_62 (ch_istore_n 3 _ (ls1 := [some (va_rf (some m)), some (.int x1), some (.int x2), some (.int (v1 - 1))]) dX3_unfold_63 (Nat.le_of_ble_eq_true rfl) rfl (ch_FT.wk (ch_wS (ch_wS (ch_wS (ch_wS ch_w0)))) (sl_X3_unfold_64  h hk))))

def m_X3_unfold (x1 : Int32) (σ : ch_S) : Option (ch_S) := (ch_ma σ fX3_is x1).bind fun v1 => if v1 = 16 then (m_X3_unfold_19 x1 σ) else (if v1 = 17 then (m_X3_unfold_19 x1 σ) else ((m_X3_todo 1 x1 σ).bind fun p2 => if v1 = 8 then (m_X3_unfold_55 x1 v1 p2) else (if v1 = 9 then (m_X3_unfold_55 x1 v1 p2) else (m_X3_unfold_92 x1 v1 p2))))
theorem s_X3_unfold {g : State} {m : Nat} {w : ch_W} {x1 : Int32} {σ : ch_S} {res : ch_S} {Q : Outcome → ch_W → Prop} (h : m_X3_unfold x1 σ = some res) (hk : (fun r => ch_eV Q (ch_put m w r)) res) : ch_CT g false yX3_unfold 3 [.ref m, .int x1] (ch_put m w σ) Q := by
  unfold m_X3_unfold at h
  refine ch_ctL mX3_unfold (ls := [some (va_rf (some m)), some (.int x1), none, none]) q2225 rfl (ch_lyr (r := some m) (ch_lyi ch_ly0)) (Nat.le_of_ble_eq_true rfl) rfl ?_
  refine ch_aload_n 0 (some m) dX3_unfold_0 rfl (mp_gA 16 dX3_unfold_1 fl_X3_25 rfl (ch_iload_n 1 _ dX3_unfold_4 rfl (mp_iald dX3_unfold_5 mk_16 h (fun v1 h => ?_))))
  refine ch_istore_n 2 _ (ls1 := [some (va_rf (some m)), some (.int x1), some (.int v1), none]) dX3_unfold_6 (Nat.le_of_ble_eq_true rfl) rfl (ch_iload_n 2 _ dX3_unfold_7 rfl (ch_bipush _ 16 dX3_unfold_8 rfl (cp_icmp_eq _ _ (tgt := 19) dX3_unfold_10 rfl h (fun h => ?_) (fun h => ?_))))
  · exact ch_FT.wk (ch_wS (ch_wS (ch_wN (ch_wN ch_w0)))) (s_X3_unfold_19  h hk)
  · refine ch_iload_n 2 _ dX3_unfold_13 rfl (ch_bipush _ 17 dX3_unfold_14 rfl (cp_icmp_ne _ _ (tgt := 37) dX3_unfold_16 rfl h (fun h => ?_) (fun h => ?_)))
    · obtain ⟨p2, hp3, h⟩ := ch_bd h
      refine ch_aload_n 0 (some m) dX3_unfold_37 rfl (ch_iconst _ 1 dX3_unfold_38 rfl (ch_iload_n 1 _ dX3_unfold_39 rfl (ch_iv yX3_todo prog_14_method_83_code 3 none (ci := 3) (q := (RX3, TX3, 109)) (b := m) (d' := 2) (av := [.int 1, .int x1]) (rest := []) rfl dX3_unfold_40 q2206 q2208 rfl qs174 q2209 can_X3_todo (Nat.le_of_ble_eq_true rfl) (Nat.le_of_ble_eq_true rfl) ch_put_tag (cp_kV (w1 := ch_put m w p2) (fun Q' hq => s_X3_todo hp3 hq) ?_))))
      refine ch_iload_n 2 _ dX3_unfold_43 rfl (ch_bipush _ 8 dX3_unfold_44 rfl (cp_icmp_eq _ _ (tgt := 55) dX3_unfold_46 rfl h (fun h => ?_) (fun h => ?_)))
      · exact ch_FT.wk (ch_wS (ch_wS (ch_wS (ch_wN ch_w0)))) (s_X3_unfold_55  h hk)
      · refine ch_iload_n 2 _ dX3_unfold_49 rfl (ch_bipush _ 9 dX3_unfold_50 rfl (cp_icmp_ne _ _ (tgt := 92) dX3_unfold_52 rfl h (fun h => ?_) (fun h => ?_)))
        · exact ch_FT.wk (ch_wS (ch_wS (ch_wS (ch_wN ch_w0)))) (s_X3_unfold_92  h hk)
        · exact ch_FT.wk (ch_wS (ch_wS (ch_wS (ch_wN ch_w0)))) (s_X3_unfold_55  h hk)
    · exact ch_FT.wk (ch_wS (ch_wS (ch_wN (ch_wN ch_w0)))) (s_X3_unfold_19  h hk)

theorem bX3_begins_0 : ch_ck cX3_begins 0 [42, 180, 0, 46, 27, 46, 61, 28, 8, 160, 0, 81, 42, 180, 0, 211] := ch_ckof (by decide +kernel)
theorem bX3_begins_1 : ch_ck cX3_begins 16 [42, 180, 2, 81, 42, 180, 2, 48, 79, 42, 180, 0, 214, 42, 180, 2] := ch_ckof (by decide +kernel)
theorem bX3_begins_2 : ch_ck cX3_begins 32 [81, 42, 180, 0, 184, 42, 180, 2, 42, 4, 100, 46, 79, 42, 89, 180] := ch_ckof (by decide +kernel)
theorem bX3_begins_3 : ch_ck cX3_begins 48 [2, 81, 4, 96, 181, 2, 81, 42, 16, 7, 27, 182, 2, 84, 42, 8] := ch_ckof (by decide +kernel)
theorem bX3_begins_4 : ch_ck cX3_begins 64 [42, 180, 0, 184, 42, 180, 2, 42, 4, 100, 46, 182, 2, 84, 42, 6] := ch_ckof (by decide +kernel)
theorem bX3_begins_5 : ch_ck cX3_begins 80 [42, 180, 0, 70, 27, 46, 182, 2, 84, 177, 28, 154, 0, 50, 42, 180] := ch_ckof (by decide +kernel)
theorem bX3_begins_6 : ch_ck cX3_begins 96 [0, 55, 27, 46, 156, 0, 41, 42, 42, 180, 2, 42, 4, 100, 42, 180] := ch_ckof (by decide +kernel)
theorem bX3_begins_7 : ch_ck cX3_begins 112 [0, 67, 27, 46, 3, 3, 182, 2, 86, 42, 180, 0, 184, 42, 180, 2] := ch_ckof (by decide +kernel)
theorem bX3_begins_8 : ch_ck cX3_begins 128 [42, 4, 100, 42, 180, 0, 67, 27, 46, 4, 96, 79, 177, 28, 16, 7] := ch_ckof (by decide +kernel)
theorem bX3_begins_9 : ch_ck cX3_begins 144 [160, 0, 37, 42, 180, 0, 37, 42, 180, 0, 55, 27, 46, 46, 6, 159] := ch_ckof (by decide +kernel)
theorem bX3_begins_10 : ch_ck cX3_begins 160 [0, 10, 42, 16, 6, 3, 182, 2, 84, 42, 3, 42, 180, 0, 55, 27] := ch_ckof (by decide +kernel)
theorem bX3_begins_11 : ch_ck cX3_begins 176 [46, 182, 2, 84, 177, 42, 7, 27, 182, 2, 84, 42, 180, 0, 55, 27] := ch_ckof (by decide +kernel)
theorem bX3_begins_12 : ch_ck cX3_begins 192 [46, 155, 0, 14, 42, 3, 42, 180, 0, 55, 27, 46, 182, 2, 84, 28] := ch_ckof (by decide +kernel)
theorem bX3_begins_13 : ch_ck cX3_begins 208 [16, 8, 159, 0, 4, 177, 42, 180, 0, 58, 27, 46, 62, 42, 180, 0] := ch_ckof (by decide +kernel)
theorem bX3_begins_14 : ch_ck cX3_begins 224 [25, 29, 46, 16, 7, 160, 0, 14, 42, 3, 42, 180, 0, 31, 29, 46] := ch_ckof (by decide +kernel)
theorem bX3_begins_15 : ch_ck cX3_begins 240 [182, 2, 84, 42, 180, 0, 25, 29, 46, 16, 7, 159, 0, 14, 42, 180] := ch_ckof (by decide +kernel)
theorem bX3_begins_16 : ch_ck cX3_begins 256 [0, 25, 29, 46, 16, 6, 160, 0, 14, 42, 3, 42, 180, 0, 28, 29] := ch_ckof (by decide +kernel)
theorem bX3_begins_17 : ch_ck cX3_begins 272 [46, 182, 2, 84, 177] := ch_ckof (by decide +kernel)
theorem dX3_begins_0 : decode cX3_begins 0 = .ok (.aload_n 0, 1) := dz_42 (bX3_begins_0 0 _ rfl)
theorem dX3_begins_1 : decode cX3_begins 1 = .ok (.getfield 46, 3) := dz_180 (bX3_begins_0 1 _ rfl) (bX3_begins_0 2 _ rfl) (bX3_begins_0 3 _ rfl)
theorem dX3_begins_4 : decode cX3_begins 4 = .ok (.iload_n 1, 1) := dz_27 (bX3_begins_0 4 _ rfl)
theorem dX3_begins_5 : decode cX3_begins 5 = .ok (.iaload, 1) := dz_46 (bX3_begins_0 5 _ rfl)
theorem dX3_begins_6 : decode cX3_begins 6 = .ok (.istore_n 2, 1) := dz_61 (bX3_begins_0 6 _ rfl)
theorem dX3_begins_7 : decode cX3_begins 7 = .ok (.iload_n 2, 1) := dz_28 (bX3_begins_0 7 _ rfl)
theorem dX3_begins_8 : decode cX3_begins 8 = .ok (.iconst 5, 1) := dz_8 (bX3_begins_0 8 _ rfl)
theorem dX3_begins_9 : decode cX3_begins 9 = .ok (.if_icmp .ne 81, 3) := dz_160 (bX3_begins_0 9 _ rfl) (bX3_begins_0 10 _ rfl) (bX3_begins_0 11 _ rfl)
theorem dX3_begins_12 : decode cX3_begins 12 = .ok (.aload_n 0, 1) := dz_42 (bX3_begins_0 12 _ rfl)
theorem dX3_begins_13 : decode cX3_begins 13 = .ok (.getfield 211, 3) := dz_180 (bX3_begins_0 13 _ rfl) (bX3_begins_0 14 _ rfl) (bX3_begins_0 15 _ rfl)
theorem dX3_begins_16 : decode cX3_begins 16 = .ok (.aload_n 0, 1) := dz_42 (bX3_begins_1 0 _ rfl)
theorem dX3_begins_17 : decode cX3_begins 17 = .ok (.getfield 593, 3) := dz_180 (bX3_begins_1 1 _ rfl) (bX3_begins_1 2 _ rfl) (bX3_begins_1 3 _ rfl)
theorem dX3_begins_20 : decode cX3_begins 20 = .ok (.aload_n 0, 1) := dz_42 (bX3_begins_1 4 _ rfl)
theorem dX3_begins_21 : decode cX3_begins 21 = .ok (.getfield 560, 3) := dz_180 (bX3_begins_1 5 _ rfl) (bX3_begins_1 6 _ rfl) (bX3_begins_1 7 _ rfl)
theorem dX3_begins_24 : decode cX3_begins 24 = .ok (.iastore, 1) := dz_79 (bX3_begins_1 8 _ rfl)
theorem dX3_begins_25 : decode cX3_begins 25 = .ok (.aload_n 0, 1) := dz_42 (bX3_begins_1 9 _ rfl)
theorem dX3_begins_26 : decode cX3_begins 26 = .ok (.getfield 214, 3) := dz_180 (bX3_begins_1 10 _ rfl) (bX3_begins_1 11 _ rfl) (bX3_begins_1 12 _ rfl)
theorem dX3_begins_29 : decode cX3_begins 29 = .ok (.aload_n 0, 1) := dz_42 (bX3_begins_1 13 _ rfl)
theorem dX3_begins_30 : decode cX3_begins 30 = .ok (.getfield 593, 3) := dz_180 (bX3_begins_1 14 _ rfl) (bX3_begins_1 15 _ rfl) (bX3_begins_2 0 _ rfl)
theorem dX3_begins_33 : decode cX3_begins 33 = .ok (.aload_n 0, 1) := dz_42 (bX3_begins_2 1 _ rfl)
theorem dX3_begins_34 : decode cX3_begins 34 = .ok (.getfield 184, 3) := dz_180 (bX3_begins_2 2 _ rfl) (bX3_begins_2 3 _ rfl) (bX3_begins_2 4 _ rfl)
theorem dX3_begins_37 : decode cX3_begins 37 = .ok (.aload_n 0, 1) := dz_42 (bX3_begins_2 5 _ rfl)
theorem dX3_begins_38 : decode cX3_begins 38 = .ok (.getfield 554, 3) := dz_180 (bX3_begins_2 6 _ rfl) (bX3_begins_2 7 _ rfl) (bX3_begins_2 8 _ rfl)
theorem dX3_begins_41 : decode cX3_begins 41 = .ok (.iconst 1, 1) := dz_4 (bX3_begins_2 9 _ rfl)
theorem dX3_begins_42 : decode cX3_begins 42 = .ok (.isub, 1) := dz_100 (bX3_begins_2 10 _ rfl)
theorem dX3_begins_43 : decode cX3_begins 43 = .ok (.iaload, 1) := dz_46 (bX3_begins_2 11 _ rfl)
theorem dX3_begins_44 : decode cX3_begins 44 = .ok (.iastore, 1) := dz_79 (bX3_begins_2 12 _ rfl)
theorem dX3_begins_45 : decode cX3_begins 45 = .ok (.aload_n 0, 1) := dz_42 (bX3_begins_2 13 _ rfl)
theorem dX3_begins_46 : decode cX3_begins 46 = .ok (.dup, 1) := dz_89 (bX3_begins_2 14 _ rfl)
theorem dX3_begins_47 : decode cX3_begins 47 = .ok (.getfield 593, 3) := dz_180 (bX3_begins_2 15 _ rfl) (bX3_begins_3 0 _ rfl) (bX3_begins_3 1 _ rfl)
theorem dX3_begins_50 : decode cX3_begins 50 = .ok (.iconst 1, 1) := dz_4 (bX3_begins_3 2 _ rfl)
theorem dX3_begins_51 : decode cX3_begins 51 = .ok (.iadd, 1) := dz_96 (bX3_begins_3 3 _ rfl)
theorem dX3_begins_52 : decode cX3_begins 52 = .ok (.putfield 593, 3) := dz_181 (bX3_begins_3 4 _ rfl) (bX3_begins_3 5 _ rfl) (bX3_begins_3 6 _ rfl)
theorem dX3_begins_55 : decode cX3_begins 55 = .ok (.aload_n 0, 1) := dz_42 (bX3_begins_3 7 _ rfl)
theorem dX3_begins_56 : decode cX3_begins 56 = .ok (.bipush 7, 2) := dz_16 (bX3_begins_3 8 _ rfl) (bX3_begins_3 9 _ rfl)
theorem dX3_begins_58 : decode cX3_begins 58 = .ok (.iload_n 1, 1) := dz_27 (bX3_begins_3 10 _ rfl)
theorem dX3_begins_59 : decode cX3_begins 59 = .ok (.invokevirtual 596, 3) := dz_182 (bX3_begins_3 11 _ rfl) (bX3_begins_3 12 _ rfl) (bX3_begins_3 13 _ rfl)
theorem dX3_begins_62 : decode cX3_begins 62 = .ok (.aload_n 0, 1) := dz_42 (bX3_begins_3 14 _ rfl)
theorem dX3_begins_63 : decode cX3_begins 63 = .ok (.iconst 5, 1) := dz_8 (bX3_begins_3 15 _ rfl)
theorem dX3_begins_64 : decode cX3_begins 64 = .ok (.aload_n 0, 1) := dz_42 (bX3_begins_4 0 _ rfl)
theorem dX3_begins_65 : decode cX3_begins 65 = .ok (.getfield 184, 3) := dz_180 (bX3_begins_4 1 _ rfl) (bX3_begins_4 2 _ rfl) (bX3_begins_4 3 _ rfl)
theorem dX3_begins_68 : decode cX3_begins 68 = .ok (.aload_n 0, 1) := dz_42 (bX3_begins_4 4 _ rfl)
theorem dX3_begins_69 : decode cX3_begins 69 = .ok (.getfield 554, 3) := dz_180 (bX3_begins_4 5 _ rfl) (bX3_begins_4 6 _ rfl) (bX3_begins_4 7 _ rfl)
theorem dX3_begins_72 : decode cX3_begins 72 = .ok (.iconst 1, 1) := dz_4 (bX3_begins_4 8 _ rfl)
theorem dX3_begins_73 : decode cX3_begins 73 = .ok (.isub, 1) := dz_100 (bX3_begins_4 9 _ rfl)
theorem dX3_begins_74 : decode cX3_begins 74 = .ok (.iaload, 1) := dz_46 (bX3_begins_4 10 _ rfl)
theorem dX3_begins_75 : decode cX3_begins 75 = .ok (.invokevirtual 596, 3) := dz_182 (bX3_begins_4 11 _ rfl) (bX3_begins_4 12 _ rfl) (bX3_begins_4 13 _ rfl)
theorem dX3_begins_78 : decode cX3_begins 78 = .ok (.aload_n 0, 1) := dz_42 (bX3_begins_4 14 _ rfl)
theorem dX3_begins_79 : decode cX3_begins 79 = .ok (.iconst 3, 1) := dz_6 (bX3_begins_4 15 _ rfl)
theorem dX3_begins_80 : decode cX3_begins 80 = .ok (.aload_n 0, 1) := dz_42 (bX3_begins_5 0 _ rfl)
theorem dX3_begins_81 : decode cX3_begins 81 = .ok (.getfield 70, 3) := dz_180 (bX3_begins_5 1 _ rfl) (bX3_begins_5 2 _ rfl) (bX3_begins_5 3 _ rfl)
theorem dX3_begins_84 : decode cX3_begins 84 = .ok (.iload_n 1, 1) := dz_27 (bX3_begins_5 4 _ rfl)
theorem dX3_begins_85 : decode cX3_begins 85 = .ok (.iaload, 1) := dz_46 (bX3_begins_5 5 _ rfl)
theorem dX3_begins_86 : decode cX3_begins 86 = .ok (.invokevirtual 596, 3) := dz_182 (bX3_begins_5 6 _ rfl) (bX3_begins_5 7 _ rfl) (bX3_begins_5 8 _ rfl)
theorem dX3_begins_89 : decode cX3_begins 89 = .ok (.return_, 1) := dz_177 (bX3_begins_5 9 _ rfl)
theorem dX3_begins_90 : decode cX3_begins 90 = .ok (.iload_n 2, 1) := dz_28 (bX3_begins_5 10 _ rfl)
theorem dX3_begins_91 : decode cX3_begins 91 = .ok (.ifCond .ne 50, 3) := dz_154 (bX3_begins_5 11 _ rfl) (bX3_begins_5 12 _ rfl) (bX3_begins_5 13 _ rfl)
theorem dX3_begins_94 : decode cX3_begins 94 = .ok (.aload_n 0, 1) := dz_42 (bX3_begins_5 14 _ rfl)
theorem dX3_begins_95 : decode cX3_begins 95 = .ok (.getfield 55, 3) := dz_180 (bX3_begins_5 15 _ rfl) (bX3_begins_6 0 _ rfl) (bX3_begins_6 1 _ rfl)
theorem dX3_begins_98 : decode cX3_begins 98 = .ok (.iload_n 1, 1) := dz_27 (bX3_begins_6 2 _ rfl)
theorem dX3_begins_99 : decode cX3_begins 99 = .ok (.iaload, 1) := dz_46 (bX3_begins_6 3 _ rfl)
theorem dX3_begins_100 : decode cX3_begins 100 = .ok (.ifCond .ge 41, 3) := dz_156 (bX3_begins_6 4 _ rfl) (bX3_begins_6 5 _ rfl) (bX3_begins_6 6 _ rfl)
theorem dX3_begins_103 : decode cX3_begins 103 = .ok (.aload_n 0, 1) := dz_42 (bX3_begins_6 7 _ rfl)
theorem dX3_begins_104 : decode cX3_begins 104 = .ok (.aload_n 0, 1) := dz_42 (bX3_begins_6 8 _ rfl)
theorem dX3_begins_105 : decode cX3_begins 105 = .ok (.getfield 554, 3) := dz_180 (bX3_begins_6 9 _ rfl) (bX3_begins_6 10 _ rfl) (bX3_begins_6 11 _ rfl)
theorem dX3_begins_108 : decode cX3_begins 108 = .ok (.iconst 1, 1) := dz_4 (bX3_begins_6 12 _ rfl)
theorem dX3_begins_109 : decode cX3_begins 109 = .ok (.isub, 1) := dz_100 (bX3_begins_6 13 _ rfl)
theorem dX3_begins_110 : decode cX3_begins 110 = .ok (.aload_n 0, 1) := dz_42 (bX3_begins_6 14 _ rfl)
theorem dX3_begins_111 : decode cX3_begins 111 = .ok (.getfield 67, 3) := dz_180 (bX3_begins_6 15 _ rfl) (bX3_begins_7 0 _ rfl) (bX3_begins_7 1 _ rfl)
theorem dX3_begins_114 : decode cX3_begins 114 = .ok (.iload_n 1, 1) := dz_27 (bX3_begins_7 2 _ rfl)
theorem dX3_begins_115 : decode cX3_begins 115 = .ok (.iaload, 1) := dz_46 (bX3_begins_7 3 _ rfl)
theorem dX3_begins_116 : decode cX3_begins 116 = .ok (.iconst 0, 1) := dz_3 (bX3_begins_7 4 _ rfl)
theorem dX3_begins_117 : decode cX3_begins 117 = .ok (.iconst 0, 1) := dz_3 (bX3_begins_7 5 _ rfl)
theorem dX3_begins_118 : decode cX3_begins 118 = .ok (.invokevirtual 598, 3) := dz_182 (bX3_begins_7 6 _ rfl) (bX3_begins_7 7 _ rfl) (bX3_begins_7 8 _ rfl)
theorem dX3_begins_121 : decode cX3_begins 121 = .ok (.aload_n 0, 1) := dz_42 (bX3_begins_7 9 _ rfl)
theorem dX3_begins_122 : decode cX3_begins 122 = .ok (.getfield 184, 3) := dz_180 (bX3_begins_7 10 _ rfl) (bX3_begins_7 11 _ rfl) (bX3_begins_7 12 _ rfl)
theorem dX3_begins_125 : decode cX3_begins 125 = .ok (.aload_n 0, 1) := dz_42 (bX3_begins_7 13 _ rfl)
theorem dX3_begins_126 : decode cX3_begins 126 = .ok (.getfield 554, 3) := dz_180 (bX3_begins_7 14 _ rfl) (bX3_begins_7 15 _ rfl) (bX3_begins_8 0 _ rfl)
theorem dX3_begins_129 : decode cX3_begins 129 = .ok (.iconst 1, 1) := dz_4 (bX3_begins_8 1 _ rfl)
theorem dX3_begins_130 : decode cX3_begins 130 = .ok (.isub, 1) := dz_100 (bX3_begins_8 2 _ rfl)
theorem dX3_begins_131 : decode cX3_begins 131 = .ok (.aload_n 0, 1) := dz_42 (bX3_begins_8 3 _ rfl)
theorem dX3_begins_132 : decode cX3_begins 132 = .ok (.getfield 67, 3) := dz_180 (bX3_begins_8 4 _ rfl) (bX3_begins_8 5 _ rfl) (bX3_begins_8 6 _ rfl)
theorem dX3_begins_135 : decode cX3_begins 135 = .ok (.iload_n 1, 1) := dz_27 (bX3_begins_8 7 _ rfl)
theorem dX3_begins_136 : decode cX3_begins 136 = .ok (.iaload, 1) := dz_46 (bX3_begins_8 8 _ rfl)
theorem dX3_begins_137 : decode cX3_begins 137 = .ok (.iconst 1, 1) := dz_4 (bX3_begins_8 9 _ rfl)
theorem dX3_begins_138 : decode cX3_begins 138 = .ok (.iadd, 1) := dz_96 (bX3_begins_8 10 _ rfl)
theorem dX3_begins_139 : decode cX3_begins 139 = .ok (.iastore, 1) := dz_79 (bX3_begins_8 11 _ rfl)
theorem dX3_begins_140 : decode cX3_begins 140 = .ok (.return_, 1) := dz_177 (bX3_begins_8 12 _ rfl)
theorem dX3_begins_141 : decode cX3_begins 141 = .ok (.iload_n 2, 1) := dz_28 (bX3_begins_8 13 _ rfl)
theorem dX3_begins_142 : decode cX3_begins 142 = .ok (.bipush 7, 2) := dz_16 (bX3_begins_8 14 _ rfl) (bX3_begins_8 15 _ rfl)
theorem dX3_begins_144 : decode cX3_begins 144 = .ok (.if_icmp .ne 37, 3) := dz_160 (bX3_begins_9 0 _ rfl) (bX3_begins_9 1 _ rfl) (bX3_begins_9 2 _ rfl)
theorem dX3_begins_147 : decode cX3_begins 147 = .ok (.aload_n 0, 1) := dz_42 (bX3_begins_9 3 _ rfl)
theorem dX3_begins_148 : decode cX3_begins 148 = .ok (.getfield 37, 3) := dz_180 (bX3_begins_9 4 _ rfl) (bX3_begins_9 5 _ rfl) (bX3_begins_9 6 _ rfl)
theorem dX3_begins_151 : decode cX3_begins 151 = .ok (.aload_n 0, 1) := dz_42 (bX3_begins_9 7 _ rfl)
theorem dX3_begins_152 : decode cX3_begins 152 = .ok (.getfield 55, 3) := dz_180 (bX3_begins_9 8 _ rfl) (bX3_begins_9 9 _ rfl) (bX3_begins_9 10 _ rfl)
theorem dX3_begins_155 : decode cX3_begins 155 = .ok (.iload_n 1, 1) := dz_27 (bX3_begins_9 11 _ rfl)
theorem dX3_begins_156 : decode cX3_begins 156 = .ok (.iaload, 1) := dz_46 (bX3_begins_9 12 _ rfl)
theorem dX3_begins_157 : decode cX3_begins 157 = .ok (.iaload, 1) := dz_46 (bX3_begins_9 13 _ rfl)
theorem dX3_begins_158 : decode cX3_begins 158 = .ok (.iconst 3, 1) := dz_6 (bX3_begins_9 14 _ rfl)
theorem dX3_begins_159 : decode cX3_begins 159 = .ok (.if_icmp .eq 10, 3) := dz_159 (bX3_begins_9 15 _ rfl) (bX3_begins_10 0 _ rfl) (bX3_begins_10 1 _ rfl)
theorem dX3_begins_162 : decode cX3_begins 162 = .ok (.aload_n 0, 1) := dz_42 (bX3_begins_10 2 _ rfl)
theorem dX3_begins_163 : decode cX3_begins 163 = .ok (.bipush 6, 2) := dz_16 (bX3_begins_10 3 _ rfl) (bX3_begins_10 4 _ rfl)
theorem dX3_begins_165 : decode cX3_begins 165 = .ok (.iconst 0, 1) := dz_3 (bX3_begins_10 5 _ rfl)
theorem dX3_begins_166 : decode cX3_begins 166 = .ok (.invokevirtual 596, 3) := dz_182 (bX3_begins_10 6 _ rfl) (bX3_begins_10 7 _ rfl) (bX3_begins_10 8 _ rfl)
theorem dX3_begins_169 : decode cX3_begins 169 = .ok (.aload_n 0, 1) := dz_42 (bX3_begins_10 9 _ rfl)
theorem dX3_begins_170 : decode cX3_begins 170 = .ok (.iconst 0, 1) := dz_3 (bX3_begins_10 10 _ rfl)
theorem dX3_begins_171 : decode cX3_begins 171 = .ok (.aload_n 0, 1) := dz_42 (bX3_begins_10 11 _ rfl)
theorem dX3_begins_172 : decode cX3_begins 172 = .ok (.getfield 55, 3) := dz_180 (bX3_begins_10 12 _ rfl) (bX3_begins_10 13 _ rfl) (bX3_begins_10 14 _ rfl)
theorem dX3_begins_175 : decode cX3_begins 175 = .ok (.iload_n 1, 1) := dz_27 (bX3_begins_10 15 _ rfl)
theorem dX3_begins_176 : decode cX3_begins 176 = .ok (.iaload, 1) := dz_46 (bX3_begins_11 0 _ rfl)
theorem dX3_begins_177 : decode cX3_begins 177 = .ok (.invokevirtual 596, 3) := dz_182 (bX3_begins_11 1 _ rfl) (bX3_begins_11 2 _ rfl) (bX3_begins_11 3 _ rfl)
theorem dX3_begins_180 : decode cX3_begins 180 = .ok (.return_, 1) := dz_177 (bX3_begins_11 4 _ rfl)
theorem dX3_begins_181 : decode cX3_begins 181 = .ok (.aload_n 0, 1) := dz_42 (bX3_begins_11 5 _ rfl)
theorem dX3_begins_182 : decode cX3_begins 182 = .ok (.iconst 4, 1) := dz_7 (bX3_begins_11 6 _ rfl)
theorem dX3_begins_183 : decode cX3_begins 183 = .ok (.iload_n 1, 1) := dz_27 (bX3_begins_11 7 _ rfl)
theorem dX3_begins_184 : decode cX3_begins 184 = .ok (.invokevirtual 596, 3) := dz_182 (bX3_begins_11 8 _ rfl) (bX3_begins_11 9 _ rfl) (bX3_begins_11 10 _ rfl)
theorem dX3_begins_187 : decode cX3_begins 187 = .ok (.aload_n 0, 1) := dz_42 (bX3_begins_11 11 _ rfl)
theorem dX3_begins_188 : decode cX3_begins 188 = .ok (.getfield 55, 3) := dz_180 (bX3_begins_11 12 _ rfl) (bX3_begins_11 13 _ rfl) (bX3_begins_11 14 _ rfl)
theorem dX3_begins_191 : decode cX3_begins 191 = .ok (.iload_n 1, 1) := dz_27 (bX3_begins_11 15 _ rfl)
theorem dX3_begins_192 : decode cX3_begins 192 = .ok (.iaload, 1) := dz_46 (bX3_begins_12 0 _ rfl)
theorem dX3_begins_193 : decode cX3_begins 193 = .ok (.ifCond .lt 14, 3) := dz_155 (bX3_begins_12 1 _ rfl) (bX3_begins_12 2 _ rfl) (bX3_begins_12 3 _ rfl)
theorem dX3_begins_196 : decode cX3_begins 196 = .ok (.aload_n 0, 1) := dz_42 (bX3_begins_12 4 _ rfl)
theorem dX3_begins_197 : decode cX3_begins 197 = .ok (.iconst 0, 1) := dz_3 (bX3_begins_12 5 _ rfl)
theorem dX3_begins_198 : decode cX3_begins 198 = .ok (.aload_n 0, 1) := dz_42 (bX3_begins_12 6 _ rfl)
theorem dX3_begins_199 : decode cX3_begins 199 = .ok (.getfield 55, 3) := dz_180 (bX3_begins_12 7 _ rfl) (bX3_begins_12 8 _ rfl) (bX3_begins_12 9 _ rfl)
theorem dX3_begins_202 : decode cX3_begins 202 = .ok (.iload_n 1, 1) := dz_27 (bX3_begins_12 10 _ rfl)
theorem dX3_begins_203 : decode cX3_begins 203 = .ok (.iaload, 1) := dz_46 (bX3_begins_12 11 _ rfl)
theorem dX3_begins_204 : decode cX3_begins 204 = .ok (.invokevirtual 596, 3) := dz_182 (bX3_begins_12 12 _ rfl) (bX3_begins_12 13 _ rfl) (bX3_begins_12 14 _ rfl)
theorem dX3_begins_207 : decode cX3_begins 207 = .ok (.iload_n 2, 1) := dz_28 (bX3_begins_12 15 _ rfl)
theorem dX3_begins_208 : decode cX3_begins 208 = .ok (.bipush 8, 2) := dz_16 (bX3_begins_13 0 _ rfl) (bX3_begins_13 1 _ rfl)
theorem dX3_begins_210 : decode cX3_begins 210 = .ok (.if_icmp .eq 4, 3) := dz_159 (bX3_begins_13 2 _ rfl) (bX3_begins_13 3 _ rfl) (bX3_begins_13 4 _ rfl)
theorem dX3_begins_213 : decode cX3_begins 213 = .ok (.return_, 1) := dz_177 (bX3_begins_13 5 _ rfl)
theorem dX3_begins_214 : decode cX3_begins 214 = .ok (.aload_n 0, 1) := dz_42 (bX3_begins_13 6 _ rfl)
theorem dX3_begins_215 : decode cX3_begins 215 = .ok (.getfield 58, 3) := dz_180 (bX3_begins_13 7 _ rfl) (bX3_begins_13 8 _ rfl) (bX3_begins_13 9 _ rfl)
theorem dX3_begins_218 : decode cX3_begins 218 = .ok (.iload_n 1, 1) := dz_27 (bX3_begins_13 10 _ rfl)
theorem dX3_begins_219 : decode cX3_begins 219 = .ok (.iaload, 1) := dz_46 (bX3_begins_13 11 _ rfl)
theorem dX3_begins_220 : decode cX3_begins 220 = .ok (.istore_n 3, 1) := dz_62 (bX3_begins_13 12 _ rfl)
theorem dX3_begins_221 : decode cX3_begins 221 = .ok (.aload_n 0, 1) := dz_42 (bX3_begins_13 13 _ rfl)
theorem dX3_begins_222 : decode cX3_begins 222 = .ok (.getfield 25, 3) := dz_180 (bX3_begins_13 14 _ rfl) (bX3_begins_13 15 _ rfl) (bX3_begins_14 0 _ rfl)
theorem dX3_begins_225 : decode cX3_begins 225 = .ok (.iload_n 3, 1) := dz_29 (bX3_begins_14 1 _ rfl)
theorem dX3_begins_226 : decode cX3_begins 226 = .ok (.iaload, 1) := dz_46 (bX3_begins_14 2 _ rfl)
theorem dX3_begins_227 : decode cX3_begins 227 = .ok (.bipush 7, 2) := dz_16 (bX3_begins_14 3 _ rfl) (bX3_begins_14 4 _ rfl)
theorem dX3_begins_229 : decode cX3_begins 229 = .ok (.if_icmp .ne 14, 3) := dz_160 (bX3_begins_14 5 _ rfl) (bX3_begins_14 6 _ rfl) (bX3_begins_14 7 _ rfl)
theorem dX3_begins_232 : decode cX3_begins 232 = .ok (.aload_n 0, 1) := dz_42 (bX3_begins_14 8 _ rfl)
theorem dX3_begins_233 : decode cX3_begins 233 = .ok (.iconst 0, 1) := dz_3 (bX3_begins_14 9 _ rfl)
theorem dX3_begins_234 : decode cX3_begins 234 = .ok (.aload_n 0, 1) := dz_42 (bX3_begins_14 10 _ rfl)
theorem dX3_begins_235 : decode cX3_begins 235 = .ok (.getfield 31, 3) := dz_180 (bX3_begins_14 11 _ rfl) (bX3_begins_14 12 _ rfl) (bX3_begins_14 13 _ rfl)
theorem dX3_begins_238 : decode cX3_begins 238 = .ok (.iload_n 3, 1) := dz_29 (bX3_begins_14 14 _ rfl)
theorem dX3_begins_239 : decode cX3_begins 239 = .ok (.iaload, 1) := dz_46 (bX3_begins_14 15 _ rfl)
theorem dX3_begins_240 : decode cX3_begins 240 = .ok (.invokevirtual 596, 3) := dz_182 (bX3_begins_15 0 _ rfl) (bX3_begins_15 1 _ rfl) (bX3_begins_15 2 _ rfl)
theorem dX3_begins_243 : decode cX3_begins 243 = .ok (.aload_n 0, 1) := dz_42 (bX3_begins_15 3 _ rfl)
theorem dX3_begins_244 : decode cX3_begins 244 = .ok (.getfield 25, 3) := dz_180 (bX3_begins_15 4 _ rfl) (bX3_begins_15 5 _ rfl) (bX3_begins_15 6 _ rfl)
theorem dX3_begins_247 : decode cX3_begins 247 = .ok (.iload_n 3, 1) := dz_29 (bX3_begins_15 7 _ rfl)
theorem dX3_begins_248 : decode cX3_begins 248 = .ok (.iaload, 1) := dz_46 (bX3_begins_15 8 _ rfl)
theorem dX3_begins_249 : decode cX3_begins 249 = .ok (.bipush 7, 2) := dz_16 (bX3_begins_15 9 _ rfl) (bX3_begins_15 10 _ rfl)
theorem dX3_begins_251 : decode cX3_begins 251 = .ok (.if_icmp .eq 14, 3) := dz_159 (bX3_begins_15 11 _ rfl) (bX3_begins_15 12 _ rfl) (bX3_begins_15 13 _ rfl)
theorem dX3_begins_254 : decode cX3_begins 254 = .ok (.aload_n 0, 1) := dz_42 (bX3_begins_15 14 _ rfl)
theorem dX3_begins_255 : decode cX3_begins 255 = .ok (.getfield 25, 3) := dz_180 (bX3_begins_15 15 _ rfl) (bX3_begins_16 0 _ rfl) (bX3_begins_16 1 _ rfl)
theorem dX3_begins_258 : decode cX3_begins 258 = .ok (.iload_n 3, 1) := dz_29 (bX3_begins_16 2 _ rfl)
theorem dX3_begins_259 : decode cX3_begins 259 = .ok (.iaload, 1) := dz_46 (bX3_begins_16 3 _ rfl)
theorem dX3_begins_260 : decode cX3_begins 260 = .ok (.bipush 6, 2) := dz_16 (bX3_begins_16 4 _ rfl) (bX3_begins_16 5 _ rfl)
theorem dX3_begins_262 : decode cX3_begins 262 = .ok (.if_icmp .ne 14, 3) := dz_160 (bX3_begins_16 6 _ rfl) (bX3_begins_16 7 _ rfl) (bX3_begins_16 8 _ rfl)
theorem dX3_begins_265 : decode cX3_begins 265 = .ok (.aload_n 0, 1) := dz_42 (bX3_begins_16 9 _ rfl)
theorem dX3_begins_266 : decode cX3_begins 266 = .ok (.iconst 0, 1) := dz_3 (bX3_begins_16 10 _ rfl)
theorem dX3_begins_267 : decode cX3_begins 267 = .ok (.aload_n 0, 1) := dz_42 (bX3_begins_16 11 _ rfl)
theorem dX3_begins_268 : decode cX3_begins 268 = .ok (.getfield 28, 3) := dz_180 (bX3_begins_16 12 _ rfl) (bX3_begins_16 13 _ rfl) (bX3_begins_16 14 _ rfl)
theorem dX3_begins_271 : decode cX3_begins 271 = .ok (.iload_n 3, 1) := dz_29 (bX3_begins_16 15 _ rfl)
theorem dX3_begins_272 : decode cX3_begins 272 = .ok (.iaload, 1) := dz_46 (bX3_begins_17 0 _ rfl)
theorem dX3_begins_273 : decode cX3_begins 273 = .ok (.invokevirtual 596, 3) := dz_182 (bX3_begins_17 1 _ rfl) (bX3_begins_17 2 _ rfl) (bX3_begins_17 3 _ rfl)
theorem dX3_begins_276 : decode cX3_begins 276 = .ok (.return_, 1) := dz_177 (bX3_begins_17 4 _ rfl)
def m_X3_begins_265 (x3 : Int32)  (σ : ch_S) : Option (ch_S) := (ch_ma σ fX3_one x3).bind fun v1 => (m_X3_todo 0 v1 σ).bind fun p2 => some (p2)
theorem s_X3_begins_265 {g : State} {m : Nat} {w : ch_W} {x3 : Int32} {σ : ch_S} {res : ch_S} {Q : Outcome → ch_W → Prop} (h : m_X3_begins_265 x3 σ = some res) (hk : (fun r => ch_eV Q (ch_put m w r)) res) : ch_FT g false mX3_begins 3 265 [some (va_rf (some m)), none, none, some (.int x3)] [] (ch_put m w σ) Q := by
  unfold m_X3_begins_265 at h
  refine ch_aload_n 0 (some m) dX3_begins_265 rfl (ch_iconst _ 0 dX3_begins_266 rfl (ch_aload_n 0 (some m) dX3_begins_267 rfl (mp_gA 17 dX3_begins_268 fl_X3_28 rfl (ch_iload_n 3 _ dX3_begins_271 rfl (mp_iald dX3_begins_272 mk_17 h (fun v1 h => ?_))))))
  obtain ⟨p2, hp3, h⟩ := ch_bd h
  refine ch_iv yX3_todo prog_14_method_83_code 3 none (ci := 3) (q := (RX3, TX3, 109)) (b := m) (d' := 2) (av := [.int 0, .int v1]) (rest := []) rfl dX3_begins_273 q2206 q2208 rfl qs174 q2209 can_X3_todo (Nat.le_of_ble_eq_true rfl) (Nat.le_of_ble_eq_true rfl) ch_put_tag (cp_kV (w1 := ch_put m w p2) (fun Q' hq => s_X3_todo hp3 hq) ?_)
  obtain rfl := Option.some.inj h
  exact ch_return dX3_begins_276 rfl hk

def m_X3_begins_243 (x3 : Int32)  (σ : ch_S) : Option (ch_S) := (ch_ma σ fX3_is x3).bind fun v1 => if v1 = 7 then (m_X3_begins_265 x3 σ) else ((ch_ma σ fX3_is x3).bind fun v2 => if v2 = 6 then (m_X3_begins_265 x3 σ) else (some (σ)))
theorem s_X3_begins_243 {g : State} {m : Nat} {w : ch_W} {x3 : Int32} {σ : ch_S} {res : ch_S} {Q : Outcome → ch_W → Prop} (h : m_X3_begins_243 x3 σ = some res) (hk : (fun r => ch_eV Q (ch_put m w r)) res) : ch_FT g false mX3_begins 3 243 [some (va_rf (some m)), none, none, some (.int x3)] [] (ch_put m w σ) Q := by
  unfold m_X3_begins_243 at h
  refine ch_aload_n 0 (some m) dX3_begins_243 rfl (mp_gA 16 dX3_begins_244 fl_X3_25 rfl (ch_iload_n 3 _ dX3_begins_247 rfl (mp_iald dX3_begins_248 mk_16 h (fun v1 h => ?_))))
  refine ch_bipush _ 7 dX3_begins_249 rfl (cp_icmp_eq _ _ (tgt := 265) dX3_begins_251 rfl h (fun h => ?_) (fun h => ?_))
  · exact ch_FT.wk (ch_wS (ch_wN (ch_wN (ch_wS ch_w0)))) (s_X3_begins_265  h hk)
  · refine ch_aload_n 0 (some m) dX3_begins_254 rfl (mp_gA 16 dX3_begins_255 fl_X3_25 rfl (ch_iload_n 3 _ dX3_begins_258 rfl (mp_iald dX3_begins_259 mk_16 h (fun v2 h => ?_))))
    refine ch_bipush _ 6 dX3_begins_260 rfl (cp_icmp_ne _ _ (tgt := 276) dX3_begins_262 rfl h (fun h => ?_) (fun h => ?_))
    · obtain rfl := Option.some.inj h
      exact ch_return dX3_begins_276 rfl hk
    · exact ch_FT.wk (ch_wS (ch_wN (ch_wN (ch_wS ch_w0)))) (s_X3_begins_265  h hk)

def m_X3_begins_207 (x1 : Int32) (x2 : Int32)  (σ : ch_S) : Option (ch_S) := if x2 = 8 then ((ch_ma σ fX3_target x1).bind fun v1 => (ch_ma σ fX3_is v1).bind fun v2 => if v2 = 7 then ((ch_ma σ fX3_two v1).bind fun v3 => (m_X3_todo 0 v3 σ).bind fun p4 => m_X3_begins_243 v1 p4) else (m_X3_begins_243 v1 σ)) else (some (σ))
theorem s_X3_begins_207 {g : State} {m : Nat} {w : ch_W} {x1 : Int32} {x2 : Int32} {σ : ch_S} {res : ch_S} {Q : Outcome → ch_W → Prop} (h : m_X3_begins_207 x1 x2 σ = some res) (hk : (fun r => ch_eV Q (ch_put m w r)) res) : ch_FT g false mX3_begins 3 207 [some (va_rf (some m)), some (.int x1), some (.int x2), none] [] (ch_put m w σ) Q := by
  unfold m_X3_begins_207 at h
  refine ch_iload_n 2 _ dX3_begins_207 rfl (ch_bipush _ 8 dX3_begins_208 rfl (cp_icmp_eq _ _ (tgt := 214) dX3_begins_210 rfl h (fun h => ?_) (fun h => ?_)))
  · refine ch_aload_n 0 (some m) dX3_begins_214 rfl (mp_gA 30 dX3_begins_215 fl_X3_58 rfl (ch_iload_n 1 _ dX3_begins_218 rfl (mp_iald dX3_begins_219 mk_30 h (fun v1 h => ?_))))
    refine ch_istore_n 3 _ (ls1 := [some (va_rf (some m)), some (.int x1), some (.int x2), some (.int v1)]) dX3_begins_220 (Nat.le_of_ble_eq_true rfl) rfl (ch_aload_n 0 (some m) dX3_begins_221 rfl (mp_gA 16 dX3_begins_222 fl_X3_25 rfl (ch_iload_n 3 _ dX3_begins_225 rfl (mp_iald dX3_begins_226 mk_16 h (fun v2 h => ?_)))))
    refine ch_bipush _ 7 dX3_begins_227 rfl (cp_icmp_ne _ _ (tgt := 243) dX3_begins_229 rfl h (fun h => ?_) (fun h => ?_))
    · exact ch_FT.wk (ch_wS (ch_wN (ch_wN (ch_wS ch_w0)))) (s_X3_begins_243  h hk)
    · refine ch_aload_n 0 (some m) dX3_begins_232 rfl (ch_iconst _ 0 dX3_begins_233 rfl (ch_aload_n 0 (some m) dX3_begins_234 rfl (mp_gA 18 dX3_begins_235 fl_X3_31 rfl (ch_iload_n 3 _ dX3_begins_238 rfl (mp_iald dX3_begins_239 mk_18 h (fun v3 h => ?_))))))
      obtain ⟨p4, hp5, h⟩ := ch_bd h
      refine ch_iv yX3_todo prog_14_method_83_code 3 none (ci := 3) (q := (RX3, TX3, 109)) (b := m) (d' := 2) (av := [.int 0, .int v3]) (rest := []) rfl dX3_begins_240 q2206 q2208 rfl qs174 q2209 can_X3_todo (Nat.le_of_ble_eq_true rfl) (Nat.le_of_ble_eq_true rfl) ch_put_tag (cp_kV (w1 := ch_put m w p4) (fun Q' hq => s_X3_todo hp5 hq) ?_)
      exact ch_FT.wk (ch_wS (ch_wN (ch_wN (ch_wS ch_w0)))) (s_X3_begins_243  h hk)
  · obtain rfl := Option.some.inj h
    exact ch_return dX3_begins_213 rfl hk

def m_X3_begins_169 (x1 : Int32)  (σ : ch_S) : Option (ch_S) := (ch_ma σ fX3_value x1).bind fun v1 => (m_X3_todo 0 v1 σ).bind fun p2 => some (p2)
theorem s_X3_begins_169 {g : State} {m : Nat} {w : ch_W} {x1 : Int32} {σ : ch_S} {res : ch_S} {Q : Outcome → ch_W → Prop} (h : m_X3_begins_169 x1 σ = some res) (hk : (fun r => ch_eV Q (ch_put m w r)) res) : ch_FT g false mX3_begins 3 169 [some (va_rf (some m)), some (.int x1), none, none] [] (ch_put m w σ) Q := by
  unfold m_X3_begins_169 at h
  refine ch_aload_n 0 (some m) dX3_begins_169 rfl (ch_iconst _ 0 dX3_begins_170 rfl (ch_aload_n 0 (some m) dX3_begins_171 rfl (mp_gA 29 dX3_begins_172 fl_X3_55 rfl (ch_iload_n 1 _ dX3_begins_175 rfl (mp_iald dX3_begins_176 mk_29 h (fun v1 h => ?_))))))
  obtain ⟨p2, hp3, h⟩ := ch_bd h
  refine ch_iv yX3_todo prog_14_method_83_code 3 none (ci := 3) (q := (RX3, TX3, 109)) (b := m) (d' := 2) (av := [.int 0, .int v1]) (rest := []) rfl dX3_begins_177 q2206 q2208 rfl qs174 q2209 can_X3_todo (Nat.le_of_ble_eq_true rfl) (Nat.le_of_ble_eq_true rfl) ch_put_tag (cp_kV (w1 := ch_put m w p2) (fun Q' hq => s_X3_todo hp3 hq) ?_)
  obtain rfl := Option.some.inj h
  exact ch_return dX3_begins_180 rfl hk

def m_X3_begins_141 (x1 : Int32) (x2 : Int32)  (σ : ch_S) : Option (ch_S) := if x2 = 7 then ((ch_ma σ fX3_value x1).bind fun v7 => (ch_ma σ fX3_typeOf v7).bind fun v8 => if v8 = 3 then (m_X3_begins_169 x1 σ) else ((m_X3_todo 6 0 σ).bind fun p9 => m_X3_begins_169 x1 p9)) else ((m_X3_todo 4 x1 σ).bind fun p1 => (ch_ma p1 fX3_value x1).bind fun v3 => if v3 < 0 then (m_X3_begins_207 x1 x2 p1) else ((ch_ma p1 fX3_value x1).bind fun v4 => (m_X3_todo 0 v4 p1).bind fun p5 => m_X3_begins_207 x1 x2 p5))
theorem s_X3_begins_141 {g : State} {m : Nat} {w : ch_W} {x1 : Int32} {x2 : Int32} {σ : ch_S} {res : ch_S} {Q : Outcome → ch_W → Prop} (h : m_X3_begins_141 x1 x2 σ = some res) (hk : (fun r => ch_eV Q (ch_put m w r)) res) : ch_FT g false mX3_begins 3 141 [some (va_rf (some m)), some (.int x1), some (.int x2), none] [] (ch_put m w σ) Q := by
  unfold m_X3_begins_141 at h
  refine ch_iload_n 2 _ dX3_begins_141 rfl (ch_bipush _ 7 dX3_begins_142 rfl (cp_icmp_ne _ _ (tgt := 181) dX3_begins_144 rfl h (fun h => ?_) (fun h => ?_)))
  · obtain ⟨p1, hp2, h⟩ := ch_bd h
    refine ch_aload_n 0 (some m) dX3_begins_181 rfl (ch_iconst _ 4 dX3_begins_182 rfl (ch_iload_n 1 _ dX3_begins_183 rfl (ch_iv yX3_todo prog_14_method_83_code 3 none (ci := 3) (q := (RX3, TX3, 109)) (b := m) (d' := 2) (av := [.int 4, .int x1]) (rest := []) rfl dX3_begins_184 q2206 q2208 rfl qs174 q2209 can_X3_todo (Nat.le_of_ble_eq_true rfl) (Nat.le_of_ble_eq_true rfl) ch_put_tag (cp_kV (w1 := ch_put m w p1) (fun Q' hq => s_X3_todo hp2 hq) ?_))))
    refine ch_aload_n 0 (some m) dX3_begins_187 rfl (mp_gA 29 dX3_begins_188 fl_X3_55 rfl (ch_iload_n 1 _ dX3_begins_191 rfl (mp_iald dX3_begins_192 mk_29 h (fun v3 h => ?_))))
    refine cp_if_lt _ (tgt := 207) dX3_begins_193 rfl h (fun h => ?_) (fun h => ?_)
    · exact ch_FT.wk (ch_wS (ch_wS (ch_wS (ch_wN ch_w0)))) (s_X3_begins_207  h hk)
    · refine ch_aload_n 0 (some m) dX3_begins_196 rfl (ch_iconst _ 0 dX3_begins_197 rfl (ch_aload_n 0 (some m) dX3_begins_198 rfl (mp_gA 29 dX3_begins_199 fl_X3_55 rfl (ch_iload_n 1 _ dX3_begins_202 rfl (mp_iald dX3_begins_203 mk_29 h (fun v4 h => ?_))))))
      obtain ⟨p5, hp6, h⟩ := ch_bd h
      refine ch_iv yX3_todo prog_14_method_83_code 3 none (ci := 3) (q := (RX3, TX3, 109)) (b := m) (d' := 2) (av := [.int 0, .int v4]) (rest := []) rfl dX3_begins_204 q2206 q2208 rfl qs174 q2209 can_X3_todo (Nat.le_of_ble_eq_true rfl) (Nat.le_of_ble_eq_true rfl) ch_put_tag (cp_kV (w1 := ch_put m w p5) (fun Q' hq => s_X3_todo hp6 hq) ?_)
      exact ch_FT.wk (ch_wS (ch_wS (ch_wS (ch_wN ch_w0)))) (s_X3_begins_207  h hk)
  · refine ch_aload_n 0 (some m) dX3_begins_147 rfl (mp_gA 20 dX3_begins_148 fl_X3_37 rfl (ch_aload_n 0 (some m) dX3_begins_151 rfl (mp_gA 29 dX3_begins_152 fl_X3_55 rfl (ch_iload_n 1 _ dX3_begins_155 rfl (mp_iald dX3_begins_156 mk_29 h (fun v7 h => ?_))))))
    refine mp_iald dX3_begins_157 mk_20 h (fun v8 h => ?_)
    refine ch_iconst _ 3 dX3_begins_158 rfl (cp_icmp_eq _ _ (tgt := 169) dX3_begins_159 rfl h (fun h => ?_) (fun h => ?_))
    · exact ch_FT.wk (ch_wS (ch_wS (ch_wN (ch_wN ch_w0)))) (s_X3_begins_169  h hk)
    · obtain ⟨p9, hp10, h⟩ := ch_bd h
      refine ch_aload_n 0 (some m) dX3_begins_162 rfl (ch_bipush _ 6 dX3_begins_163 rfl (ch_iconst _ 0 dX3_begins_165 rfl (ch_iv yX3_todo prog_14_method_83_code 3 none (ci := 3) (q := (RX3, TX3, 109)) (b := m) (d' := 2) (av := [.int 6, .int 0]) (rest := []) rfl dX3_begins_166 q2206 q2208 rfl qs174 q2209 can_X3_todo (Nat.le_of_ble_eq_true rfl) (Nat.le_of_ble_eq_true rfl) ch_put_tag (cp_kV (w1 := ch_put m w p9) (fun Q' hq => s_X3_todo hp10 hq) ?_))))
      exact ch_FT.wk (ch_wS (ch_wS (ch_wN (ch_wN ch_w0)))) (s_X3_begins_169  h hk)

def m_X3_begins (x1 : Int32) (σ : ch_S) : Option (ch_S) := (ch_ma σ fX3_statementIs x1).bind fun v1 => if v1 = 5 then ((ch_mw σ fX3_tryPile (σ.1 fX3_tries) (σ.1 fX3_piled)).bind fun σ8 => (ch_ma σ8 fX3_openMany ((σ8.1 fX3_open) - 1)).bind fun v9 => (ch_mw σ8 fX3_tryMany (σ8.1 fX3_tries) v9).bind fun σ10 => (ch_mI σ10 fX3_tries ((σ10.1 fX3_tries) + 1)).bind fun σ11 => (m_X3_todo 7 x1 σ11).bind fun p12 => (ch_ma p12 fX3_openMany ((p12.1 fX3_open) - 1)).bind fun v14 => (m_X3_todo 5 v14 p12).bind fun p15 => (ch_ma p15 fX3_inner x1).bind fun v17 => (m_X3_todo 3 v17 p15).bind fun p18 => some (p18)) else (if v1 = 0 then ((ch_ma σ fX3_value x1).bind fun v2 => if v2 < 0 then ((ch_ma σ fX3_variable x1).bind fun v3 => (m_X3_setLocal ((σ.1 fX3_open) - 1) v3 0 0 σ).bind fun p4 => (ch_ma p4 fX3_variable x1).bind fun v6 => (ch_mw p4 fX3_openMany ((p4.1 fX3_open) - 1) (v6 + 1)).bind fun σ7 => some (σ7)) else (m_X3_begins_141 x1 v1 σ)) else (m_X3_begins_141 x1 v1 σ))
theorem s_X3_begins {g : State} {m : Nat} {w : ch_W} {x1 : Int32} {σ : ch_S} {res : ch_S} {Q : Outcome → ch_W → Prop} (h : m_X3_begins x1 σ = some res) (hk : (fun r => ch_eV Q (ch_put m w r)) res) : ch_CT g false yX3_begins 3 [.ref m, .int x1] (ch_put m w σ) Q := by
  unfold m_X3_begins at h
  refine ch_ctL mX3_begins (ls := [some (va_rf (some m)), some (.int x1), none, none]) q2229 rfl (ch_lyr (r := some m) (ch_lyi ch_ly0)) (Nat.le_of_ble_eq_true rfl) rfl ?_
  refine ch_aload_n 0 (some m) dX3_begins_0 rfl (mp_gA 26 dX3_begins_1 fl_X3_46 rfl (ch_iload_n 1 _ dX3_begins_4 rfl (mp_iald dX3_begins_5 mk_26 h (fun v1 h => ?_))))
  refine ch_istore_n 2 _ (ls1 := [some (va_rf (some m)), some (.int x1), some (.int v1), none]) dX3_begins_6 (Nat.le_of_ble_eq_true rfl) rfl (ch_iload_n 2 _ dX3_begins_7 rfl (ch_iconst _ 5 dX3_begins_8 rfl (cp_icmp_ne _ _ (tgt := 90) dX3_begins_9 rfl h (fun h => ?_) (fun h => ?_))))
  · refine ch_iload_n 2 _ dX3_begins_90 rfl (cp_if_ne _ (tgt := 141) dX3_begins_91 rfl h (fun h => ?_) (fun h => ?_))
    · exact ch_FT.wk (ch_wS (ch_wS (ch_wS (ch_wN ch_w0)))) (s_X3_begins_141  h hk)
    · refine ch_aload_n 0 (some m) dX3_begins_94 rfl (mp_gA 29 dX3_begins_95 fl_X3_55 rfl (ch_iload_n 1 _ dX3_begins_98 rfl (mp_iald dX3_begins_99 mk_29 h (fun v2 h => ?_))))
      refine cp_if_ge _ (tgt := 141) dX3_begins_100 rfl h (fun h => ?_) (fun h => ?_)
      · exact ch_FT.wk (ch_wS (ch_wS (ch_wS (ch_wN ch_w0)))) (s_X3_begins_141  h hk)
      · refine ch_aload_n 0 (some m) dX3_begins_103 rfl (ch_aload_n 0 (some m) dX3_begins_104 rfl (mp_gI 93 dX3_begins_105 fl_X3_554 rfl (ch_iconst _ 1 dX3_begins_108 rfl (ch_isub _ _ dX3_begins_109 (ch_aload_n 0 (some m) dX3_begins_110 rfl (mp_gA 33 dX3_begins_111 fl_X3_67 rfl (ch_iload_n 1 _ dX3_begins_114 rfl (?_))))))))
        refine mp_iald dX3_begins_115 mk_33 h (fun v3 h => ?_)
        obtain ⟨p4, hp5, h⟩ := ch_bd h
        refine ch_iconst _ 0 dX3_begins_116 rfl (ch_iconst _ 0 dX3_begins_117 rfl (ch_iv yX3_setLocal prog_14_method_87_code 5 none (ci := 3) (q := (RX3, TX3, 109)) (b := m) (d' := 2) (av := [.int ((σ.1 fX3_open) - 1), .int v3, .int 0, .int 0]) (rest := []) rfl dX3_begins_118 q2202 q2204 rfl qs173 q2205 can_X3_setLocal (Nat.le_of_ble_eq_true rfl) (Nat.le_of_ble_eq_true rfl) ch_put_tag (cp_kV (w1 := ch_put m w p4) (fun Q' hq => s_X3_setLocal hp5 hq) ?_)))
        refine ch_aload_n 0 (some m) dX3_begins_121 rfl (mp_gA 96 dX3_begins_122 fl_X3_184 rfl (ch_aload_n 0 (some m) dX3_begins_125 rfl (mp_gI 93 dX3_begins_126 fl_X3_554 rfl (ch_iconst _ 1 dX3_begins_129 rfl (ch_isub _ _ dX3_begins_130 (ch_aload_n 0 (some m) dX3_begins_131 rfl (mp_gA 33 dX3_begins_132 fl_X3_67 rfl (?_))))))))
        refine ch_iload_n 1 _ dX3_begins_135 rfl (mp_iald dX3_begins_136 mk_33 h (fun v6 h => ?_))
        refine ch_iconst _ 1 dX3_begins_137 rfl (ch_iadd _ _ dX3_begins_138 (mp_iast dX3_begins_139 mk_96 rfl h (fun σ7 h => ?_)))
        obtain rfl := Option.some.inj h
        exact ch_return dX3_begins_140 rfl hk
  · refine ch_aload_n 0 (some m) dX3_begins_12 rfl (mp_gA 107 dX3_begins_13 fl_X3_211 rfl (ch_aload_n 0 (some m) dX3_begins_16 rfl (mp_gI 106 dX3_begins_17 fl_X3_593 rfl (ch_aload_n 0 (some m) dX3_begins_20 rfl (mp_gI 100 dX3_begins_21 fl_X3_560 rfl (mp_iast dX3_begins_24 mk_107 rfl h (fun σ8 h => ?_)))))))
    refine ch_aload_n 0 (some m) dX3_begins_25 rfl (mp_gA 108 dX3_begins_26 fl_X3_214 rfl (ch_aload_n 0 (some m) dX3_begins_29 rfl (mp_gI 106 dX3_begins_30 fl_X3_593 rfl (ch_aload_n 0 (some m) dX3_begins_33 rfl (mp_gA 96 dX3_begins_34 fl_X3_184 rfl (ch_aload_n 0 (some m) dX3_begins_37 rfl (mp_gI 93 dX3_begins_38 fl_X3_554 rfl (?_))))))))
    refine ch_iconst _ 1 dX3_begins_41 rfl (ch_isub _ _ dX3_begins_42 (mp_iald dX3_begins_43 mk_96 h (fun v9 h => ?_)))
    refine mp_iast dX3_begins_44 mk_108 rfl h (fun σ10 h => ?_)
    refine ch_aload_n 0 (some m) dX3_begins_45 rfl (ch_dup dX3_begins_46 (ch_cat _) (mp_gI 106 dX3_begins_47 fl_X3_593 rfl (ch_iconst _ 1 dX3_begins_50 rfl (ch_iadd _ _ dX3_begins_51 (mp_pI (k := 106) dX3_begins_52 fl_X3_593 rfl rfl rfl h (fun σ11 h => ?_))))))
    obtain ⟨p12, hp13, h⟩ := ch_bd h
    refine ch_aload_n 0 (some m) dX3_begins_55 rfl (ch_bipush _ 7 dX3_begins_56 rfl (ch_iload_n 1 _ dX3_begins_58 rfl (ch_iv yX3_todo prog_14_method_83_code 3 none (ci := 3) (q := (RX3, TX3, 109)) (b := m) (d' := 2) (av := [.int 7, .int x1]) (rest := []) rfl dX3_begins_59 q2206 q2208 rfl qs174 q2209 can_X3_todo (Nat.le_of_ble_eq_true rfl) (Nat.le_of_ble_eq_true rfl) ch_put_tag (cp_kV (w1 := ch_put m w p12) (fun Q' hq => s_X3_todo hp13 hq) ?_))))
    refine ch_aload_n 0 (some m) dX3_begins_62 rfl (ch_iconst _ 5 dX3_begins_63 rfl (ch_aload_n 0 (some m) dX3_begins_64 rfl (mp_gA 96 dX3_begins_65 fl_X3_184 rfl (ch_aload_n 0 (some m) dX3_begins_68 rfl (mp_gI 93 dX3_begins_69 fl_X3_554 rfl (ch_iconst _ 1 dX3_begins_72 rfl (ch_isub _ _ dX3_begins_73 (?_))))))))
    refine mp_iald dX3_begins_74 mk_96 h (fun v14 h => ?_)
    obtain ⟨p15, hp16, h⟩ := ch_bd h
    refine ch_iv yX3_todo prog_14_method_83_code 3 none (ci := 3) (q := (RX3, TX3, 109)) (b := m) (d' := 2) (av := [.int 5, .int v14]) (rest := []) rfl dX3_begins_75 q2206 q2208 rfl qs174 q2209 can_X3_todo (Nat.le_of_ble_eq_true rfl) (Nat.le_of_ble_eq_true rfl) ch_put_tag (cp_kV (w1 := ch_put m w p15) (fun Q' hq => s_X3_todo hp16 hq) ?_)
    refine ch_aload_n 0 (some m) dX3_begins_78 rfl (ch_iconst _ 3 dX3_begins_79 rfl (ch_aload_n 0 (some m) dX3_begins_80 rfl (mp_gA 34 dX3_begins_81 fl_X3_70 rfl (ch_iload_n 1 _ dX3_begins_84 rfl (mp_iald dX3_begins_85 mk_34 h (fun v17 h => ?_))))))
    obtain ⟨p18, hp19, h⟩ := ch_bd h
    refine ch_iv yX3_todo prog_14_method_83_code 3 none (ci := 3) (q := (RX3, TX3, 109)) (b := m) (d' := 2) (av := [.int 3, .int v17]) (rest := []) rfl dX3_begins_86 q2206 q2208 rfl qs174 q2209 can_X3_todo (Nat.le_of_ble_eq_true rfl) (Nat.le_of_ble_eq_true rfl) ch_put_tag (cp_kV (w1 := ch_put m w p18) (fun Q' hq => s_X3_todo hp19 hq) ?_)
    obtain rfl := Option.some.inj h
    exact ch_return dX3_begins_89 rfl hk

theorem bX3_settle_0 : ch_ck cX3_settle 0 [42, 180, 2, 75, 154, 0, 187, 42, 180, 2, 72, 158, 0, 180, 42, 182] := ch_ckof (by decide +kernel)
theorem bX3_settle_1 : ch_ck cX3_settle 16 [2, 99, 154, 0, 173, 42, 89, 180, 2, 72, 4, 100, 181, 2, 72, 42] := ch_ckof (by decide +kernel)
theorem bX3_settle_2 : ch_ck cX3_settle 32 [180, 0, 208, 42, 180, 2, 72, 46, 60, 42, 180, 0, 205, 42, 180, 2] := ch_ckof (by decide +kernel)
theorem bX3_settle_3 : ch_ck cX3_settle 48 [72, 46, 170, 0, 0, 0, 0, 138, 0, 0, 0, 0, 0, 0, 0, 8] := ch_ckof (by decide +kernel)
theorem bX3_settle_4 : ch_ck cX3_settle 64 [0, 0, 0, 50, 0, 0, 0, 138, 0, 0, 0, 138, 0, 0, 0, 58] := ch_ckof (by decide +kernel)
theorem bX3_settle_5 : ch_ck cX3_settle 80 [0, 0, 0, 138, 0, 0, 0, 84, 0, 0, 0, 99, 0, 0, 0, 112] := ch_ckof (by decide +kernel)
theorem bX3_settle_6 : ch_ck cX3_settle 96 [0, 0, 0, 125, 42, 27, 182, 2, 102, 167, 0, 83, 27, 156, 0, 6] := ch_ckof (by decide +kernel)
theorem bX3_settle_7 : ch_ck cX3_settle 112 [167, 0, 76, 42, 6, 42, 180, 0, 76, 27, 46, 182, 2, 84, 42, 27] := ch_ckof (by decide +kernel)
theorem bX3_settle_8 : ch_ck cX3_settle 128 [182, 2, 105, 167, 0, 57, 42, 180, 0, 184, 42, 180, 2, 42, 4, 100] := ch_ckof (by decide +kernel)
theorem bX3_settle_9 : ch_ck cX3_settle 144 [27, 79, 167, 0, 42, 42, 89, 180, 2, 48, 4, 100, 181, 2, 48, 167] := ch_ckof (by decide +kernel)
theorem bX3_settle_10 : ch_ck cX3_settle 160 [0, 29, 42, 89, 180, 2, 81, 4, 100, 181, 2, 81, 167, 0, 16, 42] := ch_ckof (by decide +kernel)
theorem bX3_settle_11 : ch_ck cX3_settle 176 [89, 180, 2, 42, 4, 100, 181, 2, 42, 167, 0, 3, 167, 255, 68, 177] := ch_ckof (by decide +kernel)
theorem dX3_settle_0 : decode cX3_settle 0 = .ok (.aload_n 0, 1) := dz_42 (bX3_settle_0 0 _ rfl)
theorem dX3_settle_1 : decode cX3_settle 1 = .ok (.getfield 587, 3) := dz_180 (bX3_settle_0 1 _ rfl) (bX3_settle_0 2 _ rfl) (bX3_settle_0 3 _ rfl)
theorem dX3_settle_4 : decode cX3_settle 4 = .ok (.ifCond .ne 187, 3) := dz_154 (bX3_settle_0 4 _ rfl) (bX3_settle_0 5 _ rfl) (bX3_settle_0 6 _ rfl)
theorem dX3_settle_7 : decode cX3_settle 7 = .ok (.aload_n 0, 1) := dz_42 (bX3_settle_0 7 _ rfl)
theorem dX3_settle_8 : decode cX3_settle 8 = .ok (.getfield 584, 3) := dz_180 (bX3_settle_0 8 _ rfl) (bX3_settle_0 9 _ rfl) (bX3_settle_0 10 _ rfl)
theorem dX3_settle_11 : decode cX3_settle 11 = .ok (.ifCond .le 180, 3) := dz_158 (bX3_settle_0 11 _ rfl) (bX3_settle_0 12 _ rfl) (bX3_settle_0 13 _ rfl)
theorem dX3_settle_14 : decode cX3_settle 14 = .ok (.aload_n 0, 1) := dz_42 (bX3_settle_0 14 _ rfl)
theorem dX3_settle_15 : decode cX3_settle 15 = .ok (.invokevirtual 611, 3) := dz_182 (bX3_settle_0 15 _ rfl) (bX3_settle_1 0 _ rfl) (bX3_settle_1 1 _ rfl)
theorem dX3_settle_18 : decode cX3_settle 18 = .ok (.ifCond .ne 173, 3) := dz_154 (bX3_settle_1 2 _ rfl) (bX3_settle_1 3 _ rfl) (bX3_settle_1 4 _ rfl)
theorem dX3_settle_21 : decode cX3_settle 21 = .ok (.aload_n 0, 1) := dz_42 (bX3_settle_1 5 _ rfl)
theorem dX3_settle_22 : decode cX3_settle 22 = .ok (.dup, 1) := dz_89 (bX3_settle_1 6 _ rfl)
theorem dX3_settle_23 : decode cX3_settle 23 = .ok (.getfield 584, 3) := dz_180 (bX3_settle_1 7 _ rfl) (bX3_settle_1 8 _ rfl) (bX3_settle_1 9 _ rfl)
theorem dX3_settle_26 : decode cX3_settle 26 = .ok (.iconst 1, 1) := dz_4 (bX3_settle_1 10 _ rfl)
theorem dX3_settle_27 : decode cX3_settle 27 = .ok (.isub, 1) := dz_100 (bX3_settle_1 11 _ rfl)
theorem dX3_settle_28 : decode cX3_settle 28 = .ok (.putfield 584, 3) := dz_181 (bX3_settle_1 12 _ rfl) (bX3_settle_1 13 _ rfl) (bX3_settle_1 14 _ rfl)
theorem dX3_settle_31 : decode cX3_settle 31 = .ok (.aload_n 0, 1) := dz_42 (bX3_settle_1 15 _ rfl)
theorem dX3_settle_32 : decode cX3_settle 32 = .ok (.getfield 208, 3) := dz_180 (bX3_settle_2 0 _ rfl) (bX3_settle_2 1 _ rfl) (bX3_settle_2 2 _ rfl)
theorem dX3_settle_35 : decode cX3_settle 35 = .ok (.aload_n 0, 1) := dz_42 (bX3_settle_2 3 _ rfl)
theorem dX3_settle_36 : decode cX3_settle 36 = .ok (.getfield 584, 3) := dz_180 (bX3_settle_2 4 _ rfl) (bX3_settle_2 5 _ rfl) (bX3_settle_2 6 _ rfl)
theorem dX3_settle_39 : decode cX3_settle 39 = .ok (.iaload, 1) := dz_46 (bX3_settle_2 7 _ rfl)
theorem dX3_settle_40 : decode cX3_settle 40 = .ok (.istore_n 1, 1) := dz_60 (bX3_settle_2 8 _ rfl)
theorem dX3_settle_41 : decode cX3_settle 41 = .ok (.aload_n 0, 1) := dz_42 (bX3_settle_2 9 _ rfl)
theorem dX3_settle_42 : decode cX3_settle 42 = .ok (.getfield 205, 3) := dz_180 (bX3_settle_2 10 _ rfl) (bX3_settle_2 11 _ rfl) (bX3_settle_2 12 _ rfl)
theorem dX3_settle_45 : decode cX3_settle 45 = .ok (.aload_n 0, 1) := dz_42 (bX3_settle_2 13 _ rfl)
theorem dX3_settle_46 : decode cX3_settle 46 = .ok (.getfield 584, 3) := dz_180 (bX3_settle_2 14 _ rfl) (bX3_settle_2 15 _ rfl) (bX3_settle_3 0 _ rfl)
theorem dX3_settle_49 : decode cX3_settle 49 = .ok (.iaload, 1) := dz_46 (bX3_settle_3 1 _ rfl)
theorem dX3_settle_50 : decode cX3_settle 50 = .ok (.tableswitch 138 0 8 #[50, 138, 138, 58, 138, 84, 99, 112, 125], 50) := by decide +kernel
theorem dX3_settle_100 : decode cX3_settle 100 = .ok (.aload_n 0, 1) := dz_42 (bX3_settle_6 4 _ rfl)
theorem dX3_settle_101 : decode cX3_settle 101 = .ok (.iload_n 1, 1) := dz_27 (bX3_settle_6 5 _ rfl)
theorem dX3_settle_102 : decode cX3_settle 102 = .ok (.invokevirtual 614, 3) := dz_182 (bX3_settle_6 6 _ rfl) (bX3_settle_6 7 _ rfl) (bX3_settle_6 8 _ rfl)
theorem dX3_settle_105 : decode cX3_settle 105 = .ok (.goto 83, 3) := dz_167 (bX3_settle_6 9 _ rfl) (bX3_settle_6 10 _ rfl) (bX3_settle_6 11 _ rfl)
theorem dX3_settle_108 : decode cX3_settle 108 = .ok (.iload_n 1, 1) := dz_27 (bX3_settle_6 12 _ rfl)
theorem dX3_settle_109 : decode cX3_settle 109 = .ok (.ifCond .ge 6, 3) := dz_156 (bX3_settle_6 13 _ rfl) (bX3_settle_6 14 _ rfl) (bX3_settle_6 15 _ rfl)
theorem dX3_settle_112 : decode cX3_settle 112 = .ok (.goto 76, 3) := dz_167 (bX3_settle_7 0 _ rfl) (bX3_settle_7 1 _ rfl) (bX3_settle_7 2 _ rfl)
theorem dX3_settle_115 : decode cX3_settle 115 = .ok (.aload_n 0, 1) := dz_42 (bX3_settle_7 3 _ rfl)
theorem dX3_settle_116 : decode cX3_settle 116 = .ok (.iconst 3, 1) := dz_6 (bX3_settle_7 4 _ rfl)
theorem dX3_settle_117 : decode cX3_settle 117 = .ok (.aload_n 0, 1) := dz_42 (bX3_settle_7 5 _ rfl)
theorem dX3_settle_118 : decode cX3_settle 118 = .ok (.getfield 76, 3) := dz_180 (bX3_settle_7 6 _ rfl) (bX3_settle_7 7 _ rfl) (bX3_settle_7 8 _ rfl)
theorem dX3_settle_121 : decode cX3_settle 121 = .ok (.iload_n 1, 1) := dz_27 (bX3_settle_7 9 _ rfl)
theorem dX3_settle_122 : decode cX3_settle 122 = .ok (.iaload, 1) := dz_46 (bX3_settle_7 10 _ rfl)
theorem dX3_settle_123 : decode cX3_settle 123 = .ok (.invokevirtual 596, 3) := dz_182 (bX3_settle_7 11 _ rfl) (bX3_settle_7 12 _ rfl) (bX3_settle_7 13 _ rfl)
theorem dX3_settle_126 : decode cX3_settle 126 = .ok (.aload_n 0, 1) := dz_42 (bX3_settle_7 14 _ rfl)
theorem dX3_settle_127 : decode cX3_settle 127 = .ok (.iload_n 1, 1) := dz_27 (bX3_settle_7 15 _ rfl)
theorem dX3_settle_128 : decode cX3_settle 128 = .ok (.invokevirtual 617, 3) := dz_182 (bX3_settle_8 0 _ rfl) (bX3_settle_8 1 _ rfl) (bX3_settle_8 2 _ rfl)
theorem dX3_settle_131 : decode cX3_settle 131 = .ok (.goto 57, 3) := dz_167 (bX3_settle_8 3 _ rfl) (bX3_settle_8 4 _ rfl) (bX3_settle_8 5 _ rfl)
theorem dX3_settle_134 : decode cX3_settle 134 = .ok (.aload_n 0, 1) := dz_42 (bX3_settle_8 6 _ rfl)
theorem dX3_settle_135 : decode cX3_settle 135 = .ok (.getfield 184, 3) := dz_180 (bX3_settle_8 7 _ rfl) (bX3_settle_8 8 _ rfl) (bX3_settle_8 9 _ rfl)
theorem dX3_settle_138 : decode cX3_settle 138 = .ok (.aload_n 0, 1) := dz_42 (bX3_settle_8 10 _ rfl)
theorem dX3_settle_139 : decode cX3_settle 139 = .ok (.getfield 554, 3) := dz_180 (bX3_settle_8 11 _ rfl) (bX3_settle_8 12 _ rfl) (bX3_settle_8 13 _ rfl)
theorem dX3_settle_142 : decode cX3_settle 142 = .ok (.iconst 1, 1) := dz_4 (bX3_settle_8 14 _ rfl)
theorem dX3_settle_143 : decode cX3_settle 143 = .ok (.isub, 1) := dz_100 (bX3_settle_8 15 _ rfl)
theorem dX3_settle_144 : decode cX3_settle 144 = .ok (.iload_n 1, 1) := dz_27 (bX3_settle_9 0 _ rfl)
theorem dX3_settle_145 : decode cX3_settle 145 = .ok (.iastore, 1) := dz_79 (bX3_settle_9 1 _ rfl)
theorem dX3_settle_146 : decode cX3_settle 146 = .ok (.goto 42, 3) := dz_167 (bX3_settle_9 2 _ rfl) (bX3_settle_9 3 _ rfl) (bX3_settle_9 4 _ rfl)
theorem dX3_settle_149 : decode cX3_settle 149 = .ok (.aload_n 0, 1) := dz_42 (bX3_settle_9 5 _ rfl)
theorem dX3_settle_150 : decode cX3_settle 150 = .ok (.dup, 1) := dz_89 (bX3_settle_9 6 _ rfl)
theorem dX3_settle_151 : decode cX3_settle 151 = .ok (.getfield 560, 3) := dz_180 (bX3_settle_9 7 _ rfl) (bX3_settle_9 8 _ rfl) (bX3_settle_9 9 _ rfl)
theorem dX3_settle_154 : decode cX3_settle 154 = .ok (.iconst 1, 1) := dz_4 (bX3_settle_9 10 _ rfl)
theorem dX3_settle_155 : decode cX3_settle 155 = .ok (.isub, 1) := dz_100 (bX3_settle_9 11 _ rfl)
theorem dX3_settle_156 : decode cX3_settle 156 = .ok (.putfield 560, 3) := dz_181 (bX3_settle_9 12 _ rfl) (bX3_settle_9 13 _ rfl) (bX3_settle_9 14 _ rfl)
theorem dX3_settle_159 : decode cX3_settle 159 = .ok (.goto 29, 3) := dz_167 (bX3_settle_9 15 _ rfl) (bX3_settle_10 0 _ rfl) (bX3_settle_10 1 _ rfl)
theorem dX3_settle_162 : decode cX3_settle 162 = .ok (.aload_n 0, 1) := dz_42 (bX3_settle_10 2 _ rfl)
theorem dX3_settle_163 : decode cX3_settle 163 = .ok (.dup, 1) := dz_89 (bX3_settle_10 3 _ rfl)
theorem dX3_settle_164 : decode cX3_settle 164 = .ok (.getfield 593, 3) := dz_180 (bX3_settle_10 4 _ rfl) (bX3_settle_10 5 _ rfl) (bX3_settle_10 6 _ rfl)
theorem dX3_settle_167 : decode cX3_settle 167 = .ok (.iconst 1, 1) := dz_4 (bX3_settle_10 7 _ rfl)
theorem dX3_settle_168 : decode cX3_settle 168 = .ok (.isub, 1) := dz_100 (bX3_settle_10 8 _ rfl)
theorem dX3_settle_169 : decode cX3_settle 169 = .ok (.putfield 593, 3) := dz_181 (bX3_settle_10 9 _ rfl) (bX3_settle_10 10 _ rfl) (bX3_settle_10 11 _ rfl)
theorem dX3_settle_172 : decode cX3_settle 172 = .ok (.goto 16, 3) := dz_167 (bX3_settle_10 12 _ rfl) (bX3_settle_10 13 _ rfl) (bX3_settle_10 14 _ rfl)
theorem dX3_settle_175 : decode cX3_settle 175 = .ok (.aload_n 0, 1) := dz_42 (bX3_settle_10 15 _ rfl)
theorem dX3_settle_176 : decode cX3_settle 176 = .ok (.dup, 1) := dz_89 (bX3_settle_11 0 _ rfl)
theorem dX3_settle_177 : decode cX3_settle 177 = .ok (.getfield 554, 3) := dz_180 (bX3_settle_11 1 _ rfl) (bX3_settle_11 2 _ rfl) (bX3_settle_11 3 _ rfl)
theorem dX3_settle_180 : decode cX3_settle 180 = .ok (.iconst 1, 1) := dz_4 (bX3_settle_11 4 _ rfl)
theorem dX3_settle_181 : decode cX3_settle 181 = .ok (.isub, 1) := dz_100 (bX3_settle_11 5 _ rfl)
theorem dX3_settle_182 : decode cX3_settle 182 = .ok (.putfield 554, 3) := dz_181 (bX3_settle_11 6 _ rfl) (bX3_settle_11 7 _ rfl) (bX3_settle_11 8 _ rfl)
theorem dX3_settle_185 : decode cX3_settle 185 = .ok (.goto 3, 3) := dz_167 (bX3_settle_11 9 _ rfl) (bX3_settle_11 10 _ rfl) (bX3_settle_11 11 _ rfl)
theorem dX3_settle_188 : decode cX3_settle 188 = .ok (.goto (-188), 3) := dz_167 (bX3_settle_11 12 _ rfl) (bX3_settle_11 13 _ rfl) (bX3_settle_11 14 _ rfl)
theorem dX3_settle_191 : decode cX3_settle 191 = .ok (.return_, 1) := dz_177 (bX3_settle_11 15 _ rfl)
def m_X3_settle_0   (σ : ch_S) : Option (ch_S ⊕ (ch_S)) := if (σ.1 fX3_over) = 0 then (if 0 < (σ.1 fX3_todo) then ((m_X3_isStep σ).bind fun v1 => if v1 = 0 then ((ch_mI σ fX3_todo ((σ.1 fX3_todo) - 1)).bind fun σ3 => (ch_ma σ3 fX3_todoOf (σ3.1 fX3_todo)).bind fun v4 => (ch_ma σ3 fX3_todoIs (σ3.1 fX3_todo)).bind fun v5 => if v5 = 0 then ((m_X3_unfold v4 σ3).bind fun p6 => some (.inl (p6))) else (if v5 = 1 then (some (.inl (σ3))) else (if v5 = 2 then (some (.inl (σ3))) else (if v5 = 3 then (if v4 < 0 then (some (.inl (σ3))) else ((ch_ma σ3 fX3_nextOf v4).bind fun v8 => (m_X3_todo 3 v8 σ3).bind fun p9 => (m_X3_begins v4 p9).bind fun p11 => some (.inl (p11)))) else (if v5 = 4 then (some (.inl (σ3))) else (if v5 = 5 then ((ch_mw σ3 fX3_openMany ((σ3.1 fX3_open) - 1) v4).bind fun σ13 => some (.inl (σ13))) else (if v5 = 6 then ((ch_mI σ3 fX3_piled ((σ3.1 fX3_piled) - 1)).bind fun σ14 => some (.inl (σ14))) else (if v5 = 7 then ((ch_mI σ3 fX3_tries ((σ3.1 fX3_tries) - 1)).bind fun σ15 => some (.inl (σ15))) else (if v5 = 8 then ((ch_mI σ3 fX3_open ((σ3.1 fX3_open) - 1)).bind fun σ16 => some (.inl (σ16))) else (some (.inl (σ3)))))))))))) else (some (.inr (σ)))) else (some (.inr (σ)))) else (some (.inr (σ)))
theorem s_X3_settle_0 {g : State} {m : Nat} {w : ch_W} {σ : ch_S} {res : ch_S ⊕ (ch_S)} {Q : Outcome → ch_W → Prop} (h : m_X3_settle_0  σ = some res) (hk : (ch_sm (fun s => ch_FT g false mX3_settle 4 0 [some (va_rf (some m)), none] [] (ch_put m w s) Q) (fun r => ch_eV Q (ch_put m w r))) res) : ch_FT g false mX3_settle 4 0 [some (va_rf (some m)), none] [] (ch_put m w σ) Q := by
  unfold m_X3_settle_0 at h
  refine ch_aload_n 0 (some m) dX3_settle_0 rfl (mp_gI 70 dX3_settle_1 fl_X3_587 rfl (cp_if_ne _ (tgt := 191) dX3_settle_4 rfl h (fun h => ?_) (fun h => ?_)))
  · obtain rfl := Option.some.inj h
    exact ch_return dX3_settle_191 rfl hk
  · refine ch_aload_n 0 (some m) dX3_settle_7 rfl (mp_gI 103 dX3_settle_8 fl_X3_584 rfl (cp_if_le _ (tgt := 191) dX3_settle_11 rfl h (fun h => ?_) (fun h => ?_)))
    · obtain rfl := Option.some.inj h
      exact ch_return dX3_settle_191 rfl hk
    · obtain ⟨v1, hp2, h⟩ := ch_bd h
      refine ch_aload_n 0 (some m) dX3_settle_14 rfl (ch_iv yX3_isStep prog_14_method_90_code 2 (some .boolean) (ci := 3) (q := (RX3, TX3, 109)) (b := m) (d' := 3) (av := []) (rest := []) rfl dX3_settle_15 q2214 q2216 rfl qs176 q2217 can_X3_isStep (Nat.le_of_ble_eq_true rfl) (Nat.le_of_ble_eq_true rfl) ch_put_tag (cp_kI (v := v1) (w1 := ch_put m w σ) (fun Q' hq => s_X3_isStep hp2 hq) ?_))
      refine cp_if_ne _ (tgt := 191) dX3_settle_18 rfl h (fun h => ?_) (fun h => ?_)
      · obtain rfl := Option.some.inj h
        exact ch_return dX3_settle_191 rfl hk
      · refine ch_aload_n 0 (some m) dX3_settle_21 rfl (ch_dup dX3_settle_22 (ch_cat _) (mp_gI 103 dX3_settle_23 fl_X3_584 rfl (ch_iconst _ 1 dX3_settle_26 rfl (ch_isub _ _ dX3_settle_27 (mp_pI (k := 103) dX3_settle_28 fl_X3_584 rfl rfl rfl h (fun σ3 h => ?_))))))
        refine ch_aload_n 0 (some m) dX3_settle_31 rfl (mp_gA 105 dX3_settle_32 fl_X3_208 rfl (ch_aload_n 0 (some m) dX3_settle_35 rfl (mp_gI 103 dX3_settle_36 fl_X3_584 rfl (mp_iald dX3_settle_39 mk_105 h (fun v4 h => ?_)))))
        refine ch_istore_n 1 _ (ls1 := [some (va_rf (some m)), some (.int v4)]) dX3_settle_40 (Nat.le_of_ble_eq_true rfl) rfl (ch_aload_n 0 (some m) dX3_settle_41 rfl (mp_gA 104 dX3_settle_42 fl_X3_205 rfl (ch_aload_n 0 (some m) dX3_settle_45 rfl (mp_gI 103 dX3_settle_46 fl_X3_584 rfl (mp_iald dX3_settle_49 mk_104 h (fun v5 h => ?_))))))
        by_cases e0 : v5 = 0
        · have h := ch_ifT e0 h
          refine ch_tableIn _ (off := 50) (tgt := 100) dX3_settle_50 (by rw [e0]; decide) (by rw [e0]; decide) (by rw [e0]; rfl) rfl ?_
          obtain ⟨p6, hp7, h⟩ := ch_bd h
          refine ch_aload_n 0 (some m) dX3_settle_100 rfl (ch_iload_n 1 _ dX3_settle_101 rfl (ch_iv yX3_unfold prog_14_method_91_code 4 none (ci := 3) (q := (RX3, TX3, 109)) (b := m) (d' := 3) (av := [.int v4]) (rest := []) rfl dX3_settle_102 q2222 q2224 rfl qs178 q2225 can_X3_unfold (Nat.le_of_ble_eq_true rfl) (Nat.le_of_ble_eq_true rfl) ch_put_tag (cp_kV (w1 := ch_put m w p6) (fun Q' hq => s_X3_unfold hp7 hq) ?_)))
          refine ch_goto 188 dX3_settle_105 rfl (ch_goto 0 dX3_settle_188 rfl (ch_FT.wk (ch_wS (ch_wN ch_w0)) ?_))
          obtain rfl := Option.some.inj h
          exact hk
        replace h := ch_ifF e0 h
        by_cases e1 : v5 = 1
        · have h := ch_ifT e1 h
          refine ch_tableIn _ (off := 138) (tgt := 188) dX3_settle_50 (by rw [e1]; decide) (by rw [e1]; decide) (by rw [e1]; rfl) rfl ?_
          refine ch_goto 0 dX3_settle_188 rfl (ch_FT.wk (ch_wS (ch_wN ch_w0)) ?_)
          obtain rfl := Option.some.inj h
          exact hk
        replace h := ch_ifF e1 h
        by_cases e2 : v5 = 2
        · have h := ch_ifT e2 h
          refine ch_tableIn _ (off := 138) (tgt := 188) dX3_settle_50 (by rw [e2]; decide) (by rw [e2]; decide) (by rw [e2]; rfl) rfl ?_
          refine ch_goto 0 dX3_settle_188 rfl (ch_FT.wk (ch_wS (ch_wN ch_w0)) ?_)
          obtain rfl := Option.some.inj h
          exact hk
        replace h := ch_ifF e2 h
        by_cases e3 : v5 = 3
        · have h := ch_ifT e3 h
          refine ch_tableIn _ (off := 58) (tgt := 108) dX3_settle_50 (by rw [e3]; decide) (by rw [e3]; decide) (by rw [e3]; rfl) rfl ?_
          refine ch_iload_n 1 _ dX3_settle_108 rfl (cp_if_ge _ (tgt := 115) dX3_settle_109 rfl h (fun h => ?_) (fun h => ?_))
          · refine ch_aload_n 0 (some m) dX3_settle_115 rfl (ch_iconst _ 3 dX3_settle_116 rfl (ch_aload_n 0 (some m) dX3_settle_117 rfl (mp_gA 36 dX3_settle_118 fl_X3_76 rfl (ch_iload_n 1 _ dX3_settle_121 rfl (mp_iald dX3_settle_122 mk_36 h (fun v8 h => ?_))))))
            obtain ⟨p9, hp10, h⟩ := ch_bd h
            refine ch_iv yX3_todo prog_14_method_83_code 3 none (ci := 3) (q := (RX3, TX3, 109)) (b := m) (d' := 2) (av := [.int 3, .int v8]) (rest := []) rfl dX3_settle_123 q2206 q2208 rfl qs174 q2209 can_X3_todo (Nat.le_of_ble_eq_true rfl) (Nat.le_of_ble_eq_true rfl) ch_put_tag (cp_kV (w1 := ch_put m w p9) (fun Q' hq => s_X3_todo hp10 hq) ?_)
            obtain ⟨p11, hp12, h⟩ := ch_bd h
            refine ch_aload_n 0 (some m) dX3_settle_126 rfl (ch_iload_n 1 _ dX3_settle_127 rfl (ch_iv yX3_begins prog_14_method_92_code 4 none (ci := 3) (q := (RX3, TX3, 109)) (b := m) (d' := 3) (av := [.int v4]) (rest := []) rfl dX3_settle_128 q2226 q2228 rfl qs179 q2229 can_X3_begins (Nat.le_of_ble_eq_true rfl) (Nat.le_of_ble_eq_true rfl) ch_put_tag (cp_kV (w1 := ch_put m w p11) (fun Q' hq => s_X3_begins hp12 hq) ?_)))
            refine ch_goto 188 dX3_settle_131 rfl (ch_goto 0 dX3_settle_188 rfl (ch_FT.wk (ch_wS (ch_wN ch_w0)) ?_))
            obtain rfl := Option.some.inj h
            exact hk
          · refine ch_goto 188 dX3_settle_112 rfl (ch_goto 0 dX3_settle_188 rfl (ch_FT.wk (ch_wS (ch_wN ch_w0)) ?_))
            obtain rfl := Option.some.inj h
            exact hk
        replace h := ch_ifF e3 h
        by_cases e4 : v5 = 4
        · have h := ch_ifT e4 h
          refine ch_tableIn _ (off := 138) (tgt := 188) dX3_settle_50 (by rw [e4]; decide) (by rw [e4]; decide) (by rw [e4]; rfl) rfl ?_
          refine ch_goto 0 dX3_settle_188 rfl (ch_FT.wk (ch_wS (ch_wN ch_w0)) ?_)
          obtain rfl := Option.some.inj h
          exact hk
        replace h := ch_ifF e4 h
        by_cases e5 : v5 = 5
        · have h := ch_ifT e5 h
          refine ch_tableIn _ (off := 84) (tgt := 134) dX3_settle_50 (by rw [e5]; decide) (by rw [e5]; decide) (by rw [e5]; rfl) rfl ?_
          refine ch_aload_n 0 (some m) dX3_settle_134 rfl (mp_gA 96 dX3_settle_135 fl_X3_184 rfl (ch_aload_n 0 (some m) dX3_settle_138 rfl (mp_gI 93 dX3_settle_139 fl_X3_554 rfl (ch_iconst _ 1 dX3_settle_142 rfl (ch_isub _ _ dX3_settle_143 (ch_iload_n 1 _ dX3_settle_144 rfl (mp_iast dX3_settle_145 mk_96 rfl h (fun σ13 h => ?_))))))))
          refine ch_goto 188 dX3_settle_146 rfl (ch_goto 0 dX3_settle_188 rfl (ch_FT.wk (ch_wS (ch_wN ch_w0)) ?_))
          obtain rfl := Option.some.inj h
          exact hk
        replace h := ch_ifF e5 h
        by_cases e6 : v5 = 6
        · have h := ch_ifT e6 h
          refine ch_tableIn _ (off := 99) (tgt := 149) dX3_settle_50 (by rw [e6]; decide) (by rw [e6]; decide) (by rw [e6]; rfl) rfl ?_
          refine ch_aload_n 0 (some m) dX3_settle_149 rfl (ch_dup dX3_settle_150 (ch_cat _) (mp_gI 100 dX3_settle_151 fl_X3_560 rfl (ch_iconst _ 1 dX3_settle_154 rfl (ch_isub _ _ dX3_settle_155 (mp_pI (k := 100) dX3_settle_156 fl_X3_560 rfl rfl rfl h (fun σ14 h => ?_))))))
          refine ch_goto 188 dX3_settle_159 rfl (ch_goto 0 dX3_settle_188 rfl (ch_FT.wk (ch_wS (ch_wN ch_w0)) ?_))
          obtain rfl := Option.some.inj h
          exact hk
        replace h := ch_ifF e6 h
        by_cases e7 : v5 = 7
        · have h := ch_ifT e7 h
          refine ch_tableIn _ (off := 112) (tgt := 162) dX3_settle_50 (by rw [e7]; decide) (by rw [e7]; decide) (by rw [e7]; rfl) rfl ?_
          refine ch_aload_n 0 (some m) dX3_settle_162 rfl (ch_dup dX3_settle_163 (ch_cat _) (mp_gI 106 dX3_settle_164 fl_X3_593 rfl (ch_iconst _ 1 dX3_settle_167 rfl (ch_isub _ _ dX3_settle_168 (mp_pI (k := 106) dX3_settle_169 fl_X3_593 rfl rfl rfl h (fun σ15 h => ?_))))))
          refine ch_goto 188 dX3_settle_172 rfl (ch_goto 0 dX3_settle_188 rfl (ch_FT.wk (ch_wS (ch_wN ch_w0)) ?_))
          obtain rfl := Option.some.inj h
          exact hk
        replace h := ch_ifF e7 h
        by_cases e8 : v5 = 8
        · have h := ch_ifT e8 h
          refine ch_tableIn _ (off := 125) (tgt := 175) dX3_settle_50 (by rw [e8]; decide) (by rw [e8]; decide) (by rw [e8]; rfl) rfl ?_
          refine ch_aload_n 0 (some m) dX3_settle_175 rfl (ch_dup dX3_settle_176 (ch_cat _) (mp_gI 93 dX3_settle_177 fl_X3_554 rfl (ch_iconst _ 1 dX3_settle_180 rfl (ch_isub _ _ dX3_settle_181 (mp_pI (k := 93) dX3_settle_182 fl_X3_554 rfl rfl rfl h (fun σ16 h => ?_))))))
          refine ch_goto 188 dX3_settle_185 rfl (ch_goto 0 dX3_settle_188 rfl (ch_FT.wk (ch_wS (ch_wN ch_w0)) ?_))
          obtain rfl := Option.some.inj h
          exact hk
        replace h := ch_ifF e8 h
        refine ch_tableOut _ (tgt := 188) dX3_settle_50 (by have t0 := ch_ne (n := 0) e0 rfl; have t1 := ch_ne (n := 1) e1 rfl; have t2 := ch_ne (n := 2) e2 rfl; have t3 := ch_ne (n := 3) e3 rfl; have t4 := ch_ne (n := 4) e4 rfl; have t5 := ch_ne (n := 5) e5 rfl; have t6 := ch_ne (n := 6) e6 rfl; have t7 := ch_ne (n := 7) e7 rfl; have t8 := ch_ne (n := 8) e8 rfl; omega) rfl ?_
        refine ch_goto 0 dX3_settle_188 rfl (ch_FT.wk (ch_wS (ch_wN ch_w0)) ?_)
        obtain rfl := Option.some.inj h
        exact hk
theorem sl_X3_settle_0 {g : State} {m : Nat} {w : ch_W} {a : ch_S} {res : ch_S} {Q : Outcome → ch_W → Prop} (h : ch_loop (fun (s : ch_S) => m_X3_settle_0 s) a = some res) (hk : (fun r => ch_eV Q (ch_put m w r)) res) : ch_FT g false mX3_settle 4 0 [some (va_rf (some m)), none] [] (ch_put m w a) Q := by
  refine ch_loop_ind (fun (a : ch_S) (r : ch_S) => (fun r => ch_eV Q (ch_put m w r)) r → ch_FT g false mX3_settle 4 0 [some (va_rf (some m)), none] [] (ch_put m w a) Q) ?_ ?_ a res h hk
  · intro a a2 b h1 ih hk
    exact s_X3_settle_0  h1 (ih hk)
  · intro a b h1 hk
    exact s_X3_settle_0  h1 hk

def m_X3_settle  (σ : ch_S) : Option (ch_S) := ch_loop (fun (s : ch_S) => m_X3_settle_0 s) (σ)
theorem s_X3_settle {g : State} {m : Nat} {w : ch_W} {σ : ch_S} {res : ch_S} {Q : Outcome → ch_W → Prop} (h : m_X3_settle  σ = some res) (hk : (fun r => ch_eV Q (ch_put m w r)) res) : ch_CT g false yX3_settle 4 [.ref m] (ch_put m w σ) Q := by
  unfold m_X3_settle at h
  refine ch_ctL mX3_settle (ls := [some (va_rf (some m)), none]) q2213 rfl (ch_lyr (r := some m) ch_ly0) (Nat.le_of_ble_eq_true rfl) rfl ?_
  exact ch_FT.wk (ch_wS (ch_wN ch_w0)) (sl_X3_settle_0  h hk)

theorem bX3_start_0 : ch_ck cX3_start 0 [42, 180, 1, 182, 154, 0, 5, 3, 172, 42, 4, 181, 1, 186, 42, 3] := ch_ckof (by decide +kernel)
theorem bX3_start_1 : ch_ck cX3_start 16 [181, 2, 75, 42, 42, 180, 0, 144, 5, 42, 180, 0, 91, 42, 180, 1] := ch_ckof (by decide +kernel)
theorem bX3_start_2 : ch_ck cX3_start 32 [201, 46, 96, 184, 2, 172, 181, 2, 57, 42, 3, 181, 2, 150, 42, 3] := ch_ckof (by decide +kernel)
theorem bX3_start_3 : ch_ck cX3_start 48 [181, 2, 78, 42, 3, 181, 2, 90, 42, 3, 181, 2, 145, 42, 3, 181] := ch_ckof (by decide +kernel)
theorem bX3_start_4 : ch_ck cX3_start 64 [2, 42, 42, 3, 181, 2, 48, 42, 3, 181, 2, 72, 42, 3, 181, 2] := ch_ckof (by decide +kernel)
theorem bX3_start_5 : ch_ck cX3_start 80 [81, 42, 3, 181, 2, 54, 42, 3, 181, 2, 39, 3, 60, 27, 8, 162] := ch_ckof (by decide +kernel)
theorem bX3_start_6 : ch_ck cX3_start 96 [0, 16, 42, 27, 3, 182, 2, 120, 61, 132, 1, 1, 167, 255, 241, 42] := ch_ckof (by decide +kernel)
theorem bX3_start_7 : ch_ck cX3_start 112 [3, 181, 2, 60, 42, 3, 181, 2, 69, 42, 42, 180, 1, 201, 42, 180] := ch_ckof (by decide +kernel)
theorem bX3_start_8 : ch_ck cX3_start 128 [0, 91, 42, 180, 1, 201, 46, 182, 2, 120, 60, 42, 27, 42, 42, 180] := ch_ckof (by decide +kernel)
theorem bX3_start_9 : ch_ck cX3_start 144 [1, 201, 16, 6, 4, 182, 1, 166, 3, 3, 182, 2, 138, 42, 180, 0] := ch_ckof (by decide +kernel)
theorem bX3_start_10 : ch_ck cX3_start 160 [187, 3, 3, 79, 42, 182, 2, 165, 4, 172] := ch_ckof (by decide +kernel)
theorem dX3_start_0 : decode cX3_start 0 = .ok (.aload_n 0, 1) := dz_42 (bX3_start_0 0 _ rfl)
theorem dX3_start_1 : decode cX3_start 1 = .ok (.getfield 438, 3) := dz_180 (bX3_start_0 1 _ rfl) (bX3_start_0 2 _ rfl) (bX3_start_0 3 _ rfl)
theorem dX3_start_4 : decode cX3_start 4 = .ok (.ifCond .ne 5, 3) := dz_154 (bX3_start_0 4 _ rfl) (bX3_start_0 5 _ rfl) (bX3_start_0 6 _ rfl)
theorem dX3_start_7 : decode cX3_start 7 = .ok (.iconst 0, 1) := dz_3 (bX3_start_0 7 _ rfl)
theorem dX3_start_8 : decode cX3_start 8 = .ok (.ireturn, 1) := dz_172 (bX3_start_0 8 _ rfl)
theorem dX3_start_9 : decode cX3_start 9 = .ok (.aload_n 0, 1) := dz_42 (bX3_start_0 9 _ rfl)
theorem dX3_start_10 : decode cX3_start 10 = .ok (.iconst 1, 1) := dz_4 (bX3_start_0 10 _ rfl)
theorem dX3_start_11 : decode cX3_start 11 = .ok (.putfield 442, 3) := dz_181 (bX3_start_0 11 _ rfl) (bX3_start_0 12 _ rfl) (bX3_start_0 13 _ rfl)
theorem dX3_start_14 : decode cX3_start 14 = .ok (.aload_n 0, 1) := dz_42 (bX3_start_0 14 _ rfl)
theorem dX3_start_15 : decode cX3_start 15 = .ok (.iconst 0, 1) := dz_3 (bX3_start_0 15 _ rfl)
theorem dX3_start_16 : decode cX3_start 16 = .ok (.putfield 587, 3) := dz_181 (bX3_start_1 0 _ rfl) (bX3_start_1 1 _ rfl) (bX3_start_1 2 _ rfl)
theorem dX3_start_19 : decode cX3_start 19 = .ok (.aload_n 0, 1) := dz_42 (bX3_start_1 3 _ rfl)
theorem dX3_start_20 : decode cX3_start 20 = .ok (.aload_n 0, 1) := dz_42 (bX3_start_1 4 _ rfl)
theorem dX3_start_21 : decode cX3_start 21 = .ok (.getfield 144, 3) := dz_180 (bX3_start_1 5 _ rfl) (bX3_start_1 6 _ rfl) (bX3_start_1 7 _ rfl)
theorem dX3_start_24 : decode cX3_start 24 = .ok (.iconst 2, 1) := dz_5 (bX3_start_1 8 _ rfl)
theorem dX3_start_25 : decode cX3_start 25 = .ok (.aload_n 0, 1) := dz_42 (bX3_start_1 9 _ rfl)
theorem dX3_start_26 : decode cX3_start 26 = .ok (.getfield 91, 3) := dz_180 (bX3_start_1 10 _ rfl) (bX3_start_1 11 _ rfl) (bX3_start_1 12 _ rfl)
theorem dX3_start_29 : decode cX3_start 29 = .ok (.aload_n 0, 1) := dz_42 (bX3_start_1 13 _ rfl)
theorem dX3_start_30 : decode cX3_start 30 = .ok (.getfield 457, 3) := dz_180 (bX3_start_1 14 _ rfl) (bX3_start_1 15 _ rfl) (bX3_start_2 0 _ rfl)
theorem dX3_start_33 : decode cX3_start 33 = .ok (.iaload, 1) := dz_46 (bX3_start_2 1 _ rfl)
theorem dX3_start_34 : decode cX3_start 34 = .ok (.iadd, 1) := dz_96 (bX3_start_2 2 _ rfl)
theorem dX3_start_35 : decode cX3_start 35 = .ok (.invokestatic 684, 3) := dz_184 (bX3_start_2 3 _ rfl) (bX3_start_2 4 _ rfl) (bX3_start_2 5 _ rfl)
theorem dX3_start_38 : decode cX3_start 38 = .ok (.putfield 569, 3) := dz_181 (bX3_start_2 6 _ rfl) (bX3_start_2 7 _ rfl) (bX3_start_2 8 _ rfl)
theorem dX3_start_41 : decode cX3_start 41 = .ok (.aload_n 0, 1) := dz_42 (bX3_start_2 9 _ rfl)
theorem dX3_start_42 : decode cX3_start 42 = .ok (.iconst 0, 1) := dz_3 (bX3_start_2 10 _ rfl)
theorem dX3_start_43 : decode cX3_start 43 = .ok (.putfield 662, 3) := dz_181 (bX3_start_2 11 _ rfl) (bX3_start_2 12 _ rfl) (bX3_start_2 13 _ rfl)
theorem dX3_start_46 : decode cX3_start 46 = .ok (.aload_n 0, 1) := dz_42 (bX3_start_2 14 _ rfl)
theorem dX3_start_47 : decode cX3_start 47 = .ok (.iconst 0, 1) := dz_3 (bX3_start_2 15 _ rfl)
theorem dX3_start_48 : decode cX3_start 48 = .ok (.putfield 590, 3) := dz_181 (bX3_start_3 0 _ rfl) (bX3_start_3 1 _ rfl) (bX3_start_3 2 _ rfl)
theorem dX3_start_51 : decode cX3_start 51 = .ok (.aload_n 0, 1) := dz_42 (bX3_start_3 3 _ rfl)
theorem dX3_start_52 : decode cX3_start 52 = .ok (.iconst 0, 1) := dz_3 (bX3_start_3 4 _ rfl)
theorem dX3_start_53 : decode cX3_start 53 = .ok (.putfield 602, 3) := dz_181 (bX3_start_3 5 _ rfl) (bX3_start_3 6 _ rfl) (bX3_start_3 7 _ rfl)
theorem dX3_start_56 : decode cX3_start 56 = .ok (.aload_n 0, 1) := dz_42 (bX3_start_3 8 _ rfl)
theorem dX3_start_57 : decode cX3_start 57 = .ok (.iconst 0, 1) := dz_3 (bX3_start_3 9 _ rfl)
theorem dX3_start_58 : decode cX3_start 58 = .ok (.putfield 657, 3) := dz_181 (bX3_start_3 10 _ rfl) (bX3_start_3 11 _ rfl) (bX3_start_3 12 _ rfl)
theorem dX3_start_61 : decode cX3_start 61 = .ok (.aload_n 0, 1) := dz_42 (bX3_start_3 13 _ rfl)
theorem dX3_start_62 : decode cX3_start 62 = .ok (.iconst 0, 1) := dz_3 (bX3_start_3 14 _ rfl)
theorem dX3_start_63 : decode cX3_start 63 = .ok (.putfield 554, 3) := dz_181 (bX3_start_3 15 _ rfl) (bX3_start_4 0 _ rfl) (bX3_start_4 1 _ rfl)
theorem dX3_start_66 : decode cX3_start 66 = .ok (.aload_n 0, 1) := dz_42 (bX3_start_4 2 _ rfl)
theorem dX3_start_67 : decode cX3_start 67 = .ok (.iconst 0, 1) := dz_3 (bX3_start_4 3 _ rfl)
theorem dX3_start_68 : decode cX3_start 68 = .ok (.putfield 560, 3) := dz_181 (bX3_start_4 4 _ rfl) (bX3_start_4 5 _ rfl) (bX3_start_4 6 _ rfl)
theorem dX3_start_71 : decode cX3_start 71 = .ok (.aload_n 0, 1) := dz_42 (bX3_start_4 7 _ rfl)
theorem dX3_start_72 : decode cX3_start 72 = .ok (.iconst 0, 1) := dz_3 (bX3_start_4 8 _ rfl)
theorem dX3_start_73 : decode cX3_start 73 = .ok (.putfield 584, 3) := dz_181 (bX3_start_4 9 _ rfl) (bX3_start_4 10 _ rfl) (bX3_start_4 11 _ rfl)
theorem dX3_start_76 : decode cX3_start 76 = .ok (.aload_n 0, 1) := dz_42 (bX3_start_4 12 _ rfl)
theorem dX3_start_77 : decode cX3_start 77 = .ok (.iconst 0, 1) := dz_3 (bX3_start_4 13 _ rfl)
theorem dX3_start_78 : decode cX3_start 78 = .ok (.putfield 593, 3) := dz_181 (bX3_start_4 14 _ rfl) (bX3_start_4 15 _ rfl) (bX3_start_5 0 _ rfl)
theorem dX3_start_81 : decode cX3_start 81 = .ok (.aload_n 0, 1) := dz_42 (bX3_start_5 1 _ rfl)
theorem dX3_start_82 : decode cX3_start 82 = .ok (.iconst 0, 1) := dz_3 (bX3_start_5 2 _ rfl)
theorem dX3_start_83 : decode cX3_start 83 = .ok (.putfield 566, 3) := dz_181 (bX3_start_5 3 _ rfl) (bX3_start_5 4 _ rfl) (bX3_start_5 5 _ rfl)
theorem dX3_start_86 : decode cX3_start 86 = .ok (.aload_n 0, 1) := dz_42 (bX3_start_5 6 _ rfl)
theorem dX3_start_87 : decode cX3_start 87 = .ok (.iconst 0, 1) := dz_3 (bX3_start_5 7 _ rfl)
theorem dX3_start_88 : decode cX3_start 88 = .ok (.putfield 551, 3) := dz_181 (bX3_start_5 8 _ rfl) (bX3_start_5 9 _ rfl) (bX3_start_5 10 _ rfl)
theorem dX3_start_91 : decode cX3_start 91 = .ok (.iconst 0, 1) := dz_3 (bX3_start_5 11 _ rfl)
theorem dX3_start_92 : decode cX3_start 92 = .ok (.istore_n 1, 1) := dz_60 (bX3_start_5 12 _ rfl)
theorem dX3_start_93 : decode cX3_start 93 = .ok (.iload_n 1, 1) := dz_27 (bX3_start_5 13 _ rfl)
theorem dX3_start_94 : decode cX3_start 94 = .ok (.iconst 5, 1) := dz_8 (bX3_start_5 14 _ rfl)
theorem dX3_start_95 : decode cX3_start 95 = .ok (.if_icmp .ge 16, 3) := dz_162 (bX3_start_5 15 _ rfl) (bX3_start_6 0 _ rfl) (bX3_start_6 1 _ rfl)
theorem dX3_start_98 : decode cX3_start 98 = .ok (.aload_n 0, 1) := dz_42 (bX3_start_6 2 _ rfl)
theorem dX3_start_99 : decode cX3_start 99 = .ok (.iload_n 1, 1) := dz_27 (bX3_start_6 3 _ rfl)
theorem dX3_start_100 : decode cX3_start 100 = .ok (.iconst 0, 1) := dz_3 (bX3_start_6 4 _ rfl)
theorem dX3_start_101 : decode cX3_start 101 = .ok (.invokevirtual 632, 3) := dz_182 (bX3_start_6 5 _ rfl) (bX3_start_6 6 _ rfl) (bX3_start_6 7 _ rfl)
theorem dX3_start_104 : decode cX3_start 104 = .ok (.istore_n 2, 1) := dz_61 (bX3_start_6 8 _ rfl)
theorem dX3_start_105 : decode cX3_start 105 = .ok (.iinc 1 1, 3) := dz_132 (bX3_start_6 9 _ rfl) (bX3_start_6 10 _ rfl) (bX3_start_6 11 _ rfl)
theorem dX3_start_108 : decode cX3_start 108 = .ok (.goto (-15), 3) := dz_167 (bX3_start_6 12 _ rfl) (bX3_start_6 13 _ rfl) (bX3_start_6 14 _ rfl)
theorem dX3_start_111 : decode cX3_start 111 = .ok (.aload_n 0, 1) := dz_42 (bX3_start_6 15 _ rfl)
theorem dX3_start_112 : decode cX3_start 112 = .ok (.iconst 0, 1) := dz_3 (bX3_start_7 0 _ rfl)
theorem dX3_start_113 : decode cX3_start 113 = .ok (.putfield 572, 3) := dz_181 (bX3_start_7 1 _ rfl) (bX3_start_7 2 _ rfl) (bX3_start_7 3 _ rfl)
theorem dX3_start_116 : decode cX3_start 116 = .ok (.aload_n 0, 1) := dz_42 (bX3_start_7 4 _ rfl)
theorem dX3_start_117 : decode cX3_start 117 = .ok (.iconst 0, 1) := dz_3 (bX3_start_7 5 _ rfl)
theorem dX3_start_118 : decode cX3_start 118 = .ok (.putfield 581, 3) := dz_181 (bX3_start_7 6 _ rfl) (bX3_start_7 7 _ rfl) (bX3_start_7 8 _ rfl)
theorem dX3_start_121 : decode cX3_start 121 = .ok (.aload_n 0, 1) := dz_42 (bX3_start_7 9 _ rfl)
theorem dX3_start_122 : decode cX3_start 122 = .ok (.aload_n 0, 1) := dz_42 (bX3_start_7 10 _ rfl)
theorem dX3_start_123 : decode cX3_start 123 = .ok (.getfield 457, 3) := dz_180 (bX3_start_7 11 _ rfl) (bX3_start_7 12 _ rfl) (bX3_start_7 13 _ rfl)
theorem dX3_start_126 : decode cX3_start 126 = .ok (.aload_n 0, 1) := dz_42 (bX3_start_7 14 _ rfl)
theorem dX3_start_127 : decode cX3_start 127 = .ok (.getfield 91, 3) := dz_180 (bX3_start_7 15 _ rfl) (bX3_start_8 0 _ rfl) (bX3_start_8 1 _ rfl)
theorem dX3_start_130 : decode cX3_start 130 = .ok (.aload_n 0, 1) := dz_42 (bX3_start_8 2 _ rfl)
theorem dX3_start_131 : decode cX3_start 131 = .ok (.getfield 457, 3) := dz_180 (bX3_start_8 3 _ rfl) (bX3_start_8 4 _ rfl) (bX3_start_8 5 _ rfl)
theorem dX3_start_134 : decode cX3_start 134 = .ok (.iaload, 1) := dz_46 (bX3_start_8 6 _ rfl)
theorem dX3_start_135 : decode cX3_start 135 = .ok (.invokevirtual 632, 3) := dz_182 (bX3_start_8 7 _ rfl) (bX3_start_8 8 _ rfl) (bX3_start_8 9 _ rfl)
theorem dX3_start_138 : decode cX3_start 138 = .ok (.istore_n 1, 1) := dz_60 (bX3_start_8 10 _ rfl)
theorem dX3_start_139 : decode cX3_start 139 = .ok (.aload_n 0, 1) := dz_42 (bX3_start_8 11 _ rfl)
theorem dX3_start_140 : decode cX3_start 140 = .ok (.iload_n 1, 1) := dz_27 (bX3_start_8 12 _ rfl)
theorem dX3_start_141 : decode cX3_start 141 = .ok (.aload_n 0, 1) := dz_42 (bX3_start_8 13 _ rfl)
theorem dX3_start_142 : decode cX3_start 142 = .ok (.aload_n 0, 1) := dz_42 (bX3_start_8 14 _ rfl)
theorem dX3_start_143 : decode cX3_start 143 = .ok (.getfield 457, 3) := dz_180 (bX3_start_8 15 _ rfl) (bX3_start_9 0 _ rfl) (bX3_start_9 1 _ rfl)
theorem dX3_start_146 : decode cX3_start 146 = .ok (.bipush 6, 2) := dz_16 (bX3_start_9 2 _ rfl) (bX3_start_9 3 _ rfl)
theorem dX3_start_148 : decode cX3_start 148 = .ok (.iconst 1, 1) := dz_4 (bX3_start_9 4 _ rfl)
theorem dX3_start_149 : decode cX3_start 149 = .ok (.invokevirtual 422, 3) := dz_182 (bX3_start_9 5 _ rfl) (bX3_start_9 6 _ rfl) (bX3_start_9 7 _ rfl)
theorem dX3_start_152 : decode cX3_start 152 = .ok (.iconst 0, 1) := dz_3 (bX3_start_9 8 _ rfl)
theorem dX3_start_153 : decode cX3_start 153 = .ok (.iconst 0, 1) := dz_3 (bX3_start_9 9 _ rfl)
theorem dX3_start_154 : decode cX3_start 154 = .ok (.invokevirtual 650, 3) := dz_182 (bX3_start_9 10 _ rfl) (bX3_start_9 11 _ rfl) (bX3_start_9 12 _ rfl)
theorem dX3_start_157 : decode cX3_start 157 = .ok (.aload_n 0, 1) := dz_42 (bX3_start_9 13 _ rfl)
theorem dX3_start_158 : decode cX3_start 158 = .ok (.getfield 187, 3) := dz_180 (bX3_start_9 14 _ rfl) (bX3_start_9 15 _ rfl) (bX3_start_10 0 _ rfl)
theorem dX3_start_161 : decode cX3_start 161 = .ok (.iconst 0, 1) := dz_3 (bX3_start_10 1 _ rfl)
theorem dX3_start_162 : decode cX3_start 162 = .ok (.iconst 0, 1) := dz_3 (bX3_start_10 2 _ rfl)
theorem dX3_start_163 : decode cX3_start 163 = .ok (.iastore, 1) := dz_79 (bX3_start_10 3 _ rfl)
theorem dX3_start_164 : decode cX3_start 164 = .ok (.aload_n 0, 1) := dz_42 (bX3_start_10 4 _ rfl)
theorem dX3_start_165 : decode cX3_start 165 = .ok (.invokevirtual 677, 3) := dz_182 (bX3_start_10 5 _ rfl) (bX3_start_10 6 _ rfl) (bX3_start_10 7 _ rfl)
theorem dX3_start_168 : decode cX3_start 168 = .ok (.iconst 1, 1) := dz_4 (bX3_start_10 8 _ rfl)
theorem dX3_start_169 : decode cX3_start 169 = .ok (.ireturn, 1) := dz_172 (bX3_start_10 9 _ rfl)
def m_X3_start_93 (x1 : Int32)  (σ : ch_S) : Option ((Int32 × ch_S) ⊕ (Int32 × ch_S)) := if x1 < 5 then ((m_X3_object x1 0 σ).bind fun p13 => some (.inl (x1 + 1, p13.2))) else ((ch_mI σ fX3_bound 0).bind fun σ1 => (ch_mI σ1 fX3_made 0).bind fun σ2 => (ch_ma σ2 fX3_fieldMany (σ2.1 fX3_mainClass)).bind fun v3 => (m_X3_object (σ2.1 fX3_mainClass) v3 σ2).bind fun p4 => (m_X3_memberOf (p4.2.1 fX3_mainClass) 6 1 p4.2).bind fun v6 => (m_X3_begin p4.1 v6 0 0 p4.2).bind fun p8 => (ch_mw p8 fX3_openPile 0 0).bind fun σ10 => (m_X3_settle σ10).bind fun p11 => some (.inr ((1, p11))))
theorem s_X3_start_93 {g : State} {m : Nat} {w : ch_W} {x1 : Int32} {σ : ch_S} {res : (Int32 × ch_S) ⊕ (Int32 × ch_S)} {Q : Outcome → ch_W → Prop} (h : m_X3_start_93 x1 σ = some res) (hk : (ch_sm (fun s => ch_FT g false mX3_start 5 93 [some (va_rf (some m)), some (.int s.1), none] [] (ch_put m w s.2) Q) (fun r => ch_eI Q (r.1, ch_put m w r.2))) res) : ch_FT g false mX3_start 5 93 [some (va_rf (some m)), some (.int x1), none] [] (ch_put m w σ) Q := by
  unfold m_X3_start_93 at h
  refine ch_iload_n 1 _ dX3_start_93 rfl (ch_iconst _ 5 dX3_start_94 rfl (cp_icmp_ge _ _ (tgt := 111) dX3_start_95 rfl h (fun h => ?_) (fun h => ?_)))
  · refine ch_aload_n 0 (some m) dX3_start_111 rfl (ch_iconst _ 0 dX3_start_112 rfl (mp_pI (k := 73) dX3_start_113 fl_X3_572 rfl rfl rfl h (fun σ1 h => ?_)))
    refine ch_aload_n 0 (some m) dX3_start_116 rfl (ch_iconst _ 0 dX3_start_117 rfl (mp_pI (k := 74) dX3_start_118 fl_X3_581 rfl rfl rfl h (fun σ2 h => ?_)))
    refine ch_aload_n 0 (some m) dX3_start_121 rfl (ch_aload_n 0 (some m) dX3_start_122 rfl (mp_gI 59 dX3_start_123 fl_X3_457 rfl (ch_aload_n 0 (some m) dX3_start_126 rfl (mp_gA 42 dX3_start_127 fl_X3_91 rfl (ch_aload_n 0 (some m) dX3_start_130 rfl (mp_gI 59 dX3_start_131 fl_X3_457 rfl (mp_iald dX3_start_134 mk_42 h (fun v3 h => ?_))))))))
    obtain ⟨p4, hp5, h⟩ := ch_bd h
    refine ch_iv yX3_object prog_14_method_81_code 6 (some .int) (ci := 3) (q := (RX3, TX3, 109)) (b := m) (d' := 2) (av := [.int (σ2.1 fX3_mainClass), .int v3]) (rest := []) rfl dX3_start_135 q2194 q2196 rfl qs171 q2197 can_X3_object (Nat.le_of_ble_eq_true rfl) (Nat.le_of_ble_eq_true rfl) ch_put_tag (cp_kI (v := p4.1) (w1 := ch_put m w p4.2) (fun Q' hq => s_X3_object hp5 hq) ?_)
    refine ch_istore_n 1 _ (ls1 := [some (va_rf (some m)), some (.int p4.1), none]) dX3_start_138 (Nat.le_of_ble_eq_true rfl) rfl (ch_aload_n 0 (some m) dX3_start_139 rfl (ch_iload_n 1 _ dX3_start_140 rfl (ch_aload_n 0 (some m) dX3_start_141 rfl (ch_aload_n 0 (some m) dX3_start_142 rfl (mp_gI 59 dX3_start_143 fl_X3_457 rfl (ch_bipush _ 6 dX3_start_146 rfl (ch_iconst _ 1 dX3_start_148 rfl (?_))))))))
    obtain ⟨v6, hp7, h⟩ := ch_bd h
    refine ch_iv yX3_memberOf prog_14_method_47_code 6 (some .int) (ci := 3) (q := (RX3, TX3, 109)) (b := m) (d' := 2) (av := [.int (p4.2.1 fX3_mainClass), .int 6, .int 1]) (rest := [.int p4.1, va_rf (some m)]) rfl dX3_start_149 q2064 q2066 rfl qs145 q2067 can_X3_memberOf (Nat.le_of_ble_eq_true rfl) (ch_hw (Nat.le_of_ble_eq_true rfl)) ch_put_tag (cp_kI (v := v6) (w1 := ch_put m w p4.2) (fun Q' hq => s_X3_memberOf hp7 hq) ?_)
    obtain ⟨p8, hp9, h⟩ := ch_bd h
    refine ch_iconst _ 0 dX3_start_152 rfl (ch_iconst _ 0 dX3_start_153 rfl (ch_iv yX3_begin prog_14_method_99_code 7 none (ci := 3) (q := (RX3, TX3, 109)) (b := m) (d' := 3) (av := [.int p4.1, .int v6, .int 0, .int 0]) (rest := []) rfl dX3_start_154 q2198 q2200 rfl qs172 q2201 can_X3_begin (Nat.le_of_ble_eq_true rfl) (Nat.le_of_ble_eq_true rfl) ch_put_tag (cp_kV (w1 := ch_put m w p8) (fun Q' hq => s_X3_begin hp9 hq) ?_)))
    refine ch_aload_n 0 (some m) dX3_start_157 rfl (mp_gA 97 dX3_start_158 fl_X3_187 rfl (ch_iconst _ 0 dX3_start_161 rfl (ch_iconst _ 0 dX3_start_162 rfl (mp_iast dX3_start_163 mk_97 rfl h (fun σ10 h => ?_)))))
    obtain ⟨p11, hp12, h⟩ := ch_bd h
    refine ch_aload_n 0 (some m) dX3_start_164 rfl (ch_iv yX3_settle prog_14_method_88_code 2 none (ci := 3) (q := (RX3, TX3, 109)) (b := m) (d' := 4) (av := []) (rest := []) rfl dX3_start_165 q2210 q2212 rfl qs175 q2213 can_X3_settle (Nat.le_of_ble_eq_true rfl) (Nat.le_of_ble_eq_true rfl) ch_put_tag (cp_kV (w1 := ch_put m w p11) (fun Q' hq => s_X3_settle hp12 hq) ?_))
    obtain rfl := Option.some.inj h
    exact ch_iconst _ 1 dX3_start_168 rfl (ch_ireturn _ dX3_start_169 rfl rfl hk)
  · obtain ⟨p13, hp14, h⟩ := ch_bd h
    refine ch_aload_n 0 (some m) dX3_start_98 rfl (ch_iload_n 1 _ dX3_start_99 rfl (ch_iconst _ 0 dX3_start_100 rfl (ch_iv yX3_object prog_14_method_81_code 6 (some .int) (ci := 3) (q := (RX3, TX3, 109)) (b := m) (d' := 2) (av := [.int x1, .int 0]) (rest := []) rfl dX3_start_101 q2194 q2196 rfl qs171 q2197 can_X3_object (Nat.le_of_ble_eq_true rfl) (Nat.le_of_ble_eq_true rfl) ch_put_tag (cp_kI (v := p13.1) (w1 := ch_put m w p13.2) (fun Q' hq => s_X3_object hp14 hq) ?_))))
    refine ch_istore_n 2 _ (ls1 := [some (va_rf (some m)), some (.int x1), some (.int p13.1)]) dX3_start_104 (Nat.le_of_ble_eq_true rfl) rfl (ch_iinc 1 _ _ (x1 + 1) (ls1 := [some (va_rf (some m)), some (.int (x1 + 1)), some (.int p13.1)]) dX3_start_105 rfl rfl (Nat.le_of_ble_eq_true rfl) rfl (ch_goto 93 dX3_start_108 rfl (ch_FT.wk (ch_wS (ch_wS (ch_wN ch_w0))) ?_)))
    obtain rfl := Option.some.inj h
    exact hk
theorem sl_X3_start_93 {g : State} {m : Nat} {w : ch_W} {a : Int32 × ch_S} {res : Int32 × ch_S} {Q : Outcome → ch_W → Prop} (h : ch_loop (fun (s : Int32 × ch_S) => m_X3_start_93 s.1 s.2) a = some res) (hk : (fun r => ch_eI Q (r.1, ch_put m w r.2)) res) : ch_FT g false mX3_start 5 93 [some (va_rf (some m)), some (.int a.1), none] [] (ch_put m w a.2) Q := by
  refine ch_loop_ind (fun (a : Int32 × ch_S) (r : Int32 × ch_S) => (fun r => ch_eI Q (r.1, ch_put m w r.2)) r → ch_FT g false mX3_start 5 93 [some (va_rf (some m)), some (.int a.1), none] [] (ch_put m w a.2) Q) ?_ ?_ a res h hk
  · intro a a2 b h1 ih hk
    exact s_X3_start_93  h1 (ih hk)
  · intro a b h1 hk
    exact s_X3_start_93  h1 hk

def m_X3_start  (σ : ch_S) : Option (Int32 × ch_S) := if (σ.1 fX3_hasProgram) = 0 then (some ((0, σ))) else ((ch_bit 1).bind fun _ => (ch_mI σ fX3_hasRun 1).bind fun σ1 => (ch_mI σ1 fX3_over 0).bind fun σ2 => (ch_ma σ2 fX3_fieldMany (σ2.1 fX3_mainClass)).bind fun v3 => (c_J12_max (σ2.1 fX3_heapNext) (2 + v3) ).bind fun v4 => (ch_mI σ2 fX3_heap v4).bind fun σ6 => (ch_mI σ6 fX3_steps 0).bind fun σ7 => (ch_mI σ7 fX3_thrown 0).bind fun σ8 => (ch_mI σ8 fX3_ended 0).bind fun σ9 => (ch_mI σ9 fX3_printed 0).bind fun σ10 => (ch_mI σ10 fX3_open 0).bind fun σ11 => (ch_mI σ11 fX3_piled 0).bind fun σ12 => (ch_mI σ12 fX3_todo 0).bind fun σ13 => (ch_mI σ13 fX3_tries 0).bind fun σ14 => (ch_mI σ14 fX3_worded 0).bind fun σ15 => (ch_mI σ15 fX3_objects 0).bind fun σ16 => ch_loop (fun (s : Int32 × ch_S) => m_X3_start_93 s.1 s.2) (0, σ16))
theorem s_X3_start {g : State} {m : Nat} {w : ch_W} {σ : ch_S} {res : Int32 × ch_S} {Q : Outcome → ch_W → Prop} (h : m_X3_start  σ = some res) (hk : (fun r => ch_eI Q (r.1, ch_put m w r.2)) res) : ch_CT g false yX3_start 5 [.ref m] (ch_put m w σ) Q := by
  unfold m_X3_start at h
  refine ch_ctL mX3_start (ls := [some (va_rf (some m)), none, none]) q2192 rfl (ch_lyr (r := some m) ch_ly0) (Nat.le_of_ble_eq_true rfl) rfl ?_
  refine ch_aload_n 0 (some m) dX3_start_0 rfl (mp_gI 56 dX3_start_1 fl_X3_438 rfl (cp_if_ne _ (tgt := 9) dX3_start_4 rfl h (fun h => ?_) (fun h => ?_)))
  · refine ch_aload_n 0 (some m) dX3_start_9 rfl (ch_iconst _ 1 dX3_start_10 rfl (mp_pZ (k := 69) dX3_start_11 fl_X3_442 rfl rfl rfl h (fun σ1 h => ?_)))
    refine ch_aload_n 0 (some m) dX3_start_14 rfl (ch_iconst _ 0 dX3_start_15 rfl (mp_pI (k := 70) dX3_start_16 fl_X3_587 rfl rfl rfl h (fun σ2 h => ?_)))
    refine ch_aload_n 0 (some m) dX3_start_19 rfl (ch_aload_n 0 (some m) dX3_start_20 rfl (mp_gI 71 dX3_start_21 fl_X3_144 rfl (ch_iconst _ 2 dX3_start_24 rfl (ch_aload_n 0 (some m) dX3_start_25 rfl (mp_gA 42 dX3_start_26 fl_X3_91 rfl (ch_aload_n 0 (some m) dX3_start_29 rfl (mp_gI 59 dX3_start_30 fl_X3_457 rfl (?_))))))))
    refine mp_iald dX3_start_33 mk_42 h (fun v3 h => ?_)
    obtain ⟨v4, hp5, h⟩ := ch_bd h
    refine ch_iadd _ _ dX3_start_34 (ch_is yJ12_max prog_21_method_65_code 2 (some .int) (d' := 2) (av := [.int (σ2.1 fX3_heapNext), .int (2 + v3)]) (rest := [va_rf (some m)]) rfl dX3_start_35 q2193 q650 q220 q651 can_J12_max (Nat.le_of_ble_eq_true rfl) (ch_hw (Nat.le_of_ble_eq_true rfl)) (cp_kI (v := v4) (w1 := ch_put m w σ2) (fun Q' hq => s_J12_max hp5 hq) ?_))
    refine mp_pI (k := 72) dX3_start_38 fl_X3_569 rfl rfl rfl h (fun σ6 h => ?_)
    refine ch_aload_n 0 (some m) dX3_start_41 rfl (ch_iconst _ 0 dX3_start_42 rfl (mp_pI (k := 75) dX3_start_43 fl_X3_662 rfl rfl rfl h (fun σ7 h => ?_)))
    refine ch_aload_n 0 (some m) dX3_start_46 rfl (ch_iconst _ 0 dX3_start_47 rfl (mp_pI (k := 76) dX3_start_48 fl_X3_590 rfl rfl rfl h (fun σ8 h => ?_)))
    refine ch_aload_n 0 (some m) dX3_start_51 rfl (ch_iconst _ 0 dX3_start_52 rfl (mp_pI (k := 77) dX3_start_53 fl_X3_602 rfl rfl rfl h (fun σ9 h => ?_)))
    refine ch_aload_n 0 (some m) dX3_start_56 rfl (ch_iconst _ 0 dX3_start_57 rfl (mp_pI (k := 78) dX3_start_58 fl_X3_657 rfl rfl rfl h (fun σ10 h => ?_)))
    refine ch_aload_n 0 (some m) dX3_start_61 rfl (ch_iconst _ 0 dX3_start_62 rfl (mp_pI (k := 93) dX3_start_63 fl_X3_554 rfl rfl rfl h (fun σ11 h => ?_)))
    refine ch_aload_n 0 (some m) dX3_start_66 rfl (ch_iconst _ 0 dX3_start_67 rfl (mp_pI (k := 100) dX3_start_68 fl_X3_560 rfl rfl rfl h (fun σ12 h => ?_)))
    refine ch_aload_n 0 (some m) dX3_start_71 rfl (ch_iconst _ 0 dX3_start_72 rfl (mp_pI (k := 103) dX3_start_73 fl_X3_584 rfl rfl rfl h (fun σ13 h => ?_)))
    refine ch_aload_n 0 (some m) dX3_start_76 rfl (ch_iconst _ 0 dX3_start_77 rfl (mp_pI (k := 106) dX3_start_78 fl_X3_593 rfl rfl rfl h (fun σ14 h => ?_)))
    refine ch_aload_n 0 (some m) dX3_start_81 rfl (ch_iconst _ 0 dX3_start_82 rfl (mp_pI (k := 90) dX3_start_83 fl_X3_566 rfl rfl rfl h (fun σ15 h => ?_)))
    refine ch_aload_n 0 (some m) dX3_start_86 rfl (ch_iconst _ 0 dX3_start_87 rfl (mp_pI (k := 82) dX3_start_88 fl_X3_551 rfl rfl rfl h (fun σ16 h => ?_)))
    exact ch_iconst _ 0 dX3_start_91 rfl (ch_istore_n 1 _ (ls1 := [some (va_rf (some m)), some (.int 0), none]) dX3_start_92 (Nat.le_of_ble_eq_true rfl) rfl (ch_FT.wk (ch_wS (ch_wS (ch_wN ch_w0))) (sl_X3_start_93  h hk)))
  · obtain rfl := Option.some.inj h
    exact ch_iconst _ 0 dX3_start_7 rfl (ch_ireturn _ dX3_start_8 rfl rfl hk)

theorem bX3_push_0 : ch_ck cX3_push 0 [42, 180, 0, 198, 42, 180, 2, 48, 27, 79, 42, 180, 0, 201, 42, 180] := ch_ckof (by decide +kernel)
theorem bX3_push_1 : ch_ck cX3_push 16 [2, 48, 28, 84, 42, 89, 180, 2, 48, 4, 96, 181, 2, 48, 177] := ch_ckof (by decide +kernel)
theorem dX3_push_0 : decode cX3_push 0 = .ok (.aload_n 0, 1) := dz_42 (bX3_push_0 0 _ rfl)
theorem dX3_push_1 : decode cX3_push 1 = .ok (.getfield 198, 3) := dz_180 (bX3_push_0 1 _ rfl) (bX3_push_0 2 _ rfl) (bX3_push_0 3 _ rfl)
theorem dX3_push_4 : decode cX3_push 4 = .ok (.aload_n 0, 1) := dz_42 (bX3_push_0 4 _ rfl)
theorem dX3_push_5 : decode cX3_push 5 = .ok (.getfield 560, 3) := dz_180 (bX3_push_0 5 _ rfl) (bX3_push_0 6 _ rfl) (bX3_push_0 7 _ rfl)
theorem dX3_push_8 : decode cX3_push 8 = .ok (.iload_n 1, 1) := dz_27 (bX3_push_0 8 _ rfl)
theorem dX3_push_9 : decode cX3_push 9 = .ok (.iastore, 1) := dz_79 (bX3_push_0 9 _ rfl)
theorem dX3_push_10 : decode cX3_push 10 = .ok (.aload_n 0, 1) := dz_42 (bX3_push_0 10 _ rfl)
theorem dX3_push_11 : decode cX3_push 11 = .ok (.getfield 201, 3) := dz_180 (bX3_push_0 11 _ rfl) (bX3_push_0 12 _ rfl) (bX3_push_0 13 _ rfl)
theorem dX3_push_14 : decode cX3_push 14 = .ok (.aload_n 0, 1) := dz_42 (bX3_push_0 14 _ rfl)
theorem dX3_push_15 : decode cX3_push 15 = .ok (.getfield 560, 3) := dz_180 (bX3_push_0 15 _ rfl) (bX3_push_1 0 _ rfl) (bX3_push_1 1 _ rfl)
theorem dX3_push_18 : decode cX3_push 18 = .ok (.iload_n 2, 1) := dz_28 (bX3_push_1 2 _ rfl)
theorem dX3_push_19 : decode cX3_push 19 = .ok (.bastore, 1) := dz_84 (bX3_push_1 3 _ rfl)
theorem dX3_push_20 : decode cX3_push 20 = .ok (.aload_n 0, 1) := dz_42 (bX3_push_1 4 _ rfl)
theorem dX3_push_21 : decode cX3_push 21 = .ok (.dup, 1) := dz_89 (bX3_push_1 5 _ rfl)
theorem dX3_push_22 : decode cX3_push 22 = .ok (.getfield 560, 3) := dz_180 (bX3_push_1 6 _ rfl) (bX3_push_1 7 _ rfl) (bX3_push_1 8 _ rfl)
theorem dX3_push_25 : decode cX3_push 25 = .ok (.iconst 1, 1) := dz_4 (bX3_push_1 9 _ rfl)
theorem dX3_push_26 : decode cX3_push 26 = .ok (.iadd, 1) := dz_96 (bX3_push_1 10 _ rfl)
theorem dX3_push_27 : decode cX3_push 27 = .ok (.putfield 560, 3) := dz_181 (bX3_push_1 11 _ rfl) (bX3_push_1 12 _ rfl) (bX3_push_1 13 _ rfl)
theorem dX3_push_30 : decode cX3_push 30 = .ok (.return_, 1) := dz_177 (bX3_push_1 14 _ rfl)
def m_X3_push (x1 : Int32) (x2 : Int32) (σ : ch_S) : Option (ch_S) := (ch_mw σ fX3_pile (σ.1 fX3_piled) x1).bind fun σ1 => (ch_bit x2).bind fun _ => (ch_mw σ1 fX3_isPileObject (σ1.1 fX3_piled) x2).bind fun σ2 => (ch_mI σ2 fX3_piled ((σ2.1 fX3_piled) + 1)).bind fun σ3 => some (σ3)
theorem s_X3_push {g : State} {m : Nat} {w : ch_W} {x1 : Int32} {x2 : Int32} {σ : ch_S} {res : ch_S} {Q : Outcome → ch_W → Prop} (h : m_X3_push x1 x2 σ = some res) (hk : (fun r => ch_eV Q (ch_put m w r)) res) : ch_CT g false yX3_push 2 [.ref m, .int x1, .int x2] (ch_put m w σ) Q := by
  unfold m_X3_push at h
  refine ch_ctL mX3_push (ls := [some (va_rf (some m)), some (.int x1), some (.int x2)]) q2246 rfl (ch_lyr (r := some m) (ch_lyi (ch_lyi ch_ly0))) (Nat.le_of_ble_eq_true rfl) rfl ?_
  refine ch_aload_n 0 (some m) dX3_push_0 rfl (mp_gA 101 dX3_push_1 fl_X3_198 rfl (ch_aload_n 0 (some m) dX3_push_4 rfl (mp_gI 100 dX3_push_5 fl_X3_560 rfl (ch_iload_n 1 _ dX3_push_8 rfl (mp_iast dX3_push_9 mk_101 rfl h (fun σ1 h => ?_))))))
  refine ch_aload_n 0 (some m) dX3_push_10 rfl (mp_gA 102 dX3_push_11 fl_X3_201 rfl (ch_aload_n 0 (some m) dX3_push_14 rfl (mp_gI 100 dX3_push_15 fl_X3_560 rfl (ch_iload_n 2 _ dX3_push_18 rfl (mp_zast dX3_push_19 mk_102 rfl h (fun σ2 h => ?_))))))
  refine ch_aload_n 0 (some m) dX3_push_20 rfl (ch_dup dX3_push_21 (ch_cat _) (mp_gI 100 dX3_push_22 fl_X3_560 rfl (ch_iconst _ 1 dX3_push_25 rfl (ch_iadd _ _ dX3_push_26 (mp_pI (k := 100) dX3_push_27 fl_X3_560 rfl rfl rfl h (fun σ3 h => ?_))))))
  obtain rfl := Option.some.inj h
  exact ch_return dX3_push_30 rfl hk

theorem bX3_nextInput_0 : ch_ck cX3_nextInput 0 [42, 180, 2, 123, 154, 0, 5, 3, 172, 42, 180, 0, 151, 3, 46, 60] := ch_ckof (by decide +kernel)
theorem bX3_nextInput_1 : ch_ck cX3_nextInput 16 [42, 89, 180, 2, 123, 4, 100, 181, 2, 123, 3, 61, 28, 42, 180, 2] := ch_ckof (by decide +kernel)
theorem bX3_nextInput_2 : ch_ck cX3_nextInput 32 [123, 162, 0, 23, 42, 180, 0, 151, 28, 42, 180, 0, 151, 28, 4, 96] := ch_ckof (by decide +kernel)
theorem bX3_nextInput_3 : ch_ck cX3_nextInput 48 [46, 79, 132, 2, 1, 167, 255, 231, 27, 172] := ch_ckof (by decide +kernel)
theorem dX3_nextInput_0 : decode cX3_nextInput 0 = .ok (.aload_n 0, 1) := dz_42 (bX3_nextInput_0 0 _ rfl)
theorem dX3_nextInput_1 : decode cX3_nextInput 1 = .ok (.getfield 635, 3) := dz_180 (bX3_nextInput_0 1 _ rfl) (bX3_nextInput_0 2 _ rfl) (bX3_nextInput_0 3 _ rfl)
theorem dX3_nextInput_4 : decode cX3_nextInput 4 = .ok (.ifCond .ne 5, 3) := dz_154 (bX3_nextInput_0 4 _ rfl) (bX3_nextInput_0 5 _ rfl) (bX3_nextInput_0 6 _ rfl)
theorem dX3_nextInput_7 : decode cX3_nextInput 7 = .ok (.iconst 0, 1) := dz_3 (bX3_nextInput_0 7 _ rfl)
theorem dX3_nextInput_8 : decode cX3_nextInput 8 = .ok (.ireturn, 1) := dz_172 (bX3_nextInput_0 8 _ rfl)
theorem dX3_nextInput_9 : decode cX3_nextInput 9 = .ok (.aload_n 0, 1) := dz_42 (bX3_nextInput_0 9 _ rfl)
theorem dX3_nextInput_10 : decode cX3_nextInput 10 = .ok (.getfield 151, 3) := dz_180 (bX3_nextInput_0 10 _ rfl) (bX3_nextInput_0 11 _ rfl) (bX3_nextInput_0 12 _ rfl)
theorem dX3_nextInput_13 : decode cX3_nextInput 13 = .ok (.iconst 0, 1) := dz_3 (bX3_nextInput_0 13 _ rfl)
theorem dX3_nextInput_14 : decode cX3_nextInput 14 = .ok (.iaload, 1) := dz_46 (bX3_nextInput_0 14 _ rfl)
theorem dX3_nextInput_15 : decode cX3_nextInput 15 = .ok (.istore_n 1, 1) := dz_60 (bX3_nextInput_0 15 _ rfl)
theorem dX3_nextInput_16 : decode cX3_nextInput 16 = .ok (.aload_n 0, 1) := dz_42 (bX3_nextInput_1 0 _ rfl)
theorem dX3_nextInput_17 : decode cX3_nextInput 17 = .ok (.dup, 1) := dz_89 (bX3_nextInput_1 1 _ rfl)
theorem dX3_nextInput_18 : decode cX3_nextInput 18 = .ok (.getfield 635, 3) := dz_180 (bX3_nextInput_1 2 _ rfl) (bX3_nextInput_1 3 _ rfl) (bX3_nextInput_1 4 _ rfl)
theorem dX3_nextInput_21 : decode cX3_nextInput 21 = .ok (.iconst 1, 1) := dz_4 (bX3_nextInput_1 5 _ rfl)
theorem dX3_nextInput_22 : decode cX3_nextInput 22 = .ok (.isub, 1) := dz_100 (bX3_nextInput_1 6 _ rfl)
theorem dX3_nextInput_23 : decode cX3_nextInput 23 = .ok (.putfield 635, 3) := dz_181 (bX3_nextInput_1 7 _ rfl) (bX3_nextInput_1 8 _ rfl) (bX3_nextInput_1 9 _ rfl)
theorem dX3_nextInput_26 : decode cX3_nextInput 26 = .ok (.iconst 0, 1) := dz_3 (bX3_nextInput_1 10 _ rfl)
theorem dX3_nextInput_27 : decode cX3_nextInput 27 = .ok (.istore_n 2, 1) := dz_61 (bX3_nextInput_1 11 _ rfl)
theorem dX3_nextInput_28 : decode cX3_nextInput 28 = .ok (.iload_n 2, 1) := dz_28 (bX3_nextInput_1 12 _ rfl)
theorem dX3_nextInput_29 : decode cX3_nextInput 29 = .ok (.aload_n 0, 1) := dz_42 (bX3_nextInput_1 13 _ rfl)
theorem dX3_nextInput_30 : decode cX3_nextInput 30 = .ok (.getfield 635, 3) := dz_180 (bX3_nextInput_1 14 _ rfl) (bX3_nextInput_1 15 _ rfl) (bX3_nextInput_2 0 _ rfl)
theorem dX3_nextInput_33 : decode cX3_nextInput 33 = .ok (.if_icmp .ge 23, 3) := dz_162 (bX3_nextInput_2 1 _ rfl) (bX3_nextInput_2 2 _ rfl) (bX3_nextInput_2 3 _ rfl)
theorem dX3_nextInput_36 : decode cX3_nextInput 36 = .ok (.aload_n 0, 1) := dz_42 (bX3_nextInput_2 4 _ rfl)
theorem dX3_nextInput_37 : decode cX3_nextInput 37 = .ok (.getfield 151, 3) := dz_180 (bX3_nextInput_2 5 _ rfl) (bX3_nextInput_2 6 _ rfl) (bX3_nextInput_2 7 _ rfl)
theorem dX3_nextInput_40 : decode cX3_nextInput 40 = .ok (.iload_n 2, 1) := dz_28 (bX3_nextInput_2 8 _ rfl)
theorem dX3_nextInput_41 : decode cX3_nextInput 41 = .ok (.aload_n 0, 1) := dz_42 (bX3_nextInput_2 9 _ rfl)
theorem dX3_nextInput_42 : decode cX3_nextInput 42 = .ok (.getfield 151, 3) := dz_180 (bX3_nextInput_2 10 _ rfl) (bX3_nextInput_2 11 _ rfl) (bX3_nextInput_2 12 _ rfl)
theorem dX3_nextInput_45 : decode cX3_nextInput 45 = .ok (.iload_n 2, 1) := dz_28 (bX3_nextInput_2 13 _ rfl)
theorem dX3_nextInput_46 : decode cX3_nextInput 46 = .ok (.iconst 1, 1) := dz_4 (bX3_nextInput_2 14 _ rfl)
theorem dX3_nextInput_47 : decode cX3_nextInput 47 = .ok (.iadd, 1) := dz_96 (bX3_nextInput_2 15 _ rfl)
theorem dX3_nextInput_48 : decode cX3_nextInput 48 = .ok (.iaload, 1) := dz_46 (bX3_nextInput_3 0 _ rfl)
theorem dX3_nextInput_49 : decode cX3_nextInput 49 = .ok (.iastore, 1) := dz_79 (bX3_nextInput_3 1 _ rfl)
theorem dX3_nextInput_50 : decode cX3_nextInput 50 = .ok (.iinc 2 1, 3) := dz_132 (bX3_nextInput_3 2 _ rfl) (bX3_nextInput_3 3 _ rfl) (bX3_nextInput_3 4 _ rfl)
theorem dX3_nextInput_53 : decode cX3_nextInput 53 = .ok (.goto (-25), 3) := dz_167 (bX3_nextInput_3 5 _ rfl) (bX3_nextInput_3 6 _ rfl) (bX3_nextInput_3 7 _ rfl)
theorem dX3_nextInput_56 : decode cX3_nextInput 56 = .ok (.iload_n 1, 1) := dz_27 (bX3_nextInput_3 8 _ rfl)
theorem dX3_nextInput_57 : decode cX3_nextInput 57 = .ok (.ireturn, 1) := dz_172 (bX3_nextInput_3 9 _ rfl)
def m_X3_nextInput_28 (x1 : Int32) (x2 : Int32)  (σ : ch_S) : Option ((Int32 × ch_S) ⊕ (Int32 × ch_S)) := if x2 < (σ.1 fX3_inputs) then ((ch_ma σ fX3_input (x2 + 1)).bind fun v1 => (ch_mw σ fX3_input x2 v1).bind fun σ2 => some (.inl (x2 + 1, σ2))) else (some (.inr ((x1, σ))))
theorem s_X3_nextInput_28 {g : State} {m : Nat} {w : ch_W} {x1 : Int32} {x2 : Int32} {σ : ch_S} {res : (Int32 × ch_S) ⊕ (Int32 × ch_S)} {Q : Outcome → ch_W → Prop} (h : m_X3_nextInput_28 x1 x2 σ = some res) (hk : (ch_sm (fun s => ch_FT g false mX3_nextInput 2 28 [some (va_rf (some m)), some (.int x1), some (.int s.1)] [] (ch_put m w s.2) Q) (fun r => ch_eI Q (r.1, ch_put m w r.2))) res) : ch_FT g false mX3_nextInput 2 28 [some (va_rf (some m)), some (.int x1), some (.int x2)] [] (ch_put m w σ) Q := by
  unfold m_X3_nextInput_28 at h
  refine ch_iload_n 2 _ dX3_nextInput_28 rfl (ch_aload_n 0 (some m) dX3_nextInput_29 rfl (mp_gI 80 dX3_nextInput_30 fl_X3_635 rfl (cp_icmp_ge _ _ (tgt := 56) dX3_nextInput_33 rfl h (fun h => ?_) (fun h => ?_))))
  · obtain rfl := Option.some.inj h
    exact ch_iload_n 1 _ dX3_nextInput_56 rfl (ch_ireturn _ dX3_nextInput_57 rfl rfl hk)
  · refine ch_aload_n 0 (some m) dX3_nextInput_36 rfl (mp_gA 81 dX3_nextInput_37 fl_X3_151 rfl (ch_iload_n 2 _ dX3_nextInput_40 rfl (ch_aload_n 0 (some m) dX3_nextInput_41 rfl (mp_gA 81 dX3_nextInput_42 fl_X3_151 rfl (ch_iload_n 2 _ dX3_nextInput_45 rfl (ch_iconst _ 1 dX3_nextInput_46 rfl (ch_iadd _ _ dX3_nextInput_47 (?_))))))))
    refine mp_iald dX3_nextInput_48 mk_81 h (fun v1 h => ?_)
    refine mp_iast dX3_nextInput_49 mk_81 rfl h (fun σ2 h => ?_)
    refine ch_iinc 2 _ _ (x2 + 1) (ls1 := [some (va_rf (some m)), some (.int x1), some (.int (x2 + 1))]) dX3_nextInput_50 rfl rfl (Nat.le_of_ble_eq_true rfl) rfl (ch_goto 28 dX3_nextInput_53 rfl (ch_FT.wk (ch_wS (ch_wS (ch_wS ch_w0))) ?_))
    obtain rfl := Option.some.inj h
    exact hk
theorem sl_X3_nextInput_28 {g : State} {m : Nat} {w : ch_W} {x1 : Int32} {a : Int32 × ch_S} {res : Int32 × ch_S} {Q : Outcome → ch_W → Prop} (h : ch_loop (fun (s : Int32 × ch_S) => m_X3_nextInput_28 x1 s.1 s.2) a = some res) (hk : (fun r => ch_eI Q (r.1, ch_put m w r.2)) res) : ch_FT g false mX3_nextInput 2 28 [some (va_rf (some m)), some (.int x1), some (.int a.1)] [] (ch_put m w a.2) Q := by
  refine ch_loop_ind (fun (a : Int32 × ch_S) (r : Int32 × ch_S) => (fun r => ch_eI Q (r.1, ch_put m w r.2)) r → ch_FT g false mX3_nextInput 2 28 [some (va_rf (some m)), some (.int x1), some (.int a.1)] [] (ch_put m w a.2) Q) ?_ ?_ a res h hk
  · intro a a2 b h1 ih hk
    exact s_X3_nextInput_28  h1 (ih hk)
  · intro a b h1 hk
    exact s_X3_nextInput_28  h1 hk

def m_X3_nextInput  (σ : ch_S) : Option (Int32 × ch_S) := if (σ.1 fX3_inputs) = 0 then (some ((0, σ))) else ((ch_ma σ fX3_input 0).bind fun v1 => (ch_mI σ fX3_inputs ((σ.1 fX3_inputs) - 1)).bind fun σ2 => ch_loop (fun (s : Int32 × ch_S) => m_X3_nextInput_28 v1 s.1 s.2) (0, σ2))
theorem s_X3_nextInput {g : State} {m : Nat} {w : ch_W} {σ : ch_S} {res : Int32 × ch_S} {Q : Outcome → ch_W → Prop} (h : m_X3_nextInput  σ = some res) (hk : (fun r => ch_eI Q (r.1, ch_put m w r.2)) res) : ch_CT g false yX3_nextInput 2 [.ref m] (ch_put m w σ) Q := by
  unfold m_X3_nextInput at h
  refine ch_ctL mX3_nextInput (ls := [some (va_rf (some m)), none, none]) q2250 rfl (ch_lyr (r := some m) ch_ly0) (Nat.le_of_ble_eq_true rfl) rfl ?_
  refine ch_aload_n 0 (some m) dX3_nextInput_0 rfl (mp_gI 80 dX3_nextInput_1 fl_X3_635 rfl (cp_if_ne _ (tgt := 9) dX3_nextInput_4 rfl h (fun h => ?_) (fun h => ?_)))
  · refine ch_aload_n 0 (some m) dX3_nextInput_9 rfl (mp_gA 81 dX3_nextInput_10 fl_X3_151 rfl (ch_iconst _ 0 dX3_nextInput_13 rfl (mp_iald dX3_nextInput_14 mk_81 h (fun v1 h => ?_))))
    refine ch_istore_n 1 _ (ls1 := [some (va_rf (some m)), some (.int v1), none]) dX3_nextInput_15 (Nat.le_of_ble_eq_true rfl) rfl (ch_aload_n 0 (some m) dX3_nextInput_16 rfl (ch_dup dX3_nextInput_17 (ch_cat _) (mp_gI 80 dX3_nextInput_18 fl_X3_635 rfl (ch_iconst _ 1 dX3_nextInput_21 rfl (ch_isub _ _ dX3_nextInput_22 (mp_pI (k := 80) dX3_nextInput_23 fl_X3_635 rfl rfl rfl h (fun σ2 h => ?_)))))))
    exact ch_iconst _ 0 dX3_nextInput_26 rfl (ch_istore_n 2 _ (ls1 := [some (va_rf (some m)), some (.int v1), some (.int 0)]) dX3_nextInput_27 (Nat.le_of_ble_eq_true rfl) rfl (ch_FT.wk (ch_wS (ch_wS (ch_wS ch_w0))) (sl_X3_nextInput_28  h hk)))
  · obtain rfl := Option.some.inj h
    exact ch_iconst _ 0 dX3_nextInput_7 rfl (ch_ireturn _ dX3_nextInput_8 rfl rfl hk)

theorem bX3_reach_0 : ch_ck cX3_reach 0 [27, 155, 0, 12, 42, 180, 0, 163, 27, 51, 153, 0, 4, 177, 42, 180] := ch_ckof (by decide +kernel)
theorem bX3_reach_1 : ch_ck cX3_reach 16 [0, 163, 27, 4, 84, 42, 180, 0, 169, 42, 180, 2, 36, 27, 79, 42] := ch_ckof (by decide +kernel)
theorem bX3_reach_2 : ch_ck cX3_reach 32 [89, 180, 2, 36, 4, 96, 181, 2, 36, 177] := ch_ckof (by decide +kernel)
theorem dX3_reach_0 : decode cX3_reach 0 = .ok (.iload_n 1, 1) := dz_27 (bX3_reach_0 0 _ rfl)
theorem dX3_reach_1 : decode cX3_reach 1 = .ok (.ifCond .lt 12, 3) := dz_155 (bX3_reach_0 1 _ rfl) (bX3_reach_0 2 _ rfl) (bX3_reach_0 3 _ rfl)
theorem dX3_reach_4 : decode cX3_reach 4 = .ok (.aload_n 0, 1) := dz_42 (bX3_reach_0 4 _ rfl)
theorem dX3_reach_5 : decode cX3_reach 5 = .ok (.getfield 163, 3) := dz_180 (bX3_reach_0 5 _ rfl) (bX3_reach_0 6 _ rfl) (bX3_reach_0 7 _ rfl)
theorem dX3_reach_8 : decode cX3_reach 8 = .ok (.iload_n 1, 1) := dz_27 (bX3_reach_0 8 _ rfl)
theorem dX3_reach_9 : decode cX3_reach 9 = .ok (.baload, 1) := dz_51 (bX3_reach_0 9 _ rfl)
theorem dX3_reach_10 : decode cX3_reach 10 = .ok (.ifCond .eq 4, 3) := dz_153 (bX3_reach_0 10 _ rfl) (bX3_reach_0 11 _ rfl) (bX3_reach_0 12 _ rfl)
theorem dX3_reach_13 : decode cX3_reach 13 = .ok (.return_, 1) := dz_177 (bX3_reach_0 13 _ rfl)
theorem dX3_reach_14 : decode cX3_reach 14 = .ok (.aload_n 0, 1) := dz_42 (bX3_reach_0 14 _ rfl)
theorem dX3_reach_15 : decode cX3_reach 15 = .ok (.getfield 163, 3) := dz_180 (bX3_reach_0 15 _ rfl) (bX3_reach_1 0 _ rfl) (bX3_reach_1 1 _ rfl)
theorem dX3_reach_18 : decode cX3_reach 18 = .ok (.iload_n 1, 1) := dz_27 (bX3_reach_1 2 _ rfl)
theorem dX3_reach_19 : decode cX3_reach 19 = .ok (.iconst 1, 1) := dz_4 (bX3_reach_1 3 _ rfl)
theorem dX3_reach_20 : decode cX3_reach 20 = .ok (.bastore, 1) := dz_84 (bX3_reach_1 4 _ rfl)
theorem dX3_reach_21 : decode cX3_reach 21 = .ok (.aload_n 0, 1) := dz_42 (bX3_reach_1 5 _ rfl)
theorem dX3_reach_22 : decode cX3_reach 22 = .ok (.getfield 169, 3) := dz_180 (bX3_reach_1 6 _ rfl) (bX3_reach_1 7 _ rfl) (bX3_reach_1 8 _ rfl)
theorem dX3_reach_25 : decode cX3_reach 25 = .ok (.aload_n 0, 1) := dz_42 (bX3_reach_1 9 _ rfl)
theorem dX3_reach_26 : decode cX3_reach 26 = .ok (.getfield 548, 3) := dz_180 (bX3_reach_1 10 _ rfl) (bX3_reach_1 11 _ rfl) (bX3_reach_1 12 _ rfl)
theorem dX3_reach_29 : decode cX3_reach 29 = .ok (.iload_n 1, 1) := dz_27 (bX3_reach_1 13 _ rfl)
theorem dX3_reach_30 : decode cX3_reach 30 = .ok (.iastore, 1) := dz_79 (bX3_reach_1 14 _ rfl)
theorem dX3_reach_31 : decode cX3_reach 31 = .ok (.aload_n 0, 1) := dz_42 (bX3_reach_1 15 _ rfl)
theorem dX3_reach_32 : decode cX3_reach 32 = .ok (.dup, 1) := dz_89 (bX3_reach_2 0 _ rfl)
theorem dX3_reach_33 : decode cX3_reach 33 = .ok (.getfield 548, 3) := dz_180 (bX3_reach_2 1 _ rfl) (bX3_reach_2 2 _ rfl) (bX3_reach_2 3 _ rfl)
theorem dX3_reach_36 : decode cX3_reach 36 = .ok (.iconst 1, 1) := dz_4 (bX3_reach_2 4 _ rfl)
theorem dX3_reach_37 : decode cX3_reach 37 = .ok (.iadd, 1) := dz_96 (bX3_reach_2 5 _ rfl)
theorem dX3_reach_38 : decode cX3_reach 38 = .ok (.putfield 548, 3) := dz_181 (bX3_reach_2 6 _ rfl) (bX3_reach_2 7 _ rfl) (bX3_reach_2 8 _ rfl)
theorem dX3_reach_41 : decode cX3_reach 41 = .ok (.return_, 1) := dz_177 (bX3_reach_2 9 _ rfl)
def m_X3_reach (x1 : Int32) (σ : ch_S) : Option (ch_S) := if x1 < 0 then (some (σ)) else ((ch_ma σ fX3_isReached x1).bind fun v1 => if v1 = 0 then ((ch_bit 1).bind fun _ => (ch_mw σ fX3_isReached x1 1).bind fun σ2 => (ch_mw σ2 fX3_waits (σ2.1 fX3_waiting) x1).bind fun σ3 => (ch_mI σ3 fX3_waiting ((σ3.1 fX3_waiting) + 1)).bind fun σ4 => some (σ4)) else (some (σ)))
theorem s_X3_reach {g : State} {m : Nat} {w : ch_W} {x1 : Int32} {σ : ch_S} {res : ch_S} {Q : Outcome → ch_W → Prop} (h : m_X3_reach x1 σ = some res) (hk : (fun r => ch_eV Q (ch_put m w r)) res) : ch_CT g false yX3_reach 2 [.ref m, .int x1] (ch_put m w σ) Q := by
  unfold m_X3_reach at h
  refine ch_ctL mX3_reach (ls := [some (va_rf (some m)), some (.int x1)]) q2262 rfl (ch_lyr (r := some m) (ch_lyi ch_ly0)) (Nat.le_of_ble_eq_true rfl) rfl ?_
  refine ch_iload_n 1 _ dX3_reach_0 rfl (cp_if_lt _ (tgt := 13) dX3_reach_1 rfl h (fun h => ?_) (fun h => ?_))
  · obtain rfl := Option.some.inj h
    exact ch_return dX3_reach_13 rfl hk
  · refine ch_aload_n 0 (some m) dX3_reach_4 rfl (mp_gA 86 dX3_reach_5 fl_X3_163 rfl (ch_iload_n 1 _ dX3_reach_8 rfl (mp_zald dX3_reach_9 mk_86 h (fun v1 h => ?_))))
    refine cp_if_eq _ (tgt := 14) dX3_reach_10 rfl h (fun h => ?_) (fun h => ?_)
    · refine ch_aload_n 0 (some m) dX3_reach_14 rfl (mp_gA 86 dX3_reach_15 fl_X3_163 rfl (ch_iload_n 1 _ dX3_reach_18 rfl (ch_iconst _ 1 dX3_reach_19 rfl (mp_zast dX3_reach_20 mk_86 rfl h (fun σ2 h => ?_)))))
      refine ch_aload_n 0 (some m) dX3_reach_21 rfl (mp_gA 88 dX3_reach_22 fl_X3_169 rfl (ch_aload_n 0 (some m) dX3_reach_25 rfl (mp_gI 89 dX3_reach_26 fl_X3_548 rfl (ch_iload_n 1 _ dX3_reach_29 rfl (mp_iast dX3_reach_30 mk_88 rfl h (fun σ3 h => ?_))))))
      refine ch_aload_n 0 (some m) dX3_reach_31 rfl (ch_dup dX3_reach_32 (ch_cat _) (mp_gI 89 dX3_reach_33 fl_X3_548 rfl (ch_iconst _ 1 dX3_reach_36 rfl (ch_iadd _ _ dX3_reach_37 (mp_pI (k := 89) dX3_reach_38 fl_X3_548 rfl rfl rfl h (fun σ4 h => ?_))))))
      obtain rfl := Option.some.inj h
      exact ch_return dX3_reach_41 rfl hk
    · obtain rfl := Option.some.inj h
      exact ch_return dX3_reach_13 rfl hk

theorem bX3_marked_0 : ch_ck cX3_marked 0 [3, 60, 27, 42, 180, 2, 39, 162, 0, 16, 42, 180, 0, 163, 27, 3] := ch_ckof (by decide +kernel)
theorem bX3_marked_1 : ch_ck cX3_marked 16 [84, 132, 1, 1, 167, 255, 238, 42, 3, 181, 2, 36, 3, 60, 27, 42] := ch_ckof (by decide +kernel)
theorem bX3_marked_2 : ch_ck cX3_marked 32 [180, 2, 42, 162, 0, 68, 42, 42, 180, 0, 178, 27, 46, 182, 2, 45] := ch_ckof (by decide +kernel)
theorem bX3_marked_3 : ch_ck cX3_marked 48 [42, 180, 0, 181, 27, 46, 61, 28, 42, 180, 0, 181, 27, 46, 42, 180] := ch_ckof (by decide +kernel)
theorem bX3_marked_4 : ch_ck cX3_marked 64 [0, 184, 27, 46, 96, 162, 0, 28, 42, 180, 0, 194, 28, 51, 153, 0] := ch_ckof (by decide +kernel)
theorem bX3_marked_5 : ch_ck cX3_marked 80 [13, 42, 42, 180, 0, 191, 28, 46, 182, 2, 45, 132, 2, 1, 167, 255] := ch_ckof (by decide +kernel)
theorem bX3_marked_6 : ch_ck cX3_marked 96 [217, 132, 1, 1, 167, 255, 186, 3, 60, 27, 42, 180, 2, 48, 162, 0] := ch_ckof (by decide +kernel)
theorem bX3_marked_7 : ch_ck cX3_marked 112 [28, 42, 180, 0, 201, 27, 51, 153, 0, 13, 42, 42, 180, 0, 198, 27] := ch_ckof (by decide +kernel)
theorem bX3_marked_8 : ch_ck cX3_marked 128 [46, 182, 2, 45, 132, 1, 1, 167, 255, 226, 3, 60, 42, 180, 2, 36] := ch_ckof (by decide +kernel)
theorem bX3_marked_9 : ch_ck cX3_marked 144 [158, 0, 95, 42, 89, 180, 2, 36, 4, 100, 181, 2, 36, 42, 180, 0] := ch_ckof (by decide +kernel)
theorem bX3_marked_10 : ch_ck cX3_marked 160 [169, 42, 180, 2, 36, 46, 61, 27, 28, 8, 162, 0, 7, 3, 167, 0] := ch_ckof (by decide +kernel)
theorem bX3_marked_11 : ch_ck cX3_marked 176 [11, 5, 42, 180, 0, 160, 28, 46, 96, 96, 60, 42, 180, 0, 157, 28] := ch_ckof (by decide +kernel)
theorem bX3_marked_12 : ch_ck cX3_marked 192 [46, 62, 29, 42, 180, 0, 157, 28, 46, 42, 180, 0, 160, 28, 46, 96] := ch_ckof (by decide +kernel)
theorem bX3_marked_13 : ch_ck cX3_marked 208 [162, 0, 28, 42, 180, 0, 175, 29, 51, 153, 0, 13, 42, 42, 180, 0] := ch_ckof (by decide +kernel)
theorem bX3_marked_14 : ch_ck cX3_marked 224 [172, 29, 46, 182, 2, 45, 132, 3, 1, 167, 255, 217, 167, 255, 160, 27] := ch_ckof (by decide +kernel)
theorem bX3_marked_15 : ch_ck cX3_marked 240 [172] := ch_ckof (by decide +kernel)
theorem dX3_marked_0 : decode cX3_marked 0 = .ok (.iconst 0, 1) := dz_3 (bX3_marked_0 0 _ rfl)
theorem dX3_marked_1 : decode cX3_marked 1 = .ok (.istore_n 1, 1) := dz_60 (bX3_marked_0 1 _ rfl)
theorem dX3_marked_2 : decode cX3_marked 2 = .ok (.iload_n 1, 1) := dz_27 (bX3_marked_0 2 _ rfl)
theorem dX3_marked_3 : decode cX3_marked 3 = .ok (.aload_n 0, 1) := dz_42 (bX3_marked_0 3 _ rfl)
theorem dX3_marked_4 : decode cX3_marked 4 = .ok (.getfield 551, 3) := dz_180 (bX3_marked_0 4 _ rfl) (bX3_marked_0 5 _ rfl) (bX3_marked_0 6 _ rfl)
theorem dX3_marked_7 : decode cX3_marked 7 = .ok (.if_icmp .ge 16, 3) := dz_162 (bX3_marked_0 7 _ rfl) (bX3_marked_0 8 _ rfl) (bX3_marked_0 9 _ rfl)
theorem dX3_marked_10 : decode cX3_marked 10 = .ok (.aload_n 0, 1) := dz_42 (bX3_marked_0 10 _ rfl)
theorem dX3_marked_11 : decode cX3_marked 11 = .ok (.getfield 163, 3) := dz_180 (bX3_marked_0 11 _ rfl) (bX3_marked_0 12 _ rfl) (bX3_marked_0 13 _ rfl)
theorem dX3_marked_14 : decode cX3_marked 14 = .ok (.iload_n 1, 1) := dz_27 (bX3_marked_0 14 _ rfl)
theorem dX3_marked_15 : decode cX3_marked 15 = .ok (.iconst 0, 1) := dz_3 (bX3_marked_0 15 _ rfl)
theorem dX3_marked_16 : decode cX3_marked 16 = .ok (.bastore, 1) := dz_84 (bX3_marked_1 0 _ rfl)
theorem dX3_marked_17 : decode cX3_marked 17 = .ok (.iinc 1 1, 3) := dz_132 (bX3_marked_1 1 _ rfl) (bX3_marked_1 2 _ rfl) (bX3_marked_1 3 _ rfl)
theorem dX3_marked_20 : decode cX3_marked 20 = .ok (.goto (-18), 3) := dz_167 (bX3_marked_1 4 _ rfl) (bX3_marked_1 5 _ rfl) (bX3_marked_1 6 _ rfl)
theorem dX3_marked_23 : decode cX3_marked 23 = .ok (.aload_n 0, 1) := dz_42 (bX3_marked_1 7 _ rfl)
theorem dX3_marked_24 : decode cX3_marked 24 = .ok (.iconst 0, 1) := dz_3 (bX3_marked_1 8 _ rfl)
theorem dX3_marked_25 : decode cX3_marked 25 = .ok (.putfield 548, 3) := dz_181 (bX3_marked_1 9 _ rfl) (bX3_marked_1 10 _ rfl) (bX3_marked_1 11 _ rfl)
theorem dX3_marked_28 : decode cX3_marked 28 = .ok (.iconst 0, 1) := dz_3 (bX3_marked_1 12 _ rfl)
theorem dX3_marked_29 : decode cX3_marked 29 = .ok (.istore_n 1, 1) := dz_60 (bX3_marked_1 13 _ rfl)
theorem dX3_marked_30 : decode cX3_marked 30 = .ok (.iload_n 1, 1) := dz_27 (bX3_marked_1 14 _ rfl)
theorem dX3_marked_31 : decode cX3_marked 31 = .ok (.aload_n 0, 1) := dz_42 (bX3_marked_1 15 _ rfl)
theorem dX3_marked_32 : decode cX3_marked 32 = .ok (.getfield 554, 3) := dz_180 (bX3_marked_2 0 _ rfl) (bX3_marked_2 1 _ rfl) (bX3_marked_2 2 _ rfl)
theorem dX3_marked_35 : decode cX3_marked 35 = .ok (.if_icmp .ge 68, 3) := dz_162 (bX3_marked_2 3 _ rfl) (bX3_marked_2 4 _ rfl) (bX3_marked_2 5 _ rfl)
theorem dX3_marked_38 : decode cX3_marked 38 = .ok (.aload_n 0, 1) := dz_42 (bX3_marked_2 6 _ rfl)
theorem dX3_marked_39 : decode cX3_marked 39 = .ok (.aload_n 0, 1) := dz_42 (bX3_marked_2 7 _ rfl)
theorem dX3_marked_40 : decode cX3_marked 40 = .ok (.getfield 178, 3) := dz_180 (bX3_marked_2 8 _ rfl) (bX3_marked_2 9 _ rfl) (bX3_marked_2 10 _ rfl)
theorem dX3_marked_43 : decode cX3_marked 43 = .ok (.iload_n 1, 1) := dz_27 (bX3_marked_2 11 _ rfl)
theorem dX3_marked_44 : decode cX3_marked 44 = .ok (.iaload, 1) := dz_46 (bX3_marked_2 12 _ rfl)
theorem dX3_marked_45 : decode cX3_marked 45 = .ok (.invokevirtual 557, 3) := dz_182 (bX3_marked_2 13 _ rfl) (bX3_marked_2 14 _ rfl) (bX3_marked_2 15 _ rfl)
theorem dX3_marked_48 : decode cX3_marked 48 = .ok (.aload_n 0, 1) := dz_42 (bX3_marked_3 0 _ rfl)
theorem dX3_marked_49 : decode cX3_marked 49 = .ok (.getfield 181, 3) := dz_180 (bX3_marked_3 1 _ rfl) (bX3_marked_3 2 _ rfl) (bX3_marked_3 3 _ rfl)
theorem dX3_marked_52 : decode cX3_marked 52 = .ok (.iload_n 1, 1) := dz_27 (bX3_marked_3 4 _ rfl)
theorem dX3_marked_53 : decode cX3_marked 53 = .ok (.iaload, 1) := dz_46 (bX3_marked_3 5 _ rfl)
theorem dX3_marked_54 : decode cX3_marked 54 = .ok (.istore_n 2, 1) := dz_61 (bX3_marked_3 6 _ rfl)
theorem dX3_marked_55 : decode cX3_marked 55 = .ok (.iload_n 2, 1) := dz_28 (bX3_marked_3 7 _ rfl)
theorem dX3_marked_56 : decode cX3_marked 56 = .ok (.aload_n 0, 1) := dz_42 (bX3_marked_3 8 _ rfl)
theorem dX3_marked_57 : decode cX3_marked 57 = .ok (.getfield 181, 3) := dz_180 (bX3_marked_3 9 _ rfl) (bX3_marked_3 10 _ rfl) (bX3_marked_3 11 _ rfl)
theorem dX3_marked_60 : decode cX3_marked 60 = .ok (.iload_n 1, 1) := dz_27 (bX3_marked_3 12 _ rfl)
theorem dX3_marked_61 : decode cX3_marked 61 = .ok (.iaload, 1) := dz_46 (bX3_marked_3 13 _ rfl)
theorem dX3_marked_62 : decode cX3_marked 62 = .ok (.aload_n 0, 1) := dz_42 (bX3_marked_3 14 _ rfl)
theorem dX3_marked_63 : decode cX3_marked 63 = .ok (.getfield 184, 3) := dz_180 (bX3_marked_3 15 _ rfl) (bX3_marked_4 0 _ rfl) (bX3_marked_4 1 _ rfl)
theorem dX3_marked_66 : decode cX3_marked 66 = .ok (.iload_n 1, 1) := dz_27 (bX3_marked_4 2 _ rfl)
theorem dX3_marked_67 : decode cX3_marked 67 = .ok (.iaload, 1) := dz_46 (bX3_marked_4 3 _ rfl)
theorem dX3_marked_68 : decode cX3_marked 68 = .ok (.iadd, 1) := dz_96 (bX3_marked_4 4 _ rfl)
theorem dX3_marked_69 : decode cX3_marked 69 = .ok (.if_icmp .ge 28, 3) := dz_162 (bX3_marked_4 5 _ rfl) (bX3_marked_4 6 _ rfl) (bX3_marked_4 7 _ rfl)
theorem dX3_marked_72 : decode cX3_marked 72 = .ok (.aload_n 0, 1) := dz_42 (bX3_marked_4 8 _ rfl)
theorem dX3_marked_73 : decode cX3_marked 73 = .ok (.getfield 194, 3) := dz_180 (bX3_marked_4 9 _ rfl) (bX3_marked_4 10 _ rfl) (bX3_marked_4 11 _ rfl)
theorem dX3_marked_76 : decode cX3_marked 76 = .ok (.iload_n 2, 1) := dz_28 (bX3_marked_4 12 _ rfl)
theorem dX3_marked_77 : decode cX3_marked 77 = .ok (.baload, 1) := dz_51 (bX3_marked_4 13 _ rfl)
theorem dX3_marked_78 : decode cX3_marked 78 = .ok (.ifCond .eq 13, 3) := dz_153 (bX3_marked_4 14 _ rfl) (bX3_marked_4 15 _ rfl) (bX3_marked_5 0 _ rfl)
theorem dX3_marked_81 : decode cX3_marked 81 = .ok (.aload_n 0, 1) := dz_42 (bX3_marked_5 1 _ rfl)
theorem dX3_marked_82 : decode cX3_marked 82 = .ok (.aload_n 0, 1) := dz_42 (bX3_marked_5 2 _ rfl)
theorem dX3_marked_83 : decode cX3_marked 83 = .ok (.getfield 191, 3) := dz_180 (bX3_marked_5 3 _ rfl) (bX3_marked_5 4 _ rfl) (bX3_marked_5 5 _ rfl)
theorem dX3_marked_86 : decode cX3_marked 86 = .ok (.iload_n 2, 1) := dz_28 (bX3_marked_5 6 _ rfl)
theorem dX3_marked_87 : decode cX3_marked 87 = .ok (.iaload, 1) := dz_46 (bX3_marked_5 7 _ rfl)
theorem dX3_marked_88 : decode cX3_marked 88 = .ok (.invokevirtual 557, 3) := dz_182 (bX3_marked_5 8 _ rfl) (bX3_marked_5 9 _ rfl) (bX3_marked_5 10 _ rfl)
theorem dX3_marked_91 : decode cX3_marked 91 = .ok (.iinc 2 1, 3) := dz_132 (bX3_marked_5 11 _ rfl) (bX3_marked_5 12 _ rfl) (bX3_marked_5 13 _ rfl)
theorem dX3_marked_94 : decode cX3_marked 94 = .ok (.goto (-39), 3) := dz_167 (bX3_marked_5 14 _ rfl) (bX3_marked_5 15 _ rfl) (bX3_marked_6 0 _ rfl)
theorem dX3_marked_97 : decode cX3_marked 97 = .ok (.iinc 1 1, 3) := dz_132 (bX3_marked_6 1 _ rfl) (bX3_marked_6 2 _ rfl) (bX3_marked_6 3 _ rfl)
theorem dX3_marked_100 : decode cX3_marked 100 = .ok (.goto (-70), 3) := dz_167 (bX3_marked_6 4 _ rfl) (bX3_marked_6 5 _ rfl) (bX3_marked_6 6 _ rfl)
theorem dX3_marked_103 : decode cX3_marked 103 = .ok (.iconst 0, 1) := dz_3 (bX3_marked_6 7 _ rfl)
theorem dX3_marked_104 : decode cX3_marked 104 = .ok (.istore_n 1, 1) := dz_60 (bX3_marked_6 8 _ rfl)
theorem dX3_marked_105 : decode cX3_marked 105 = .ok (.iload_n 1, 1) := dz_27 (bX3_marked_6 9 _ rfl)
theorem dX3_marked_106 : decode cX3_marked 106 = .ok (.aload_n 0, 1) := dz_42 (bX3_marked_6 10 _ rfl)
theorem dX3_marked_107 : decode cX3_marked 107 = .ok (.getfield 560, 3) := dz_180 (bX3_marked_6 11 _ rfl) (bX3_marked_6 12 _ rfl) (bX3_marked_6 13 _ rfl)
theorem dX3_marked_110 : decode cX3_marked 110 = .ok (.if_icmp .ge 28, 3) := dz_162 (bX3_marked_6 14 _ rfl) (bX3_marked_6 15 _ rfl) (bX3_marked_7 0 _ rfl)
theorem dX3_marked_113 : decode cX3_marked 113 = .ok (.aload_n 0, 1) := dz_42 (bX3_marked_7 1 _ rfl)
theorem dX3_marked_114 : decode cX3_marked 114 = .ok (.getfield 201, 3) := dz_180 (bX3_marked_7 2 _ rfl) (bX3_marked_7 3 _ rfl) (bX3_marked_7 4 _ rfl)
theorem dX3_marked_117 : decode cX3_marked 117 = .ok (.iload_n 1, 1) := dz_27 (bX3_marked_7 5 _ rfl)
theorem dX3_marked_118 : decode cX3_marked 118 = .ok (.baload, 1) := dz_51 (bX3_marked_7 6 _ rfl)
theorem dX3_marked_119 : decode cX3_marked 119 = .ok (.ifCond .eq 13, 3) := dz_153 (bX3_marked_7 7 _ rfl) (bX3_marked_7 8 _ rfl) (bX3_marked_7 9 _ rfl)
theorem dX3_marked_122 : decode cX3_marked 122 = .ok (.aload_n 0, 1) := dz_42 (bX3_marked_7 10 _ rfl)
theorem dX3_marked_123 : decode cX3_marked 123 = .ok (.aload_n 0, 1) := dz_42 (bX3_marked_7 11 _ rfl)
theorem dX3_marked_124 : decode cX3_marked 124 = .ok (.getfield 198, 3) := dz_180 (bX3_marked_7 12 _ rfl) (bX3_marked_7 13 _ rfl) (bX3_marked_7 14 _ rfl)
theorem dX3_marked_127 : decode cX3_marked 127 = .ok (.iload_n 1, 1) := dz_27 (bX3_marked_7 15 _ rfl)
theorem dX3_marked_128 : decode cX3_marked 128 = .ok (.iaload, 1) := dz_46 (bX3_marked_8 0 _ rfl)
theorem dX3_marked_129 : decode cX3_marked 129 = .ok (.invokevirtual 557, 3) := dz_182 (bX3_marked_8 1 _ rfl) (bX3_marked_8 2 _ rfl) (bX3_marked_8 3 _ rfl)
theorem dX3_marked_132 : decode cX3_marked 132 = .ok (.iinc 1 1, 3) := dz_132 (bX3_marked_8 4 _ rfl) (bX3_marked_8 5 _ rfl) (bX3_marked_8 6 _ rfl)
theorem dX3_marked_135 : decode cX3_marked 135 = .ok (.goto (-30), 3) := dz_167 (bX3_marked_8 7 _ rfl) (bX3_marked_8 8 _ rfl) (bX3_marked_8 9 _ rfl)
theorem dX3_marked_138 : decode cX3_marked 138 = .ok (.iconst 0, 1) := dz_3 (bX3_marked_8 10 _ rfl)
theorem dX3_marked_139 : decode cX3_marked 139 = .ok (.istore_n 1, 1) := dz_60 (bX3_marked_8 11 _ rfl)
theorem dX3_marked_140 : decode cX3_marked 140 = .ok (.aload_n 0, 1) := dz_42 (bX3_marked_8 12 _ rfl)
theorem dX3_marked_141 : decode cX3_marked 141 = .ok (.getfield 548, 3) := dz_180 (bX3_marked_8 13 _ rfl) (bX3_marked_8 14 _ rfl) (bX3_marked_8 15 _ rfl)
theorem dX3_marked_144 : decode cX3_marked 144 = .ok (.ifCond .le 95, 3) := dz_158 (bX3_marked_9 0 _ rfl) (bX3_marked_9 1 _ rfl) (bX3_marked_9 2 _ rfl)
theorem dX3_marked_147 : decode cX3_marked 147 = .ok (.aload_n 0, 1) := dz_42 (bX3_marked_9 3 _ rfl)
theorem dX3_marked_148 : decode cX3_marked 148 = .ok (.dup, 1) := dz_89 (bX3_marked_9 4 _ rfl)
theorem dX3_marked_149 : decode cX3_marked 149 = .ok (.getfield 548, 3) := dz_180 (bX3_marked_9 5 _ rfl) (bX3_marked_9 6 _ rfl) (bX3_marked_9 7 _ rfl)
theorem dX3_marked_152 : decode cX3_marked 152 = .ok (.iconst 1, 1) := dz_4 (bX3_marked_9 8 _ rfl)
theorem dX3_marked_153 : decode cX3_marked 153 = .ok (.isub, 1) := dz_100 (bX3_marked_9 9 _ rfl)
theorem dX3_marked_154 : decode cX3_marked 154 = .ok (.putfield 548, 3) := dz_181 (bX3_marked_9 10 _ rfl) (bX3_marked_9 11 _ rfl) (bX3_marked_9 12 _ rfl)
theorem dX3_marked_157 : decode cX3_marked 157 = .ok (.aload_n 0, 1) := dz_42 (bX3_marked_9 13 _ rfl)
theorem dX3_marked_158 : decode cX3_marked 158 = .ok (.getfield 169, 3) := dz_180 (bX3_marked_9 14 _ rfl) (bX3_marked_9 15 _ rfl) (bX3_marked_10 0 _ rfl)
theorem dX3_marked_161 : decode cX3_marked 161 = .ok (.aload_n 0, 1) := dz_42 (bX3_marked_10 1 _ rfl)
theorem dX3_marked_162 : decode cX3_marked 162 = .ok (.getfield 548, 3) := dz_180 (bX3_marked_10 2 _ rfl) (bX3_marked_10 3 _ rfl) (bX3_marked_10 4 _ rfl)
theorem dX3_marked_165 : decode cX3_marked 165 = .ok (.iaload, 1) := dz_46 (bX3_marked_10 5 _ rfl)
theorem dX3_marked_166 : decode cX3_marked 166 = .ok (.istore_n 2, 1) := dz_61 (bX3_marked_10 6 _ rfl)
theorem dX3_marked_167 : decode cX3_marked 167 = .ok (.iload_n 1, 1) := dz_27 (bX3_marked_10 7 _ rfl)
theorem dX3_marked_168 : decode cX3_marked 168 = .ok (.iload_n 2, 1) := dz_28 (bX3_marked_10 8 _ rfl)
theorem dX3_marked_169 : decode cX3_marked 169 = .ok (.iconst 5, 1) := dz_8 (bX3_marked_10 9 _ rfl)
theorem dX3_marked_170 : decode cX3_marked 170 = .ok (.if_icmp .ge 7, 3) := dz_162 (bX3_marked_10 10 _ rfl) (bX3_marked_10 11 _ rfl) (bX3_marked_10 12 _ rfl)
theorem dX3_marked_173 : decode cX3_marked 173 = .ok (.iconst 0, 1) := dz_3 (bX3_marked_10 13 _ rfl)
theorem dX3_marked_174 : decode cX3_marked 174 = .ok (.goto 11, 3) := dz_167 (bX3_marked_10 14 _ rfl) (bX3_marked_10 15 _ rfl) (bX3_marked_11 0 _ rfl)
theorem dX3_marked_177 : decode cX3_marked 177 = .ok (.iconst 2, 1) := dz_5 (bX3_marked_11 1 _ rfl)
theorem dX3_marked_178 : decode cX3_marked 178 = .ok (.aload_n 0, 1) := dz_42 (bX3_marked_11 2 _ rfl)
theorem dX3_marked_179 : decode cX3_marked 179 = .ok (.getfield 160, 3) := dz_180 (bX3_marked_11 3 _ rfl) (bX3_marked_11 4 _ rfl) (bX3_marked_11 5 _ rfl)
theorem dX3_marked_182 : decode cX3_marked 182 = .ok (.iload_n 2, 1) := dz_28 (bX3_marked_11 6 _ rfl)
theorem dX3_marked_183 : decode cX3_marked 183 = .ok (.iaload, 1) := dz_46 (bX3_marked_11 7 _ rfl)
theorem dX3_marked_184 : decode cX3_marked 184 = .ok (.iadd, 1) := dz_96 (bX3_marked_11 8 _ rfl)
theorem dX3_marked_185 : decode cX3_marked 185 = .ok (.iadd, 1) := dz_96 (bX3_marked_11 9 _ rfl)
theorem dX3_marked_186 : decode cX3_marked 186 = .ok (.istore_n 1, 1) := dz_60 (bX3_marked_11 10 _ rfl)
theorem dX3_marked_187 : decode cX3_marked 187 = .ok (.aload_n 0, 1) := dz_42 (bX3_marked_11 11 _ rfl)
theorem dX3_marked_188 : decode cX3_marked 188 = .ok (.getfield 157, 3) := dz_180 (bX3_marked_11 12 _ rfl) (bX3_marked_11 13 _ rfl) (bX3_marked_11 14 _ rfl)
theorem dX3_marked_191 : decode cX3_marked 191 = .ok (.iload_n 2, 1) := dz_28 (bX3_marked_11 15 _ rfl)
theorem dX3_marked_192 : decode cX3_marked 192 = .ok (.iaload, 1) := dz_46 (bX3_marked_12 0 _ rfl)
theorem dX3_marked_193 : decode cX3_marked 193 = .ok (.istore_n 3, 1) := dz_62 (bX3_marked_12 1 _ rfl)
theorem dX3_marked_194 : decode cX3_marked 194 = .ok (.iload_n 3, 1) := dz_29 (bX3_marked_12 2 _ rfl)
theorem dX3_marked_195 : decode cX3_marked 195 = .ok (.aload_n 0, 1) := dz_42 (bX3_marked_12 3 _ rfl)
theorem dX3_marked_196 : decode cX3_marked 196 = .ok (.getfield 157, 3) := dz_180 (bX3_marked_12 4 _ rfl) (bX3_marked_12 5 _ rfl) (bX3_marked_12 6 _ rfl)
theorem dX3_marked_199 : decode cX3_marked 199 = .ok (.iload_n 2, 1) := dz_28 (bX3_marked_12 7 _ rfl)
theorem dX3_marked_200 : decode cX3_marked 200 = .ok (.iaload, 1) := dz_46 (bX3_marked_12 8 _ rfl)
theorem dX3_marked_201 : decode cX3_marked 201 = .ok (.aload_n 0, 1) := dz_42 (bX3_marked_12 9 _ rfl)
theorem dX3_marked_202 : decode cX3_marked 202 = .ok (.getfield 160, 3) := dz_180 (bX3_marked_12 10 _ rfl) (bX3_marked_12 11 _ rfl) (bX3_marked_12 12 _ rfl)
theorem dX3_marked_205 : decode cX3_marked 205 = .ok (.iload_n 2, 1) := dz_28 (bX3_marked_12 13 _ rfl)
theorem dX3_marked_206 : decode cX3_marked 206 = .ok (.iaload, 1) := dz_46 (bX3_marked_12 14 _ rfl)
theorem dX3_marked_207 : decode cX3_marked 207 = .ok (.iadd, 1) := dz_96 (bX3_marked_12 15 _ rfl)
theorem dX3_marked_208 : decode cX3_marked 208 = .ok (.if_icmp .ge 28, 3) := dz_162 (bX3_marked_13 0 _ rfl) (bX3_marked_13 1 _ rfl) (bX3_marked_13 2 _ rfl)
theorem dX3_marked_211 : decode cX3_marked 211 = .ok (.aload_n 0, 1) := dz_42 (bX3_marked_13 3 _ rfl)
theorem dX3_marked_212 : decode cX3_marked 212 = .ok (.getfield 175, 3) := dz_180 (bX3_marked_13 4 _ rfl) (bX3_marked_13 5 _ rfl) (bX3_marked_13 6 _ rfl)
theorem dX3_marked_215 : decode cX3_marked 215 = .ok (.iload_n 3, 1) := dz_29 (bX3_marked_13 7 _ rfl)
theorem dX3_marked_216 : decode cX3_marked 216 = .ok (.baload, 1) := dz_51 (bX3_marked_13 8 _ rfl)
theorem dX3_marked_217 : decode cX3_marked 217 = .ok (.ifCond .eq 13, 3) := dz_153 (bX3_marked_13 9 _ rfl) (bX3_marked_13 10 _ rfl) (bX3_marked_13 11 _ rfl)
theorem dX3_marked_220 : decode cX3_marked 220 = .ok (.aload_n 0, 1) := dz_42 (bX3_marked_13 12 _ rfl)
theorem dX3_marked_221 : decode cX3_marked 221 = .ok (.aload_n 0, 1) := dz_42 (bX3_marked_13 13 _ rfl)
theorem dX3_marked_222 : decode cX3_marked 222 = .ok (.getfield 172, 3) := dz_180 (bX3_marked_13 14 _ rfl) (bX3_marked_13 15 _ rfl) (bX3_marked_14 0 _ rfl)
theorem dX3_marked_225 : decode cX3_marked 225 = .ok (.iload_n 3, 1) := dz_29 (bX3_marked_14 1 _ rfl)
theorem dX3_marked_226 : decode cX3_marked 226 = .ok (.iaload, 1) := dz_46 (bX3_marked_14 2 _ rfl)
theorem dX3_marked_227 : decode cX3_marked 227 = .ok (.invokevirtual 557, 3) := dz_182 (bX3_marked_14 3 _ rfl) (bX3_marked_14 4 _ rfl) (bX3_marked_14 5 _ rfl)
theorem dX3_marked_230 : decode cX3_marked 230 = .ok (.iinc 3 1, 3) := dz_132 (bX3_marked_14 6 _ rfl) (bX3_marked_14 7 _ rfl) (bX3_marked_14 8 _ rfl)
theorem dX3_marked_233 : decode cX3_marked 233 = .ok (.goto (-39), 3) := dz_167 (bX3_marked_14 9 _ rfl) (bX3_marked_14 10 _ rfl) (bX3_marked_14 11 _ rfl)
theorem dX3_marked_236 : decode cX3_marked 236 = .ok (.goto (-96), 3) := dz_167 (bX3_marked_14 12 _ rfl) (bX3_marked_14 13 _ rfl) (bX3_marked_14 14 _ rfl)
theorem dX3_marked_239 : decode cX3_marked 239 = .ok (.iload_n 1, 1) := dz_27 (bX3_marked_14 15 _ rfl)
theorem dX3_marked_240 : decode cX3_marked 240 = .ok (.ireturn, 1) := dz_172 (bX3_marked_15 0 _ rfl)
def m_X3_marked_194 (x1 : Int32) (x2 : Int32) (x3 : Int32)  (σ : ch_S) : Option ((Int32 × ch_S) ⊕ ((Int32 × ch_S) ⊕ (Int32 × ch_S))) := (ch_ma σ fX3_wordsFrom x2).bind fun v1 => (ch_ma σ fX3_wordsMany x2).bind fun v2 => if x3 < (v1 + v2) then ((ch_ma σ fX3_isObject x3).bind fun v3 => if v3 = 0 then (some (.inl (x3 + 1, σ))) else ((ch_ma σ fX3_words x3).bind fun v4 => (m_X3_reach v4 σ).bind fun p5 => some (.inl (x3 + 1, p5)))) else (some (.inr (.inl (x1, σ))))
theorem s_X3_marked_194 {g : State} {m : Nat} {w : ch_W} {x1 : Int32} {x2 : Int32} {x3 : Int32} {σ : ch_S} {res : (Int32 × ch_S) ⊕ ((Int32 × ch_S) ⊕ (Int32 × ch_S))} {Q : Outcome → ch_W → Prop} (h : m_X3_marked_194 x1 x2 x3 σ = some res) (hk : (ch_sm (fun s => ch_FT g false mX3_marked 3 194 [some (va_rf (some m)), some (.int x1), some (.int x2), some (.int s.1)] [] (ch_put m w s.2) Q) (ch_sm (fun s => ch_FT g false mX3_marked 3 140 [some (va_rf (some m)), some (.int s.1), none, none] [] (ch_put m w s.2) Q) (fun r => ch_eI Q (r.1, ch_put m w r.2)))) res) : ch_FT g false mX3_marked 3 194 [some (va_rf (some m)), some (.int x1), some (.int x2), some (.int x3)] [] (ch_put m w σ) Q := by
  unfold m_X3_marked_194 at h
  refine ch_iload_n 3 _ dX3_marked_194 rfl (ch_aload_n 0 (some m) dX3_marked_195 rfl (mp_gA 84 dX3_marked_196 fl_X3_157 rfl (ch_iload_n 2 _ dX3_marked_199 rfl (mp_iald dX3_marked_200 mk_84 h (fun v1 h => ?_)))))
  refine ch_aload_n 0 (some m) dX3_marked_201 rfl (mp_gA 85 dX3_marked_202 fl_X3_160 rfl (ch_iload_n 2 _ dX3_marked_205 rfl (mp_iald dX3_marked_206 mk_85 h (fun v2 h => ?_))))
  refine ch_iadd _ _ dX3_marked_207 (cp_icmp_ge _ _ (tgt := 236) dX3_marked_208 rfl h (fun h => ?_) (fun h => ?_))
  · refine ch_goto 140 dX3_marked_236 rfl (ch_FT.wk (ch_wS (ch_wS (ch_wN (ch_wN ch_w0)))) ?_)
    obtain rfl := Option.some.inj h
    exact hk
  · refine ch_aload_n 0 (some m) dX3_marked_211 rfl (mp_gA 92 dX3_marked_212 fl_X3_175 rfl (ch_iload_n 3 _ dX3_marked_215 rfl (mp_zald dX3_marked_216 mk_92 h (fun v3 h => ?_))))
    refine cp_if_eq _ (tgt := 230) dX3_marked_217 rfl h (fun h => ?_) (fun h => ?_)
    · refine ch_iinc 3 _ _ (x3 + 1) (ls1 := [some (va_rf (some m)), some (.int x1), some (.int x2), some (.int (x3 + 1))]) dX3_marked_230 rfl rfl (Nat.le_of_ble_eq_true rfl) rfl (ch_goto 194 dX3_marked_233 rfl (ch_FT.wk (ch_wS (ch_wS (ch_wS (ch_wS ch_w0)))) ?_))
      obtain rfl := Option.some.inj h
      exact hk
    · refine ch_aload_n 0 (some m) dX3_marked_220 rfl (ch_aload_n 0 (some m) dX3_marked_221 rfl (mp_gA 91 dX3_marked_222 fl_X3_172 rfl (ch_iload_n 3 _ dX3_marked_225 rfl (mp_iald dX3_marked_226 mk_91 h (fun v4 h => ?_)))))
      obtain ⟨p5, hp6, h⟩ := ch_bd h
      refine ch_iv yX3_reach prog_14_method_76_code 2 none (ci := 3) (q := (RX3, TX3, 109)) (b := m) (d' := 2) (av := [.int v4]) (rest := []) rfl dX3_marked_227 q2259 q2261 rfl qs186 q2262 can_X3_reach (Nat.le_of_ble_eq_true rfl) (Nat.le_of_ble_eq_true rfl) ch_put_tag (cp_kV (w1 := ch_put m w p5) (fun Q' hq => s_X3_reach hp6 hq) ?_)
      refine ch_iinc 3 _ _ (x3 + 1) (ls1 := [some (va_rf (some m)), some (.int x1), some (.int x2), some (.int (x3 + 1))]) dX3_marked_230 rfl rfl (Nat.le_of_ble_eq_true rfl) rfl (ch_goto 194 dX3_marked_233 rfl (ch_FT.wk (ch_wS (ch_wS (ch_wS (ch_wS ch_w0)))) ?_))
      obtain rfl := Option.some.inj h
      exact hk
theorem sl_X3_marked_194 {g : State} {m : Nat} {w : ch_W} {x1 : Int32} {x2 : Int32} {a : Int32 × ch_S} {res : (Int32 × ch_S) ⊕ (Int32 × ch_S)} {Q : Outcome → ch_W → Prop} (h : ch_loop (fun (s : Int32 × ch_S) => m_X3_marked_194 x1 x2 s.1 s.2) a = some res) (hk : (ch_sm (fun s => ch_FT g false mX3_marked 3 140 [some (va_rf (some m)), some (.int s.1), none, none] [] (ch_put m w s.2) Q) (fun r => ch_eI Q (r.1, ch_put m w r.2))) res) : ch_FT g false mX3_marked 3 194 [some (va_rf (some m)), some (.int x1), some (.int x2), some (.int a.1)] [] (ch_put m w a.2) Q := by
  refine ch_loop_ind (fun (a : Int32 × ch_S) (r : (Int32 × ch_S) ⊕ (Int32 × ch_S)) => (ch_sm (fun s => ch_FT g false mX3_marked 3 140 [some (va_rf (some m)), some (.int s.1), none, none] [] (ch_put m w s.2) Q) (fun r => ch_eI Q (r.1, ch_put m w r.2))) r → ch_FT g false mX3_marked 3 194 [some (va_rf (some m)), some (.int x1), some (.int x2), some (.int a.1)] [] (ch_put m w a.2) Q) ?_ ?_ a res h hk
  · intro a a2 b h1 ih hk
    exact s_X3_marked_194  h1 (ih hk)
  · intro a b h1 hk
    exact s_X3_marked_194  h1 hk

def m_X3_marked_185 (x2 : Int32) (y0 : Int32) (y1 : Int32) (σ : ch_S) : Option ((Int32 × ch_S) ⊕ (Int32 × ch_S)) := (ch_ma σ fX3_wordsFrom x2).bind fun v1 => ch_loop (fun (s : Int32 × ch_S) => m_X3_marked_194 (y1 + y0) x2 s.1 s.2) (v1, σ)
theorem s_X3_marked_185 {g : State} {m : Nat} {w : ch_W} {x2 : Int32} {y0 : Int32} {y1 : Int32} {σ : ch_S} {res : (Int32 × ch_S) ⊕ (Int32 × ch_S)} {Q : Outcome → ch_W → Prop} (h : m_X3_marked_185 x2 y0 y1 σ = some res) (hk : (ch_sm (fun s => ch_FT g false mX3_marked 3 140 [some (va_rf (some m)), some (.int s.1), none, none] [] (ch_put m w s.2) Q) (fun r => ch_eI Q (r.1, ch_put m w r.2))) res) : ch_FT g false mX3_marked 3 185 [some (va_rf (some m)), none, some (.int x2), none] [.int y0, .int y1] (ch_put m w σ) Q := by
  unfold m_X3_marked_185 at h
  refine ch_iadd _ _ dX3_marked_185 (ch_istore_n 1 _ (ls1 := [some (va_rf (some m)), some (.int (y1 + y0)), some (.int x2), none]) dX3_marked_186 (Nat.le_of_ble_eq_true rfl) rfl (ch_aload_n 0 (some m) dX3_marked_187 rfl (mp_gA 84 dX3_marked_188 fl_X3_157 rfl (ch_iload_n 2 _ dX3_marked_191 rfl (mp_iald dX3_marked_192 mk_84 h (fun v1 h => ?_))))))
  exact ch_istore_n 3 _ (ls1 := [some (va_rf (some m)), some (.int (y1 + y0)), some (.int x2), some (.int v1)]) dX3_marked_193 (Nat.le_of_ble_eq_true rfl) rfl (ch_FT.wk (ch_wS (ch_wS (ch_wS (ch_wS ch_w0)))) (sl_X3_marked_194  h hk))

def m_X3_marked_140 (x1 : Int32)  (σ : ch_S) : Option ((Int32 × ch_S) ⊕ (Int32 × ch_S)) := if 0 < (σ.1 fX3_waiting) then ((ch_mI σ fX3_waiting ((σ.1 fX3_waiting) - 1)).bind fun σ1 => (ch_ma σ1 fX3_waits (σ1.1 fX3_waiting)).bind fun v2 => if v2 < 5 then (m_X3_marked_185 v2 0 x1 σ1) else ((ch_ma σ1 fX3_wordsMany v2).bind fun v3 => m_X3_marked_185 v2 (2 + v3) x1 σ1)) else (some (.inr ((x1, σ))))
theorem s_X3_marked_140 {g : State} {m : Nat} {w : ch_W} {x1 : Int32} {σ : ch_S} {res : (Int32 × ch_S) ⊕ (Int32 × ch_S)} {Q : Outcome → ch_W → Prop} (h : m_X3_marked_140 x1 σ = some res) (hk : (ch_sm (fun s => ch_FT g false mX3_marked 3 140 [some (va_rf (some m)), some (.int s.1), none, none] [] (ch_put m w s.2) Q) (fun r => ch_eI Q (r.1, ch_put m w r.2))) res) : ch_FT g false mX3_marked 3 140 [some (va_rf (some m)), some (.int x1), none, none] [] (ch_put m w σ) Q := by
  unfold m_X3_marked_140 at h
  refine ch_aload_n 0 (some m) dX3_marked_140 rfl (mp_gI 89 dX3_marked_141 fl_X3_548 rfl (cp_if_le _ (tgt := 239) dX3_marked_144 rfl h (fun h => ?_) (fun h => ?_)))
  · obtain rfl := Option.some.inj h
    exact ch_iload_n 1 _ dX3_marked_239 rfl (ch_ireturn _ dX3_marked_240 rfl rfl hk)
  · refine ch_aload_n 0 (some m) dX3_marked_147 rfl (ch_dup dX3_marked_148 (ch_cat _) (mp_gI 89 dX3_marked_149 fl_X3_548 rfl (ch_iconst _ 1 dX3_marked_152 rfl (ch_isub _ _ dX3_marked_153 (mp_pI (k := 89) dX3_marked_154 fl_X3_548 rfl rfl rfl h (fun σ1 h => ?_))))))
    refine ch_aload_n 0 (some m) dX3_marked_157 rfl (mp_gA 88 dX3_marked_158 fl_X3_169 rfl (ch_aload_n 0 (some m) dX3_marked_161 rfl (mp_gI 89 dX3_marked_162 fl_X3_548 rfl (mp_iald dX3_marked_165 mk_88 h (fun v2 h => ?_)))))
    refine ch_istore_n 2 _ (ls1 := [some (va_rf (some m)), some (.int x1), some (.int v2), none]) dX3_marked_166 (Nat.le_of_ble_eq_true rfl) rfl (ch_iload_n 1 _ dX3_marked_167 rfl (ch_iload_n 2 _ dX3_marked_168 rfl (ch_iconst _ 5 dX3_marked_169 rfl (cp_icmp_ge _ _ (tgt := 177) dX3_marked_170 rfl h (fun h => ?_) (fun h => ?_)))))
    · refine ch_iconst _ 2 dX3_marked_177 rfl (ch_aload_n 0 (some m) dX3_marked_178 rfl (mp_gA 85 dX3_marked_179 fl_X3_160 rfl (ch_iload_n 2 _ dX3_marked_182 rfl (mp_iald dX3_marked_183 mk_85 h (fun v3 h => ?_)))))
      exact ch_iadd _ _ dX3_marked_184 (ch_FT.wk (ch_wS (ch_wN (ch_wS (ch_wN ch_w0)))) (s_X3_marked_185  h hk))
    · exact ch_iconst _ 0 dX3_marked_173 rfl (ch_goto 185 dX3_marked_174 rfl (ch_FT.wk (ch_wS (ch_wN (ch_wS (ch_wN ch_w0)))) (s_X3_marked_185  h hk)))
theorem sl_X3_marked_140 {g : State} {m : Nat} {w : ch_W} {a : Int32 × ch_S} {res : Int32 × ch_S} {Q : Outcome → ch_W → Prop} (h : ch_loop (fun (s : Int32 × ch_S) => m_X3_marked_140 s.1 s.2) a = some res) (hk : (fun r => ch_eI Q (r.1, ch_put m w r.2)) res) : ch_FT g false mX3_marked 3 140 [some (va_rf (some m)), some (.int a.1), none, none] [] (ch_put m w a.2) Q := by
  refine ch_loop_ind (fun (a : Int32 × ch_S) (r : Int32 × ch_S) => (fun r => ch_eI Q (r.1, ch_put m w r.2)) r → ch_FT g false mX3_marked 3 140 [some (va_rf (some m)), some (.int a.1), none, none] [] (ch_put m w a.2) Q) ?_ ?_ a res h hk
  · intro a a2 b h1 ih hk
    exact s_X3_marked_140  h1 (ih hk)
  · intro a b h1 hk
    exact s_X3_marked_140  h1 hk

def m_X3_marked_105 (x1 : Int32)  (σ : ch_S) : Option ((Int32 × ch_S) ⊕ (Int32 × ch_S)) := if x1 < (σ.1 fX3_piled) then ((ch_ma σ fX3_isPileObject x1).bind fun v1 => if v1 = 0 then (some (.inl (x1 + 1, σ))) else ((ch_ma σ fX3_pile x1).bind fun v2 => (m_X3_reach v2 σ).bind fun p3 => some (.inl (x1 + 1, p3)))) else ((ch_loop (fun (s : Int32 × ch_S) => m_X3_marked_140 s.1 s.2) (0, σ)).bind fun r => some (.inr (r)))
theorem s_X3_marked_105 {g : State} {m : Nat} {w : ch_W} {x1 : Int32} {σ : ch_S} {res : (Int32 × ch_S) ⊕ (Int32 × ch_S)} {Q : Outcome → ch_W → Prop} (h : m_X3_marked_105 x1 σ = some res) (hk : (ch_sm (fun s => ch_FT g false mX3_marked 3 105 [some (va_rf (some m)), some (.int s.1), none, none] [] (ch_put m w s.2) Q) (fun r => ch_eI Q (r.1, ch_put m w r.2))) res) : ch_FT g false mX3_marked 3 105 [some (va_rf (some m)), some (.int x1), none, none] [] (ch_put m w σ) Q := by
  unfold m_X3_marked_105 at h
  refine ch_iload_n 1 _ dX3_marked_105 rfl (ch_aload_n 0 (some m) dX3_marked_106 rfl (mp_gI 100 dX3_marked_107 fl_X3_560 rfl (cp_icmp_ge _ _ (tgt := 138) dX3_marked_110 rfl h (fun h => ?_) (fun h => ?_))))
  · obtain ⟨r, hr, h⟩ := ch_bd h
    obtain rfl := Option.some.inj h
    exact ch_iconst _ 0 dX3_marked_138 rfl (ch_istore_n 1 _ (ls1 := [some (va_rf (some m)), some (.int 0), none, none]) dX3_marked_139 (Nat.le_of_ble_eq_true rfl) rfl (ch_FT.wk (ch_wS (ch_wS (ch_wN (ch_wN ch_w0)))) (sl_X3_marked_140  hr hk)))
  · refine ch_aload_n 0 (some m) dX3_marked_113 rfl (mp_gA 102 dX3_marked_114 fl_X3_201 rfl (ch_iload_n 1 _ dX3_marked_117 rfl (mp_zald dX3_marked_118 mk_102 h (fun v1 h => ?_))))
    refine cp_if_eq _ (tgt := 132) dX3_marked_119 rfl h (fun h => ?_) (fun h => ?_)
    · refine ch_iinc 1 _ _ (x1 + 1) (ls1 := [some (va_rf (some m)), some (.int (x1 + 1)), none, none]) dX3_marked_132 rfl rfl (Nat.le_of_ble_eq_true rfl) rfl (ch_goto 105 dX3_marked_135 rfl (ch_FT.wk (ch_wS (ch_wS (ch_wN (ch_wN ch_w0)))) ?_))
      obtain rfl := Option.some.inj h
      exact hk
    · refine ch_aload_n 0 (some m) dX3_marked_122 rfl (ch_aload_n 0 (some m) dX3_marked_123 rfl (mp_gA 101 dX3_marked_124 fl_X3_198 rfl (ch_iload_n 1 _ dX3_marked_127 rfl (mp_iald dX3_marked_128 mk_101 h (fun v2 h => ?_)))))
      obtain ⟨p3, hp4, h⟩ := ch_bd h
      refine ch_iv yX3_reach prog_14_method_76_code 2 none (ci := 3) (q := (RX3, TX3, 109)) (b := m) (d' := 2) (av := [.int v2]) (rest := []) rfl dX3_marked_129 q2259 q2261 rfl qs186 q2262 can_X3_reach (Nat.le_of_ble_eq_true rfl) (Nat.le_of_ble_eq_true rfl) ch_put_tag (cp_kV (w1 := ch_put m w p3) (fun Q' hq => s_X3_reach hp4 hq) ?_)
      refine ch_iinc 1 _ _ (x1 + 1) (ls1 := [some (va_rf (some m)), some (.int (x1 + 1)), none, none]) dX3_marked_132 rfl rfl (Nat.le_of_ble_eq_true rfl) rfl (ch_goto 105 dX3_marked_135 rfl (ch_FT.wk (ch_wS (ch_wS (ch_wN (ch_wN ch_w0)))) ?_))
      obtain rfl := Option.some.inj h
      exact hk
theorem sl_X3_marked_105 {g : State} {m : Nat} {w : ch_W} {a : Int32 × ch_S} {res : Int32 × ch_S} {Q : Outcome → ch_W → Prop} (h : ch_loop (fun (s : Int32 × ch_S) => m_X3_marked_105 s.1 s.2) a = some res) (hk : (fun r => ch_eI Q (r.1, ch_put m w r.2)) res) : ch_FT g false mX3_marked 3 105 [some (va_rf (some m)), some (.int a.1), none, none] [] (ch_put m w a.2) Q := by
  refine ch_loop_ind (fun (a : Int32 × ch_S) (r : Int32 × ch_S) => (fun r => ch_eI Q (r.1, ch_put m w r.2)) r → ch_FT g false mX3_marked 3 105 [some (va_rf (some m)), some (.int a.1), none, none] [] (ch_put m w a.2) Q) ?_ ?_ a res h hk
  · intro a a2 b h1 ih hk
    exact s_X3_marked_105  h1 (ih hk)
  · intro a b h1 hk
    exact s_X3_marked_105  h1 hk

def m_X3_marked_55 (x1 : Int32) (x2 : Int32)  (σ : ch_S) : Option ((Int32 × ch_S) ⊕ ((Int32 × ch_S) ⊕ (Int32 × ch_S))) := (ch_ma σ fX3_openFrom x1).bind fun v1 => (ch_ma σ fX3_openMany x1).bind fun v2 => if x2 < (v1 + v2) then ((ch_ma σ fX3_isLocalObject x2).bind fun v3 => if v3 = 0 then (some (.inl (x2 + 1, σ))) else ((ch_ma σ fX3_local x2).bind fun v4 => (m_X3_reach v4 σ).bind fun p5 => some (.inl (x2 + 1, p5)))) else (some (.inr (.inl (x1 + 1, σ))))
theorem s_X3_marked_55 {g : State} {m : Nat} {w : ch_W} {x1 : Int32} {x2 : Int32} {σ : ch_S} {res : (Int32 × ch_S) ⊕ ((Int32 × ch_S) ⊕ (Int32 × ch_S))} {Q : Outcome → ch_W → Prop} (h : m_X3_marked_55 x1 x2 σ = some res) (hk : (ch_sm (fun s => ch_FT g false mX3_marked 3 55 [some (va_rf (some m)), some (.int x1), some (.int s.1), none] [] (ch_put m w s.2) Q) (ch_sm (fun s => ch_FT g false mX3_marked 3 30 [some (va_rf (some m)), some (.int s.1), none, none] [] (ch_put m w s.2) Q) (fun r => ch_eI Q (r.1, ch_put m w r.2)))) res) : ch_FT g false mX3_marked 3 55 [some (va_rf (some m)), some (.int x1), some (.int x2), none] [] (ch_put m w σ) Q := by
  unfold m_X3_marked_55 at h
  refine ch_iload_n 2 _ dX3_marked_55 rfl (ch_aload_n 0 (some m) dX3_marked_56 rfl (mp_gA 95 dX3_marked_57 fl_X3_181 rfl (ch_iload_n 1 _ dX3_marked_60 rfl (mp_iald dX3_marked_61 mk_95 h (fun v1 h => ?_)))))
  refine ch_aload_n 0 (some m) dX3_marked_62 rfl (mp_gA 96 dX3_marked_63 fl_X3_184 rfl (ch_iload_n 1 _ dX3_marked_66 rfl (mp_iald dX3_marked_67 mk_96 h (fun v2 h => ?_))))
  refine ch_iadd _ _ dX3_marked_68 (cp_icmp_ge _ _ (tgt := 97) dX3_marked_69 rfl h (fun h => ?_) (fun h => ?_))
  · refine ch_iinc 1 _ _ (x1 + 1) (ls1 := [some (va_rf (some m)), some (.int (x1 + 1)), some (.int x2), none]) dX3_marked_97 rfl rfl (Nat.le_of_ble_eq_true rfl) rfl (ch_goto 30 dX3_marked_100 rfl (ch_FT.wk (ch_wS (ch_wS (ch_wN (ch_wN ch_w0)))) ?_))
    obtain rfl := Option.some.inj h
    exact hk
  · refine ch_aload_n 0 (some m) dX3_marked_72 rfl (mp_gA 99 dX3_marked_73 fl_X3_194 rfl (ch_iload_n 2 _ dX3_marked_76 rfl (mp_zald dX3_marked_77 mk_99 h (fun v3 h => ?_))))
    refine cp_if_eq _ (tgt := 91) dX3_marked_78 rfl h (fun h => ?_) (fun h => ?_)
    · refine ch_iinc 2 _ _ (x2 + 1) (ls1 := [some (va_rf (some m)), some (.int x1), some (.int (x2 + 1)), none]) dX3_marked_91 rfl rfl (Nat.le_of_ble_eq_true rfl) rfl (ch_goto 55 dX3_marked_94 rfl (ch_FT.wk (ch_wS (ch_wS (ch_wS (ch_wN ch_w0)))) ?_))
      obtain rfl := Option.some.inj h
      exact hk
    · refine ch_aload_n 0 (some m) dX3_marked_81 rfl (ch_aload_n 0 (some m) dX3_marked_82 rfl (mp_gA 98 dX3_marked_83 fl_X3_191 rfl (ch_iload_n 2 _ dX3_marked_86 rfl (mp_iald dX3_marked_87 mk_98 h (fun v4 h => ?_)))))
      obtain ⟨p5, hp6, h⟩ := ch_bd h
      refine ch_iv yX3_reach prog_14_method_76_code 2 none (ci := 3) (q := (RX3, TX3, 109)) (b := m) (d' := 2) (av := [.int v4]) (rest := []) rfl dX3_marked_88 q2259 q2261 rfl qs186 q2262 can_X3_reach (Nat.le_of_ble_eq_true rfl) (Nat.le_of_ble_eq_true rfl) ch_put_tag (cp_kV (w1 := ch_put m w p5) (fun Q' hq => s_X3_reach hp6 hq) ?_)
      refine ch_iinc 2 _ _ (x2 + 1) (ls1 := [some (va_rf (some m)), some (.int x1), some (.int (x2 + 1)), none]) dX3_marked_91 rfl rfl (Nat.le_of_ble_eq_true rfl) rfl (ch_goto 55 dX3_marked_94 rfl (ch_FT.wk (ch_wS (ch_wS (ch_wS (ch_wN ch_w0)))) ?_))
      obtain rfl := Option.some.inj h
      exact hk
theorem sl_X3_marked_55 {g : State} {m : Nat} {w : ch_W} {x1 : Int32} {a : Int32 × ch_S} {res : (Int32 × ch_S) ⊕ (Int32 × ch_S)} {Q : Outcome → ch_W → Prop} (h : ch_loop (fun (s : Int32 × ch_S) => m_X3_marked_55 x1 s.1 s.2) a = some res) (hk : (ch_sm (fun s => ch_FT g false mX3_marked 3 30 [some (va_rf (some m)), some (.int s.1), none, none] [] (ch_put m w s.2) Q) (fun r => ch_eI Q (r.1, ch_put m w r.2))) res) : ch_FT g false mX3_marked 3 55 [some (va_rf (some m)), some (.int x1), some (.int a.1), none] [] (ch_put m w a.2) Q := by
  refine ch_loop_ind (fun (a : Int32 × ch_S) (r : (Int32 × ch_S) ⊕ (Int32 × ch_S)) => (ch_sm (fun s => ch_FT g false mX3_marked 3 30 [some (va_rf (some m)), some (.int s.1), none, none] [] (ch_put m w s.2) Q) (fun r => ch_eI Q (r.1, ch_put m w r.2))) r → ch_FT g false mX3_marked 3 55 [some (va_rf (some m)), some (.int x1), some (.int a.1), none] [] (ch_put m w a.2) Q) ?_ ?_ a res h hk
  · intro a a2 b h1 ih hk
    exact s_X3_marked_55  h1 (ih hk)
  · intro a b h1 hk
    exact s_X3_marked_55  h1 hk

def m_X3_marked_30 (x1 : Int32)  (σ : ch_S) : Option ((Int32 × ch_S) ⊕ (Int32 × ch_S)) := if x1 < (σ.1 fX3_open) then ((ch_ma σ fX3_openThis x1).bind fun v1 => (m_X3_reach v1 σ).bind fun p2 => (ch_ma p2 fX3_openFrom x1).bind fun v4 => ch_loop (fun (s : Int32 × ch_S) => m_X3_marked_55 x1 s.1 s.2) (v4, p2)) else ((ch_loop (fun (s : Int32 × ch_S) => m_X3_marked_105 s.1 s.2) (0, σ)).bind fun r => some (.inr (r)))
theorem s_X3_marked_30 {g : State} {m : Nat} {w : ch_W} {x1 : Int32} {σ : ch_S} {res : (Int32 × ch_S) ⊕ (Int32 × ch_S)} {Q : Outcome → ch_W → Prop} (h : m_X3_marked_30 x1 σ = some res) (hk : (ch_sm (fun s => ch_FT g false mX3_marked 3 30 [some (va_rf (some m)), some (.int s.1), none, none] [] (ch_put m w s.2) Q) (fun r => ch_eI Q (r.1, ch_put m w r.2))) res) : ch_FT g false mX3_marked 3 30 [some (va_rf (some m)), some (.int x1), none, none] [] (ch_put m w σ) Q := by
  unfold m_X3_marked_30 at h
  refine ch_iload_n 1 _ dX3_marked_30 rfl (ch_aload_n 0 (some m) dX3_marked_31 rfl (mp_gI 93 dX3_marked_32 fl_X3_554 rfl (cp_icmp_ge _ _ (tgt := 103) dX3_marked_35 rfl h (fun h => ?_) (fun h => ?_))))
  · obtain ⟨r, hr, h⟩ := ch_bd h
    obtain rfl := Option.some.inj h
    exact ch_iconst _ 0 dX3_marked_103 rfl (ch_istore_n 1 _ (ls1 := [some (va_rf (some m)), some (.int 0), none, none]) dX3_marked_104 (Nat.le_of_ble_eq_true rfl) rfl (ch_FT.wk (ch_wS (ch_wS (ch_wN (ch_wN ch_w0)))) (sl_X3_marked_105  hr hk)))
  · refine ch_aload_n 0 (some m) dX3_marked_38 rfl (ch_aload_n 0 (some m) dX3_marked_39 rfl (mp_gA 94 dX3_marked_40 fl_X3_178 rfl (ch_iload_n 1 _ dX3_marked_43 rfl (mp_iald dX3_marked_44 mk_94 h (fun v1 h => ?_)))))
    obtain ⟨p2, hp3, h⟩ := ch_bd h
    refine ch_iv yX3_reach prog_14_method_76_code 2 none (ci := 3) (q := (RX3, TX3, 109)) (b := m) (d' := 2) (av := [.int v1]) (rest := []) rfl dX3_marked_45 q2259 q2261 rfl qs186 q2262 can_X3_reach (Nat.le_of_ble_eq_true rfl) (Nat.le_of_ble_eq_true rfl) ch_put_tag (cp_kV (w1 := ch_put m w p2) (fun Q' hq => s_X3_reach hp3 hq) ?_)
    refine ch_aload_n 0 (some m) dX3_marked_48 rfl (mp_gA 95 dX3_marked_49 fl_X3_181 rfl (ch_iload_n 1 _ dX3_marked_52 rfl (mp_iald dX3_marked_53 mk_95 h (fun v4 h => ?_))))
    exact ch_istore_n 2 _ (ls1 := [some (va_rf (some m)), some (.int x1), some (.int v4), none]) dX3_marked_54 (Nat.le_of_ble_eq_true rfl) rfl (ch_FT.wk (ch_wS (ch_wS (ch_wS (ch_wN ch_w0)))) (sl_X3_marked_55  h hk))
theorem sl_X3_marked_30 {g : State} {m : Nat} {w : ch_W} {a : Int32 × ch_S} {res : Int32 × ch_S} {Q : Outcome → ch_W → Prop} (h : ch_loop (fun (s : Int32 × ch_S) => m_X3_marked_30 s.1 s.2) a = some res) (hk : (fun r => ch_eI Q (r.1, ch_put m w r.2)) res) : ch_FT g false mX3_marked 3 30 [some (va_rf (some m)), some (.int a.1), none, none] [] (ch_put m w a.2) Q := by
  refine ch_loop_ind (fun (a : Int32 × ch_S) (r : Int32 × ch_S) => (fun r => ch_eI Q (r.1, ch_put m w r.2)) r → ch_FT g false mX3_marked 3 30 [some (va_rf (some m)), some (.int a.1), none, none] [] (ch_put m w a.2) Q) ?_ ?_ a res h hk
  · intro a a2 b h1 ih hk
    exact s_X3_marked_30  h1 (ih hk)
  · intro a b h1 hk
    exact s_X3_marked_30  h1 hk

def m_X3_marked_2 (x1 : Int32)  (σ : ch_S) : Option ((Int32 × ch_S) ⊕ (Int32 × ch_S)) := if x1 < (σ.1 fX3_objects) then ((ch_bit 0).bind fun _ => (ch_mw σ fX3_isReached x1 0).bind fun σ2 => some (.inl (x1 + 1, σ2))) else ((ch_mI σ fX3_waiting 0).bind fun σ1 => (ch_loop (fun (s : Int32 × ch_S) => m_X3_marked_30 s.1 s.2) (0, σ1)).bind fun r => some (.inr (r)))
theorem s_X3_marked_2 {g : State} {m : Nat} {w : ch_W} {x1 : Int32} {σ : ch_S} {res : (Int32 × ch_S) ⊕ (Int32 × ch_S)} {Q : Outcome → ch_W → Prop} (h : m_X3_marked_2 x1 σ = some res) (hk : (ch_sm (fun s => ch_FT g false mX3_marked 3 2 [some (va_rf (some m)), some (.int s.1), none, none] [] (ch_put m w s.2) Q) (fun r => ch_eI Q (r.1, ch_put m w r.2))) res) : ch_FT g false mX3_marked 3 2 [some (va_rf (some m)), some (.int x1), none, none] [] (ch_put m w σ) Q := by
  unfold m_X3_marked_2 at h
  refine ch_iload_n 1 _ dX3_marked_2 rfl (ch_aload_n 0 (some m) dX3_marked_3 rfl (mp_gI 82 dX3_marked_4 fl_X3_551 rfl (cp_icmp_ge _ _ (tgt := 23) dX3_marked_7 rfl h (fun h => ?_) (fun h => ?_))))
  · refine ch_aload_n 0 (some m) dX3_marked_23 rfl (ch_iconst _ 0 dX3_marked_24 rfl (mp_pI (k := 89) dX3_marked_25 fl_X3_548 rfl rfl rfl h (fun σ1 h => ?_)))
    obtain ⟨r, hr, h⟩ := ch_bd h
    obtain rfl := Option.some.inj h
    exact ch_iconst _ 0 dX3_marked_28 rfl (ch_istore_n 1 _ (ls1 := [some (va_rf (some m)), some (.int 0), none, none]) dX3_marked_29 (Nat.le_of_ble_eq_true rfl) rfl (ch_FT.wk (ch_wS (ch_wS (ch_wN (ch_wN ch_w0)))) (sl_X3_marked_30  hr hk)))
  · refine ch_aload_n 0 (some m) dX3_marked_10 rfl (mp_gA 86 dX3_marked_11 fl_X3_163 rfl (ch_iload_n 1 _ dX3_marked_14 rfl (ch_iconst _ 0 dX3_marked_15 rfl (mp_zast dX3_marked_16 mk_86 rfl h (fun σ2 h => ?_)))))
    refine ch_iinc 1 _ _ (x1 + 1) (ls1 := [some (va_rf (some m)), some (.int (x1 + 1)), none, none]) dX3_marked_17 rfl rfl (Nat.le_of_ble_eq_true rfl) rfl (ch_goto 2 dX3_marked_20 rfl (ch_FT.wk (ch_wS (ch_wS (ch_wN (ch_wN ch_w0)))) ?_))
    obtain rfl := Option.some.inj h
    exact hk
theorem sl_X3_marked_2 {g : State} {m : Nat} {w : ch_W} {a : Int32 × ch_S} {res : Int32 × ch_S} {Q : Outcome → ch_W → Prop} (h : ch_loop (fun (s : Int32 × ch_S) => m_X3_marked_2 s.1 s.2) a = some res) (hk : (fun r => ch_eI Q (r.1, ch_put m w r.2)) res) : ch_FT g false mX3_marked 3 2 [some (va_rf (some m)), some (.int a.1), none, none] [] (ch_put m w a.2) Q := by
  refine ch_loop_ind (fun (a : Int32 × ch_S) (r : Int32 × ch_S) => (fun r => ch_eI Q (r.1, ch_put m w r.2)) r → ch_FT g false mX3_marked 3 2 [some (va_rf (some m)), some (.int a.1), none, none] [] (ch_put m w a.2) Q) ?_ ?_ a res h hk
  · intro a a2 b h1 ih hk
    exact s_X3_marked_2  h1 (ih hk)
  · intro a b h1 hk
    exact s_X3_marked_2  h1 hk

def m_X3_marked  (σ : ch_S) : Option (Int32 × ch_S) := ch_loop (fun (s : Int32 × ch_S) => m_X3_marked_2 s.1 s.2) (0, σ)
theorem s_X3_marked {g : State} {m : Nat} {w : ch_W} {σ : ch_S} {res : Int32 × ch_S} {Q : Outcome → ch_W → Prop} (h : m_X3_marked  σ = some res) (hk : (fun r => ch_eI Q (r.1, ch_put m w r.2)) res) : ch_CT g false yX3_marked 3 [.ref m] (ch_put m w σ) Q := by
  unfold m_X3_marked at h
  refine ch_ctL mX3_marked (ls := [some (va_rf (some m)), none, none, none]) q2258 rfl (ch_lyr (r := some m) ch_ly0) (Nat.le_of_ble_eq_true rfl) rfl ?_
  exact ch_iconst _ 0 dX3_marked_0 rfl (ch_istore_n 1 _ (ls1 := [some (va_rf (some m)), some (.int 0), none, none]) dX3_marked_1 (Nat.le_of_ble_eq_true rfl) rfl (ch_FT.wk (ch_wS (ch_wS (ch_wN (ch_wN ch_w0)))) (sl_X3_marked_2  h hk)))

theorem bX3_moved_0 : ch_ck cX3_moved 0 [27, 156, 0, 7, 2, 167, 0, 9, 42, 180, 0, 166, 27, 46, 172] := ch_ckof (by decide +kernel)
theorem dX3_moved_0 : decode cX3_moved 0 = .ok (.iload_n 1, 1) := dz_27 (bX3_moved_0 0 _ rfl)
theorem dX3_moved_1 : decode cX3_moved 1 = .ok (.ifCond .ge 7, 3) := dz_156 (bX3_moved_0 1 _ rfl) (bX3_moved_0 2 _ rfl) (bX3_moved_0 3 _ rfl)
theorem dX3_moved_4 : decode cX3_moved 4 = .ok (.iconst (-1), 1) := dz_2 (bX3_moved_0 4 _ rfl)
theorem dX3_moved_5 : decode cX3_moved 5 = .ok (.goto 9, 3) := dz_167 (bX3_moved_0 5 _ rfl) (bX3_moved_0 6 _ rfl) (bX3_moved_0 7 _ rfl)
theorem dX3_moved_8 : decode cX3_moved 8 = .ok (.aload_n 0, 1) := dz_42 (bX3_moved_0 8 _ rfl)
theorem dX3_moved_9 : decode cX3_moved 9 = .ok (.getfield 166, 3) := dz_180 (bX3_moved_0 9 _ rfl) (bX3_moved_0 10 _ rfl) (bX3_moved_0 11 _ rfl)
theorem dX3_moved_12 : decode cX3_moved 12 = .ok (.iload_n 1, 1) := dz_27 (bX3_moved_0 12 _ rfl)
theorem dX3_moved_13 : decode cX3_moved 13 = .ok (.iaload, 1) := dz_46 (bX3_moved_0 13 _ rfl)
theorem dX3_moved_14 : decode cX3_moved 14 = .ok (.ireturn, 1) := dz_172 (bX3_moved_0 14 _ rfl)
def m_X3_moved (x1 : Int32) (σ : ch_S) : Option (Int32) := if x1 < 0 then (some ((-1))) else ((ch_ma σ fX3_newPlace x1).bind fun v1 => some (v1))
theorem s_X3_moved {g : State} {m : Nat} {w : ch_W} {x1 : Int32} {σ : ch_S} {res : Int32} {Q : Outcome → ch_W → Prop} (h : m_X3_moved x1 σ = some res) (hk : (fun r => ch_eI Q (r, ch_put m w σ)) res) : ch_CT g false yX3_moved 2 [.ref m, .int x1] (ch_put m w σ) Q := by
  unfold m_X3_moved at h
  refine ch_ctL mX3_moved (ls := [some (va_rf (some m)), some (.int x1)]) q2270 rfl (ch_lyr (r := some m) (ch_lyi ch_ly0)) (Nat.le_of_ble_eq_true rfl) rfl ?_
  refine ch_iload_n 1 _ dX3_moved_0 rfl (cp_if_ge _ (tgt := 8) dX3_moved_1 rfl h (fun h => ?_) (fun h => ?_))
  · refine ch_aload_n 0 (some m) dX3_moved_8 rfl (mp_gA 87 dX3_moved_9 fl_X3_166 rfl (ch_iload_n 1 _ dX3_moved_12 rfl (mp_iald dX3_moved_13 mk_87 h (fun v1 h => ?_))))
    obtain rfl := Option.some.inj h
    exact ch_ireturn _ dX3_moved_14 rfl rfl hk
  · obtain rfl := Option.some.inj h
    exact ch_iconst _ (-1) dX3_moved_4 rfl (ch_goto 14 dX3_moved_5 rfl (ch_ireturn _ dX3_moved_14 rfl rfl hk))

theorem bX3_sweep_0 : ch_ck cX3_sweep 0 [8, 60, 3, 61, 28, 42, 180, 2, 39, 162, 0, 47, 42, 180, 0, 166] := ch_ckof (by decide +kernel)
theorem bX3_sweep_1 : ch_ck cX3_sweep 16 [28, 28, 8, 162, 0, 7, 28, 167, 0, 4, 27, 79, 27, 28, 8, 161] := ch_ckof (by decide +kernel)
theorem bX3_sweep_2 : ch_ck cX3_sweep 32 [0, 16, 42, 180, 0, 163, 28, 51, 153, 0, 7, 4, 167, 0, 4, 3] := ch_ckof (by decide +kernel)
theorem bX3_sweep_3 : ch_ck cX3_sweep 48 [96, 60, 132, 2, 1, 167, 255, 207, 3, 61, 28, 42, 180, 2, 42, 162] := ch_ckof (by decide +kernel)
theorem bX3_sweep_4 : ch_ck cX3_sweep 64 [0, 80, 42, 180, 0, 178, 28, 42, 42, 180, 0, 178, 28, 46, 182, 2] := ch_ckof (by decide +kernel)
theorem bX3_sweep_5 : ch_ck cX3_sweep 80 [51, 79, 42, 180, 0, 181, 28, 46, 62, 29, 42, 180, 0, 181, 28, 46] := ch_ckof (by decide +kernel)
theorem bX3_sweep_6 : ch_ck cX3_sweep 96 [42, 180, 0, 184, 28, 46, 96, 162, 0, 34, 42, 180, 0, 194, 29, 51] := ch_ckof (by decide +kernel)
theorem bX3_sweep_7 : ch_ck cX3_sweep 112 [153, 0, 19, 42, 180, 0, 191, 29, 42, 42, 180, 0, 191, 29, 46, 182] := ch_ckof (by decide +kernel)
theorem bX3_sweep_8 : ch_ck cX3_sweep 128 [2, 51, 79, 132, 3, 1, 167, 255, 211, 132, 2, 1, 167, 255, 174, 3] := ch_ckof (by decide +kernel)
theorem bX3_sweep_9 : ch_ck cX3_sweep 144 [61, 28, 42, 180, 2, 48, 162, 0, 34, 42, 180, 0, 201, 28, 51, 153] := ch_ckof (by decide +kernel)
theorem bX3_sweep_10 : ch_ck cX3_sweep 160 [0, 19, 42, 180, 0, 198, 28, 42, 42, 180, 0, 198, 28, 46, 182, 2] := ch_ckof (by decide +kernel)
theorem bX3_sweep_11 : ch_ck cX3_sweep 176 [51, 79, 132, 2, 1, 167, 255, 220, 3, 61, 8, 62, 29, 42, 180, 2] := ch_ckof (by decide +kernel)
theorem bX3_sweep_12 : ch_ck cX3_sweep 192 [39, 162, 0, 164, 42, 180, 0, 163, 29, 51, 154, 0, 6, 167, 0, 146] := ch_ckof (by decide +kernel)
theorem bX3_sweep_13 : ch_ck cX3_sweep 208 [42, 180, 0, 166, 29, 46, 54, 4, 42, 180, 0, 157, 29, 46, 54, 5] := ch_ckof (by decide +kernel)
theorem bX3_sweep_14 : ch_ck cX3_sweep 224 [42, 180, 0, 160, 29, 46, 54, 6, 42, 180, 0, 154, 21, 4, 42, 180] := ch_ckof (by decide +kernel)
theorem bX3_sweep_15 : ch_ck cX3_sweep 240 [0, 154, 29, 46, 79, 42, 180, 0, 157, 21, 4, 28, 79, 42, 180, 0] := ch_ckof (by decide +kernel)
theorem bX3_sweep_16 : ch_ck cX3_sweep 256 [160, 21, 4, 21, 6, 79, 3, 54, 7, 21, 7, 21, 6, 162, 0, 77] := ch_ckof (by decide +kernel)
theorem bX3_sweep_17 : ch_ck cX3_sweep 272 [42, 180, 0, 172, 28, 21, 7, 96, 42, 180, 0, 175, 21, 5, 21, 7] := ch_ckof (by decide +kernel)
theorem bX3_sweep_18 : ch_ck cX3_sweep 288 [96, 51, 153, 0, 20, 42, 42, 180, 0, 172, 21, 5, 21, 7, 96, 46] := ch_ckof (by decide +kernel)
theorem bX3_sweep_19 : ch_ck cX3_sweep 304 [182, 2, 51, 167, 0, 13, 42, 180, 0, 172, 21, 5, 21, 7, 96, 46] := ch_ckof (by decide +kernel)
theorem bX3_sweep_20 : ch_ck cX3_sweep 320 [79, 42, 180, 0, 175, 28, 21, 7, 96, 42, 180, 0, 175, 21, 5, 21] := ch_ckof (by decide +kernel)
theorem bX3_sweep_21 : ch_ck cX3_sweep 336 [7, 96, 51, 84, 132, 7, 1, 167, 255, 178, 28, 21, 6, 96, 61, 132] := ch_ckof (by decide +kernel)
theorem bX3_sweep_22 : ch_ck cX3_sweep 352 [3, 1, 167, 255, 90, 42, 27, 181, 2, 39, 42, 28, 181, 2, 54, 177] := ch_ckof (by decide +kernel)
theorem dX3_sweep_0 : decode cX3_sweep 0 = .ok (.iconst 5, 1) := dz_8 (bX3_sweep_0 0 _ rfl)
theorem dX3_sweep_1 : decode cX3_sweep 1 = .ok (.istore_n 1, 1) := dz_60 (bX3_sweep_0 1 _ rfl)
theorem dX3_sweep_2 : decode cX3_sweep 2 = .ok (.iconst 0, 1) := dz_3 (bX3_sweep_0 2 _ rfl)
theorem dX3_sweep_3 : decode cX3_sweep 3 = .ok (.istore_n 2, 1) := dz_61 (bX3_sweep_0 3 _ rfl)
theorem dX3_sweep_4 : decode cX3_sweep 4 = .ok (.iload_n 2, 1) := dz_28 (bX3_sweep_0 4 _ rfl)
theorem dX3_sweep_5 : decode cX3_sweep 5 = .ok (.aload_n 0, 1) := dz_42 (bX3_sweep_0 5 _ rfl)
theorem dX3_sweep_6 : decode cX3_sweep 6 = .ok (.getfield 551, 3) := dz_180 (bX3_sweep_0 6 _ rfl) (bX3_sweep_0 7 _ rfl) (bX3_sweep_0 8 _ rfl)
theorem dX3_sweep_9 : decode cX3_sweep 9 = .ok (.if_icmp .ge 47, 3) := dz_162 (bX3_sweep_0 9 _ rfl) (bX3_sweep_0 10 _ rfl) (bX3_sweep_0 11 _ rfl)
theorem dX3_sweep_12 : decode cX3_sweep 12 = .ok (.aload_n 0, 1) := dz_42 (bX3_sweep_0 12 _ rfl)
theorem dX3_sweep_13 : decode cX3_sweep 13 = .ok (.getfield 166, 3) := dz_180 (bX3_sweep_0 13 _ rfl) (bX3_sweep_0 14 _ rfl) (bX3_sweep_0 15 _ rfl)
theorem dX3_sweep_16 : decode cX3_sweep 16 = .ok (.iload_n 2, 1) := dz_28 (bX3_sweep_1 0 _ rfl)
theorem dX3_sweep_17 : decode cX3_sweep 17 = .ok (.iload_n 2, 1) := dz_28 (bX3_sweep_1 1 _ rfl)
theorem dX3_sweep_18 : decode cX3_sweep 18 = .ok (.iconst 5, 1) := dz_8 (bX3_sweep_1 2 _ rfl)
theorem dX3_sweep_19 : decode cX3_sweep 19 = .ok (.if_icmp .ge 7, 3) := dz_162 (bX3_sweep_1 3 _ rfl) (bX3_sweep_1 4 _ rfl) (bX3_sweep_1 5 _ rfl)
theorem dX3_sweep_22 : decode cX3_sweep 22 = .ok (.iload_n 2, 1) := dz_28 (bX3_sweep_1 6 _ rfl)
theorem dX3_sweep_23 : decode cX3_sweep 23 = .ok (.goto 4, 3) := dz_167 (bX3_sweep_1 7 _ rfl) (bX3_sweep_1 8 _ rfl) (bX3_sweep_1 9 _ rfl)
theorem dX3_sweep_26 : decode cX3_sweep 26 = .ok (.iload_n 1, 1) := dz_27 (bX3_sweep_1 10 _ rfl)
theorem dX3_sweep_27 : decode cX3_sweep 27 = .ok (.iastore, 1) := dz_79 (bX3_sweep_1 11 _ rfl)
theorem dX3_sweep_28 : decode cX3_sweep 28 = .ok (.iload_n 1, 1) := dz_27 (bX3_sweep_1 12 _ rfl)
theorem dX3_sweep_29 : decode cX3_sweep 29 = .ok (.iload_n 2, 1) := dz_28 (bX3_sweep_1 13 _ rfl)
theorem dX3_sweep_30 : decode cX3_sweep 30 = .ok (.iconst 5, 1) := dz_8 (bX3_sweep_1 14 _ rfl)
theorem dX3_sweep_31 : decode cX3_sweep 31 = .ok (.if_icmp .lt 16, 3) := dz_161 (bX3_sweep_1 15 _ rfl) (bX3_sweep_2 0 _ rfl) (bX3_sweep_2 1 _ rfl)
theorem dX3_sweep_34 : decode cX3_sweep 34 = .ok (.aload_n 0, 1) := dz_42 (bX3_sweep_2 2 _ rfl)
theorem dX3_sweep_35 : decode cX3_sweep 35 = .ok (.getfield 163, 3) := dz_180 (bX3_sweep_2 3 _ rfl) (bX3_sweep_2 4 _ rfl) (bX3_sweep_2 5 _ rfl)
theorem dX3_sweep_38 : decode cX3_sweep 38 = .ok (.iload_n 2, 1) := dz_28 (bX3_sweep_2 6 _ rfl)
theorem dX3_sweep_39 : decode cX3_sweep 39 = .ok (.baload, 1) := dz_51 (bX3_sweep_2 7 _ rfl)
theorem dX3_sweep_40 : decode cX3_sweep 40 = .ok (.ifCond .eq 7, 3) := dz_153 (bX3_sweep_2 8 _ rfl) (bX3_sweep_2 9 _ rfl) (bX3_sweep_2 10 _ rfl)
theorem dX3_sweep_43 : decode cX3_sweep 43 = .ok (.iconst 1, 1) := dz_4 (bX3_sweep_2 11 _ rfl)
theorem dX3_sweep_44 : decode cX3_sweep 44 = .ok (.goto 4, 3) := dz_167 (bX3_sweep_2 12 _ rfl) (bX3_sweep_2 13 _ rfl) (bX3_sweep_2 14 _ rfl)
theorem dX3_sweep_47 : decode cX3_sweep 47 = .ok (.iconst 0, 1) := dz_3 (bX3_sweep_2 15 _ rfl)
theorem dX3_sweep_48 : decode cX3_sweep 48 = .ok (.iadd, 1) := dz_96 (bX3_sweep_3 0 _ rfl)
theorem dX3_sweep_49 : decode cX3_sweep 49 = .ok (.istore_n 1, 1) := dz_60 (bX3_sweep_3 1 _ rfl)
theorem dX3_sweep_50 : decode cX3_sweep 50 = .ok (.iinc 2 1, 3) := dz_132 (bX3_sweep_3 2 _ rfl) (bX3_sweep_3 3 _ rfl) (bX3_sweep_3 4 _ rfl)
theorem dX3_sweep_53 : decode cX3_sweep 53 = .ok (.goto (-49), 3) := dz_167 (bX3_sweep_3 5 _ rfl) (bX3_sweep_3 6 _ rfl) (bX3_sweep_3 7 _ rfl)
theorem dX3_sweep_56 : decode cX3_sweep 56 = .ok (.iconst 0, 1) := dz_3 (bX3_sweep_3 8 _ rfl)
theorem dX3_sweep_57 : decode cX3_sweep 57 = .ok (.istore_n 2, 1) := dz_61 (bX3_sweep_3 9 _ rfl)
theorem dX3_sweep_58 : decode cX3_sweep 58 = .ok (.iload_n 2, 1) := dz_28 (bX3_sweep_3 10 _ rfl)
theorem dX3_sweep_59 : decode cX3_sweep 59 = .ok (.aload_n 0, 1) := dz_42 (bX3_sweep_3 11 _ rfl)
theorem dX3_sweep_60 : decode cX3_sweep 60 = .ok (.getfield 554, 3) := dz_180 (bX3_sweep_3 12 _ rfl) (bX3_sweep_3 13 _ rfl) (bX3_sweep_3 14 _ rfl)
theorem dX3_sweep_63 : decode cX3_sweep 63 = .ok (.if_icmp .ge 80, 3) := dz_162 (bX3_sweep_3 15 _ rfl) (bX3_sweep_4 0 _ rfl) (bX3_sweep_4 1 _ rfl)
theorem dX3_sweep_66 : decode cX3_sweep 66 = .ok (.aload_n 0, 1) := dz_42 (bX3_sweep_4 2 _ rfl)
theorem dX3_sweep_67 : decode cX3_sweep 67 = .ok (.getfield 178, 3) := dz_180 (bX3_sweep_4 3 _ rfl) (bX3_sweep_4 4 _ rfl) (bX3_sweep_4 5 _ rfl)
theorem dX3_sweep_70 : decode cX3_sweep 70 = .ok (.iload_n 2, 1) := dz_28 (bX3_sweep_4 6 _ rfl)
theorem dX3_sweep_71 : decode cX3_sweep 71 = .ok (.aload_n 0, 1) := dz_42 (bX3_sweep_4 7 _ rfl)
theorem dX3_sweep_72 : decode cX3_sweep 72 = .ok (.aload_n 0, 1) := dz_42 (bX3_sweep_4 8 _ rfl)
theorem dX3_sweep_73 : decode cX3_sweep 73 = .ok (.getfield 178, 3) := dz_180 (bX3_sweep_4 9 _ rfl) (bX3_sweep_4 10 _ rfl) (bX3_sweep_4 11 _ rfl)
theorem dX3_sweep_76 : decode cX3_sweep 76 = .ok (.iload_n 2, 1) := dz_28 (bX3_sweep_4 12 _ rfl)
theorem dX3_sweep_77 : decode cX3_sweep 77 = .ok (.iaload, 1) := dz_46 (bX3_sweep_4 13 _ rfl)
theorem dX3_sweep_78 : decode cX3_sweep 78 = .ok (.invokevirtual 563, 3) := dz_182 (bX3_sweep_4 14 _ rfl) (bX3_sweep_4 15 _ rfl) (bX3_sweep_5 0 _ rfl)
theorem dX3_sweep_81 : decode cX3_sweep 81 = .ok (.iastore, 1) := dz_79 (bX3_sweep_5 1 _ rfl)
theorem dX3_sweep_82 : decode cX3_sweep 82 = .ok (.aload_n 0, 1) := dz_42 (bX3_sweep_5 2 _ rfl)
theorem dX3_sweep_83 : decode cX3_sweep 83 = .ok (.getfield 181, 3) := dz_180 (bX3_sweep_5 3 _ rfl) (bX3_sweep_5 4 _ rfl) (bX3_sweep_5 5 _ rfl)
theorem dX3_sweep_86 : decode cX3_sweep 86 = .ok (.iload_n 2, 1) := dz_28 (bX3_sweep_5 6 _ rfl)
theorem dX3_sweep_87 : decode cX3_sweep 87 = .ok (.iaload, 1) := dz_46 (bX3_sweep_5 7 _ rfl)
theorem dX3_sweep_88 : decode cX3_sweep 88 = .ok (.istore_n 3, 1) := dz_62 (bX3_sweep_5 8 _ rfl)
theorem dX3_sweep_89 : decode cX3_sweep 89 = .ok (.iload_n 3, 1) := dz_29 (bX3_sweep_5 9 _ rfl)
theorem dX3_sweep_90 : decode cX3_sweep 90 = .ok (.aload_n 0, 1) := dz_42 (bX3_sweep_5 10 _ rfl)
theorem dX3_sweep_91 : decode cX3_sweep 91 = .ok (.getfield 181, 3) := dz_180 (bX3_sweep_5 11 _ rfl) (bX3_sweep_5 12 _ rfl) (bX3_sweep_5 13 _ rfl)
theorem dX3_sweep_94 : decode cX3_sweep 94 = .ok (.iload_n 2, 1) := dz_28 (bX3_sweep_5 14 _ rfl)
theorem dX3_sweep_95 : decode cX3_sweep 95 = .ok (.iaload, 1) := dz_46 (bX3_sweep_5 15 _ rfl)
theorem dX3_sweep_96 : decode cX3_sweep 96 = .ok (.aload_n 0, 1) := dz_42 (bX3_sweep_6 0 _ rfl)
theorem dX3_sweep_97 : decode cX3_sweep 97 = .ok (.getfield 184, 3) := dz_180 (bX3_sweep_6 1 _ rfl) (bX3_sweep_6 2 _ rfl) (bX3_sweep_6 3 _ rfl)
theorem dX3_sweep_100 : decode cX3_sweep 100 = .ok (.iload_n 2, 1) := dz_28 (bX3_sweep_6 4 _ rfl)
theorem dX3_sweep_101 : decode cX3_sweep 101 = .ok (.iaload, 1) := dz_46 (bX3_sweep_6 5 _ rfl)
theorem dX3_sweep_102 : decode cX3_sweep 102 = .ok (.iadd, 1) := dz_96 (bX3_sweep_6 6 _ rfl)
theorem dX3_sweep_103 : decode cX3_sweep 103 = .ok (.if_icmp .ge 34, 3) := dz_162 (bX3_sweep_6 7 _ rfl) (bX3_sweep_6 8 _ rfl) (bX3_sweep_6 9 _ rfl)
theorem dX3_sweep_106 : decode cX3_sweep 106 = .ok (.aload_n 0, 1) := dz_42 (bX3_sweep_6 10 _ rfl)
theorem dX3_sweep_107 : decode cX3_sweep 107 = .ok (.getfield 194, 3) := dz_180 (bX3_sweep_6 11 _ rfl) (bX3_sweep_6 12 _ rfl) (bX3_sweep_6 13 _ rfl)
theorem dX3_sweep_110 : decode cX3_sweep 110 = .ok (.iload_n 3, 1) := dz_29 (bX3_sweep_6 14 _ rfl)
theorem dX3_sweep_111 : decode cX3_sweep 111 = .ok (.baload, 1) := dz_51 (bX3_sweep_6 15 _ rfl)
theorem dX3_sweep_112 : decode cX3_sweep 112 = .ok (.ifCond .eq 19, 3) := dz_153 (bX3_sweep_7 0 _ rfl) (bX3_sweep_7 1 _ rfl) (bX3_sweep_7 2 _ rfl)
theorem dX3_sweep_115 : decode cX3_sweep 115 = .ok (.aload_n 0, 1) := dz_42 (bX3_sweep_7 3 _ rfl)
theorem dX3_sweep_116 : decode cX3_sweep 116 = .ok (.getfield 191, 3) := dz_180 (bX3_sweep_7 4 _ rfl) (bX3_sweep_7 5 _ rfl) (bX3_sweep_7 6 _ rfl)
theorem dX3_sweep_119 : decode cX3_sweep 119 = .ok (.iload_n 3, 1) := dz_29 (bX3_sweep_7 7 _ rfl)
theorem dX3_sweep_120 : decode cX3_sweep 120 = .ok (.aload_n 0, 1) := dz_42 (bX3_sweep_7 8 _ rfl)
theorem dX3_sweep_121 : decode cX3_sweep 121 = .ok (.aload_n 0, 1) := dz_42 (bX3_sweep_7 9 _ rfl)
theorem dX3_sweep_122 : decode cX3_sweep 122 = .ok (.getfield 191, 3) := dz_180 (bX3_sweep_7 10 _ rfl) (bX3_sweep_7 11 _ rfl) (bX3_sweep_7 12 _ rfl)
theorem dX3_sweep_125 : decode cX3_sweep 125 = .ok (.iload_n 3, 1) := dz_29 (bX3_sweep_7 13 _ rfl)
theorem dX3_sweep_126 : decode cX3_sweep 126 = .ok (.iaload, 1) := dz_46 (bX3_sweep_7 14 _ rfl)
theorem dX3_sweep_127 : decode cX3_sweep 127 = .ok (.invokevirtual 563, 3) := dz_182 (bX3_sweep_7 15 _ rfl) (bX3_sweep_8 0 _ rfl) (bX3_sweep_8 1 _ rfl)
theorem dX3_sweep_130 : decode cX3_sweep 130 = .ok (.iastore, 1) := dz_79 (bX3_sweep_8 2 _ rfl)
theorem dX3_sweep_131 : decode cX3_sweep 131 = .ok (.iinc 3 1, 3) := dz_132 (bX3_sweep_8 3 _ rfl) (bX3_sweep_8 4 _ rfl) (bX3_sweep_8 5 _ rfl)
theorem dX3_sweep_134 : decode cX3_sweep 134 = .ok (.goto (-45), 3) := dz_167 (bX3_sweep_8 6 _ rfl) (bX3_sweep_8 7 _ rfl) (bX3_sweep_8 8 _ rfl)
theorem dX3_sweep_137 : decode cX3_sweep 137 = .ok (.iinc 2 1, 3) := dz_132 (bX3_sweep_8 9 _ rfl) (bX3_sweep_8 10 _ rfl) (bX3_sweep_8 11 _ rfl)
theorem dX3_sweep_140 : decode cX3_sweep 140 = .ok (.goto (-82), 3) := dz_167 (bX3_sweep_8 12 _ rfl) (bX3_sweep_8 13 _ rfl) (bX3_sweep_8 14 _ rfl)
theorem dX3_sweep_143 : decode cX3_sweep 143 = .ok (.iconst 0, 1) := dz_3 (bX3_sweep_8 15 _ rfl)
theorem dX3_sweep_144 : decode cX3_sweep 144 = .ok (.istore_n 2, 1) := dz_61 (bX3_sweep_9 0 _ rfl)
theorem dX3_sweep_145 : decode cX3_sweep 145 = .ok (.iload_n 2, 1) := dz_28 (bX3_sweep_9 1 _ rfl)
theorem dX3_sweep_146 : decode cX3_sweep 146 = .ok (.aload_n 0, 1) := dz_42 (bX3_sweep_9 2 _ rfl)
theorem dX3_sweep_147 : decode cX3_sweep 147 = .ok (.getfield 560, 3) := dz_180 (bX3_sweep_9 3 _ rfl) (bX3_sweep_9 4 _ rfl) (bX3_sweep_9 5 _ rfl)
theorem dX3_sweep_150 : decode cX3_sweep 150 = .ok (.if_icmp .ge 34, 3) := dz_162 (bX3_sweep_9 6 _ rfl) (bX3_sweep_9 7 _ rfl) (bX3_sweep_9 8 _ rfl)
theorem dX3_sweep_153 : decode cX3_sweep 153 = .ok (.aload_n 0, 1) := dz_42 (bX3_sweep_9 9 _ rfl)
theorem dX3_sweep_154 : decode cX3_sweep 154 = .ok (.getfield 201, 3) := dz_180 (bX3_sweep_9 10 _ rfl) (bX3_sweep_9 11 _ rfl) (bX3_sweep_9 12 _ rfl)
theorem dX3_sweep_157 : decode cX3_sweep 157 = .ok (.iload_n 2, 1) := dz_28 (bX3_sweep_9 13 _ rfl)
theorem dX3_sweep_158 : decode cX3_sweep 158 = .ok (.baload, 1) := dz_51 (bX3_sweep_9 14 _ rfl)
theorem dX3_sweep_159 : decode cX3_sweep 159 = .ok (.ifCond .eq 19, 3) := dz_153 (bX3_sweep_9 15 _ rfl) (bX3_sweep_10 0 _ rfl) (bX3_sweep_10 1 _ rfl)
theorem dX3_sweep_162 : decode cX3_sweep 162 = .ok (.aload_n 0, 1) := dz_42 (bX3_sweep_10 2 _ rfl)
theorem dX3_sweep_163 : decode cX3_sweep 163 = .ok (.getfield 198, 3) := dz_180 (bX3_sweep_10 3 _ rfl) (bX3_sweep_10 4 _ rfl) (bX3_sweep_10 5 _ rfl)
theorem dX3_sweep_166 : decode cX3_sweep 166 = .ok (.iload_n 2, 1) := dz_28 (bX3_sweep_10 6 _ rfl)
theorem dX3_sweep_167 : decode cX3_sweep 167 = .ok (.aload_n 0, 1) := dz_42 (bX3_sweep_10 7 _ rfl)
theorem dX3_sweep_168 : decode cX3_sweep 168 = .ok (.aload_n 0, 1) := dz_42 (bX3_sweep_10 8 _ rfl)
theorem dX3_sweep_169 : decode cX3_sweep 169 = .ok (.getfield 198, 3) := dz_180 (bX3_sweep_10 9 _ rfl) (bX3_sweep_10 10 _ rfl) (bX3_sweep_10 11 _ rfl)
theorem dX3_sweep_172 : decode cX3_sweep 172 = .ok (.iload_n 2, 1) := dz_28 (bX3_sweep_10 12 _ rfl)
theorem dX3_sweep_173 : decode cX3_sweep 173 = .ok (.iaload, 1) := dz_46 (bX3_sweep_10 13 _ rfl)
theorem dX3_sweep_174 : decode cX3_sweep 174 = .ok (.invokevirtual 563, 3) := dz_182 (bX3_sweep_10 14 _ rfl) (bX3_sweep_10 15 _ rfl) (bX3_sweep_11 0 _ rfl)
theorem dX3_sweep_177 : decode cX3_sweep 177 = .ok (.iastore, 1) := dz_79 (bX3_sweep_11 1 _ rfl)
theorem dX3_sweep_178 : decode cX3_sweep 178 = .ok (.iinc 2 1, 3) := dz_132 (bX3_sweep_11 2 _ rfl) (bX3_sweep_11 3 _ rfl) (bX3_sweep_11 4 _ rfl)
theorem dX3_sweep_181 : decode cX3_sweep 181 = .ok (.goto (-36), 3) := dz_167 (bX3_sweep_11 5 _ rfl) (bX3_sweep_11 6 _ rfl) (bX3_sweep_11 7 _ rfl)
theorem dX3_sweep_184 : decode cX3_sweep 184 = .ok (.iconst 0, 1) := dz_3 (bX3_sweep_11 8 _ rfl)
theorem dX3_sweep_185 : decode cX3_sweep 185 = .ok (.istore_n 2, 1) := dz_61 (bX3_sweep_11 9 _ rfl)
theorem dX3_sweep_186 : decode cX3_sweep 186 = .ok (.iconst 5, 1) := dz_8 (bX3_sweep_11 10 _ rfl)
theorem dX3_sweep_187 : decode cX3_sweep 187 = .ok (.istore_n 3, 1) := dz_62 (bX3_sweep_11 11 _ rfl)
theorem dX3_sweep_188 : decode cX3_sweep 188 = .ok (.iload_n 3, 1) := dz_29 (bX3_sweep_11 12 _ rfl)
theorem dX3_sweep_189 : decode cX3_sweep 189 = .ok (.aload_n 0, 1) := dz_42 (bX3_sweep_11 13 _ rfl)
theorem dX3_sweep_190 : decode cX3_sweep 190 = .ok (.getfield 551, 3) := dz_180 (bX3_sweep_11 14 _ rfl) (bX3_sweep_11 15 _ rfl) (bX3_sweep_12 0 _ rfl)
theorem dX3_sweep_193 : decode cX3_sweep 193 = .ok (.if_icmp .ge 164, 3) := dz_162 (bX3_sweep_12 1 _ rfl) (bX3_sweep_12 2 _ rfl) (bX3_sweep_12 3 _ rfl)
theorem dX3_sweep_196 : decode cX3_sweep 196 = .ok (.aload_n 0, 1) := dz_42 (bX3_sweep_12 4 _ rfl)
theorem dX3_sweep_197 : decode cX3_sweep 197 = .ok (.getfield 163, 3) := dz_180 (bX3_sweep_12 5 _ rfl) (bX3_sweep_12 6 _ rfl) (bX3_sweep_12 7 _ rfl)
theorem dX3_sweep_200 : decode cX3_sweep 200 = .ok (.iload_n 3, 1) := dz_29 (bX3_sweep_12 8 _ rfl)
theorem dX3_sweep_201 : decode cX3_sweep 201 = .ok (.baload, 1) := dz_51 (bX3_sweep_12 9 _ rfl)
theorem dX3_sweep_202 : decode cX3_sweep 202 = .ok (.ifCond .ne 6, 3) := dz_154 (bX3_sweep_12 10 _ rfl) (bX3_sweep_12 11 _ rfl) (bX3_sweep_12 12 _ rfl)
theorem dX3_sweep_205 : decode cX3_sweep 205 = .ok (.goto 146, 3) := dz_167 (bX3_sweep_12 13 _ rfl) (bX3_sweep_12 14 _ rfl) (bX3_sweep_12 15 _ rfl)
theorem dX3_sweep_208 : decode cX3_sweep 208 = .ok (.aload_n 0, 1) := dz_42 (bX3_sweep_13 0 _ rfl)
theorem dX3_sweep_209 : decode cX3_sweep 209 = .ok (.getfield 166, 3) := dz_180 (bX3_sweep_13 1 _ rfl) (bX3_sweep_13 2 _ rfl) (bX3_sweep_13 3 _ rfl)
theorem dX3_sweep_212 : decode cX3_sweep 212 = .ok (.iload_n 3, 1) := dz_29 (bX3_sweep_13 4 _ rfl)
theorem dX3_sweep_213 : decode cX3_sweep 213 = .ok (.iaload, 1) := dz_46 (bX3_sweep_13 5 _ rfl)
theorem dX3_sweep_214 : decode cX3_sweep 214 = .ok (.istore 4, 2) := dz_54 (bX3_sweep_13 6 _ rfl) (bX3_sweep_13 7 _ rfl)
theorem dX3_sweep_216 : decode cX3_sweep 216 = .ok (.aload_n 0, 1) := dz_42 (bX3_sweep_13 8 _ rfl)
theorem dX3_sweep_217 : decode cX3_sweep 217 = .ok (.getfield 157, 3) := dz_180 (bX3_sweep_13 9 _ rfl) (bX3_sweep_13 10 _ rfl) (bX3_sweep_13 11 _ rfl)
theorem dX3_sweep_220 : decode cX3_sweep 220 = .ok (.iload_n 3, 1) := dz_29 (bX3_sweep_13 12 _ rfl)
theorem dX3_sweep_221 : decode cX3_sweep 221 = .ok (.iaload, 1) := dz_46 (bX3_sweep_13 13 _ rfl)
theorem dX3_sweep_222 : decode cX3_sweep 222 = .ok (.istore 5, 2) := dz_54 (bX3_sweep_13 14 _ rfl) (bX3_sweep_13 15 _ rfl)
theorem dX3_sweep_224 : decode cX3_sweep 224 = .ok (.aload_n 0, 1) := dz_42 (bX3_sweep_14 0 _ rfl)
theorem dX3_sweep_225 : decode cX3_sweep 225 = .ok (.getfield 160, 3) := dz_180 (bX3_sweep_14 1 _ rfl) (bX3_sweep_14 2 _ rfl) (bX3_sweep_14 3 _ rfl)
theorem dX3_sweep_228 : decode cX3_sweep 228 = .ok (.iload_n 3, 1) := dz_29 (bX3_sweep_14 4 _ rfl)
theorem dX3_sweep_229 : decode cX3_sweep 229 = .ok (.iaload, 1) := dz_46 (bX3_sweep_14 5 _ rfl)
theorem dX3_sweep_230 : decode cX3_sweep 230 = .ok (.istore 6, 2) := dz_54 (bX3_sweep_14 6 _ rfl) (bX3_sweep_14 7 _ rfl)
theorem dX3_sweep_232 : decode cX3_sweep 232 = .ok (.aload_n 0, 1) := dz_42 (bX3_sweep_14 8 _ rfl)
theorem dX3_sweep_233 : decode cX3_sweep 233 = .ok (.getfield 154, 3) := dz_180 (bX3_sweep_14 9 _ rfl) (bX3_sweep_14 10 _ rfl) (bX3_sweep_14 11 _ rfl)
theorem dX3_sweep_236 : decode cX3_sweep 236 = .ok (.iload 4, 2) := dz_21 (bX3_sweep_14 12 _ rfl) (bX3_sweep_14 13 _ rfl)
theorem dX3_sweep_238 : decode cX3_sweep 238 = .ok (.aload_n 0, 1) := dz_42 (bX3_sweep_14 14 _ rfl)
theorem dX3_sweep_239 : decode cX3_sweep 239 = .ok (.getfield 154, 3) := dz_180 (bX3_sweep_14 15 _ rfl) (bX3_sweep_15 0 _ rfl) (bX3_sweep_15 1 _ rfl)
theorem dX3_sweep_242 : decode cX3_sweep 242 = .ok (.iload_n 3, 1) := dz_29 (bX3_sweep_15 2 _ rfl)
theorem dX3_sweep_243 : decode cX3_sweep 243 = .ok (.iaload, 1) := dz_46 (bX3_sweep_15 3 _ rfl)
theorem dX3_sweep_244 : decode cX3_sweep 244 = .ok (.iastore, 1) := dz_79 (bX3_sweep_15 4 _ rfl)
theorem dX3_sweep_245 : decode cX3_sweep 245 = .ok (.aload_n 0, 1) := dz_42 (bX3_sweep_15 5 _ rfl)
theorem dX3_sweep_246 : decode cX3_sweep 246 = .ok (.getfield 157, 3) := dz_180 (bX3_sweep_15 6 _ rfl) (bX3_sweep_15 7 _ rfl) (bX3_sweep_15 8 _ rfl)
theorem dX3_sweep_249 : decode cX3_sweep 249 = .ok (.iload 4, 2) := dz_21 (bX3_sweep_15 9 _ rfl) (bX3_sweep_15 10 _ rfl)
theorem dX3_sweep_251 : decode cX3_sweep 251 = .ok (.iload_n 2, 1) := dz_28 (bX3_sweep_15 11 _ rfl)
theorem dX3_sweep_252 : decode cX3_sweep 252 = .ok (.iastore, 1) := dz_79 (bX3_sweep_15 12 _ rfl)
theorem dX3_sweep_253 : decode cX3_sweep 253 = .ok (.aload_n 0, 1) := dz_42 (bX3_sweep_15 13 _ rfl)
theorem dX3_sweep_254 : decode cX3_sweep 254 = .ok (.getfield 160, 3) := dz_180 (bX3_sweep_15 14 _ rfl) (bX3_sweep_15 15 _ rfl) (bX3_sweep_16 0 _ rfl)
theorem dX3_sweep_257 : decode cX3_sweep 257 = .ok (.iload 4, 2) := dz_21 (bX3_sweep_16 1 _ rfl) (bX3_sweep_16 2 _ rfl)
theorem dX3_sweep_259 : decode cX3_sweep 259 = .ok (.iload 6, 2) := dz_21 (bX3_sweep_16 3 _ rfl) (bX3_sweep_16 4 _ rfl)
theorem dX3_sweep_261 : decode cX3_sweep 261 = .ok (.iastore, 1) := dz_79 (bX3_sweep_16 5 _ rfl)
theorem dX3_sweep_262 : decode cX3_sweep 262 = .ok (.iconst 0, 1) := dz_3 (bX3_sweep_16 6 _ rfl)
theorem dX3_sweep_263 : decode cX3_sweep 263 = .ok (.istore 7, 2) := dz_54 (bX3_sweep_16 7 _ rfl) (bX3_sweep_16 8 _ rfl)
theorem dX3_sweep_265 : decode cX3_sweep 265 = .ok (.iload 7, 2) := dz_21 (bX3_sweep_16 9 _ rfl) (bX3_sweep_16 10 _ rfl)
theorem dX3_sweep_267 : decode cX3_sweep 267 = .ok (.iload 6, 2) := dz_21 (bX3_sweep_16 11 _ rfl) (bX3_sweep_16 12 _ rfl)
theorem dX3_sweep_269 : decode cX3_sweep 269 = .ok (.if_icmp .ge 77, 3) := dz_162 (bX3_sweep_16 13 _ rfl) (bX3_sweep_16 14 _ rfl) (bX3_sweep_16 15 _ rfl)
theorem dX3_sweep_272 : decode cX3_sweep 272 = .ok (.aload_n 0, 1) := dz_42 (bX3_sweep_17 0 _ rfl)
theorem dX3_sweep_273 : decode cX3_sweep 273 = .ok (.getfield 172, 3) := dz_180 (bX3_sweep_17 1 _ rfl) (bX3_sweep_17 2 _ rfl) (bX3_sweep_17 3 _ rfl)
theorem dX3_sweep_276 : decode cX3_sweep 276 = .ok (.iload_n 2, 1) := dz_28 (bX3_sweep_17 4 _ rfl)
theorem dX3_sweep_277 : decode cX3_sweep 277 = .ok (.iload 7, 2) := dz_21 (bX3_sweep_17 5 _ rfl) (bX3_sweep_17 6 _ rfl)
theorem dX3_sweep_279 : decode cX3_sweep 279 = .ok (.iadd, 1) := dz_96 (bX3_sweep_17 7 _ rfl)
theorem dX3_sweep_280 : decode cX3_sweep 280 = .ok (.aload_n 0, 1) := dz_42 (bX3_sweep_17 8 _ rfl)
theorem dX3_sweep_281 : decode cX3_sweep 281 = .ok (.getfield 175, 3) := dz_180 (bX3_sweep_17 9 _ rfl) (bX3_sweep_17 10 _ rfl) (bX3_sweep_17 11 _ rfl)
theorem dX3_sweep_284 : decode cX3_sweep 284 = .ok (.iload 5, 2) := dz_21 (bX3_sweep_17 12 _ rfl) (bX3_sweep_17 13 _ rfl)
theorem dX3_sweep_286 : decode cX3_sweep 286 = .ok (.iload 7, 2) := dz_21 (bX3_sweep_17 14 _ rfl) (bX3_sweep_17 15 _ rfl)
theorem dX3_sweep_288 : decode cX3_sweep 288 = .ok (.iadd, 1) := dz_96 (bX3_sweep_18 0 _ rfl)
theorem dX3_sweep_289 : decode cX3_sweep 289 = .ok (.baload, 1) := dz_51 (bX3_sweep_18 1 _ rfl)
theorem dX3_sweep_290 : decode cX3_sweep 290 = .ok (.ifCond .eq 20, 3) := dz_153 (bX3_sweep_18 2 _ rfl) (bX3_sweep_18 3 _ rfl) (bX3_sweep_18 4 _ rfl)
theorem dX3_sweep_293 : decode cX3_sweep 293 = .ok (.aload_n 0, 1) := dz_42 (bX3_sweep_18 5 _ rfl)
theorem dX3_sweep_294 : decode cX3_sweep 294 = .ok (.aload_n 0, 1) := dz_42 (bX3_sweep_18 6 _ rfl)
theorem dX3_sweep_295 : decode cX3_sweep 295 = .ok (.getfield 172, 3) := dz_180 (bX3_sweep_18 7 _ rfl) (bX3_sweep_18 8 _ rfl) (bX3_sweep_18 9 _ rfl)
theorem dX3_sweep_298 : decode cX3_sweep 298 = .ok (.iload 5, 2) := dz_21 (bX3_sweep_18 10 _ rfl) (bX3_sweep_18 11 _ rfl)
theorem dX3_sweep_300 : decode cX3_sweep 300 = .ok (.iload 7, 2) := dz_21 (bX3_sweep_18 12 _ rfl) (bX3_sweep_18 13 _ rfl)
theorem dX3_sweep_302 : decode cX3_sweep 302 = .ok (.iadd, 1) := dz_96 (bX3_sweep_18 14 _ rfl)
theorem dX3_sweep_303 : decode cX3_sweep 303 = .ok (.iaload, 1) := dz_46 (bX3_sweep_18 15 _ rfl)
theorem dX3_sweep_304 : decode cX3_sweep 304 = .ok (.invokevirtual 563, 3) := dz_182 (bX3_sweep_19 0 _ rfl) (bX3_sweep_19 1 _ rfl) (bX3_sweep_19 2 _ rfl)
theorem dX3_sweep_307 : decode cX3_sweep 307 = .ok (.goto 13, 3) := dz_167 (bX3_sweep_19 3 _ rfl) (bX3_sweep_19 4 _ rfl) (bX3_sweep_19 5 _ rfl)
theorem dX3_sweep_310 : decode cX3_sweep 310 = .ok (.aload_n 0, 1) := dz_42 (bX3_sweep_19 6 _ rfl)
theorem dX3_sweep_311 : decode cX3_sweep 311 = .ok (.getfield 172, 3) := dz_180 (bX3_sweep_19 7 _ rfl) (bX3_sweep_19 8 _ rfl) (bX3_sweep_19 9 _ rfl)
theorem dX3_sweep_314 : decode cX3_sweep 314 = .ok (.iload 5, 2) := dz_21 (bX3_sweep_19 10 _ rfl) (bX3_sweep_19 11 _ rfl)
theorem dX3_sweep_316 : decode cX3_sweep 316 = .ok (.iload 7, 2) := dz_21 (bX3_sweep_19 12 _ rfl) (bX3_sweep_19 13 _ rfl)
theorem dX3_sweep_318 : decode cX3_sweep 318 = .ok (.iadd, 1) := dz_96 (bX3_sweep_19 14 _ rfl)
theorem dX3_sweep_319 : decode cX3_sweep 319 = .ok (.iaload, 1) := dz_46 (bX3_sweep_19 15 _ rfl)
theorem dX3_sweep_320 : decode cX3_sweep 320 = .ok (.iastore, 1) := dz_79 (bX3_sweep_20 0 _ rfl)
theorem dX3_sweep_321 : decode cX3_sweep 321 = .ok (.aload_n 0, 1) := dz_42 (bX3_sweep_20 1 _ rfl)
theorem dX3_sweep_322 : decode cX3_sweep 322 = .ok (.getfield 175, 3) := dz_180 (bX3_sweep_20 2 _ rfl) (bX3_sweep_20 3 _ rfl) (bX3_sweep_20 4 _ rfl)
theorem dX3_sweep_325 : decode cX3_sweep 325 = .ok (.iload_n 2, 1) := dz_28 (bX3_sweep_20 5 _ rfl)
theorem dX3_sweep_326 : decode cX3_sweep 326 = .ok (.iload 7, 2) := dz_21 (bX3_sweep_20 6 _ rfl) (bX3_sweep_20 7 _ rfl)
theorem dX3_sweep_328 : decode cX3_sweep 328 = .ok (.iadd, 1) := dz_96 (bX3_sweep_20 8 _ rfl)
theorem dX3_sweep_329 : decode cX3_sweep 329 = .ok (.aload_n 0, 1) := dz_42 (bX3_sweep_20 9 _ rfl)
theorem dX3_sweep_330 : decode cX3_sweep 330 = .ok (.getfield 175, 3) := dz_180 (bX3_sweep_20 10 _ rfl) (bX3_sweep_20 11 _ rfl) (bX3_sweep_20 12 _ rfl)
theorem dX3_sweep_333 : decode cX3_sweep 333 = .ok (.iload 5, 2) := dz_21 (bX3_sweep_20 13 _ rfl) (bX3_sweep_20 14 _ rfl)
theorem dX3_sweep_335 : decode cX3_sweep 335 = .ok (.iload 7, 2) := dz_21 (bX3_sweep_20 15 _ rfl) (bX3_sweep_21 0 _ rfl)
theorem dX3_sweep_337 : decode cX3_sweep 337 = .ok (.iadd, 1) := dz_96 (bX3_sweep_21 1 _ rfl)
theorem dX3_sweep_338 : decode cX3_sweep 338 = .ok (.baload, 1) := dz_51 (bX3_sweep_21 2 _ rfl)
theorem dX3_sweep_339 : decode cX3_sweep 339 = .ok (.bastore, 1) := dz_84 (bX3_sweep_21 3 _ rfl)
theorem dX3_sweep_340 : decode cX3_sweep 340 = .ok (.iinc 7 1, 3) := dz_132 (bX3_sweep_21 4 _ rfl) (bX3_sweep_21 5 _ rfl) (bX3_sweep_21 6 _ rfl)
theorem dX3_sweep_343 : decode cX3_sweep 343 = .ok (.goto (-78), 3) := dz_167 (bX3_sweep_21 7 _ rfl) (bX3_sweep_21 8 _ rfl) (bX3_sweep_21 9 _ rfl)
theorem dX3_sweep_346 : decode cX3_sweep 346 = .ok (.iload_n 2, 1) := dz_28 (bX3_sweep_21 10 _ rfl)
theorem dX3_sweep_347 : decode cX3_sweep 347 = .ok (.iload 6, 2) := dz_21 (bX3_sweep_21 11 _ rfl) (bX3_sweep_21 12 _ rfl)
theorem dX3_sweep_349 : decode cX3_sweep 349 = .ok (.iadd, 1) := dz_96 (bX3_sweep_21 13 _ rfl)
theorem dX3_sweep_350 : decode cX3_sweep 350 = .ok (.istore_n 2, 1) := dz_61 (bX3_sweep_21 14 _ rfl)
theorem dX3_sweep_351 : decode cX3_sweep 351 = .ok (.iinc 3 1, 3) := dz_132 (bX3_sweep_21 15 _ rfl) (bX3_sweep_22 0 _ rfl) (bX3_sweep_22 1 _ rfl)
theorem dX3_sweep_354 : decode cX3_sweep 354 = .ok (.goto (-166), 3) := dz_167 (bX3_sweep_22 2 _ rfl) (bX3_sweep_22 3 _ rfl) (bX3_sweep_22 4 _ rfl)
theorem dX3_sweep_357 : decode cX3_sweep 357 = .ok (.aload_n 0, 1) := dz_42 (bX3_sweep_22 5 _ rfl)
theorem dX3_sweep_358 : decode cX3_sweep 358 = .ok (.iload_n 1, 1) := dz_27 (bX3_sweep_22 6 _ rfl)
theorem dX3_sweep_359 : decode cX3_sweep 359 = .ok (.putfield 551, 3) := dz_181 (bX3_sweep_22 7 _ rfl) (bX3_sweep_22 8 _ rfl) (bX3_sweep_22 9 _ rfl)
theorem dX3_sweep_362 : decode cX3_sweep 362 = .ok (.aload_n 0, 1) := dz_42 (bX3_sweep_22 10 _ rfl)
theorem dX3_sweep_363 : decode cX3_sweep 363 = .ok (.iload_n 2, 1) := dz_28 (bX3_sweep_22 11 _ rfl)
theorem dX3_sweep_364 : decode cX3_sweep 364 = .ok (.putfield 566, 3) := dz_181 (bX3_sweep_22 12 _ rfl) (bX3_sweep_22 13 _ rfl) (bX3_sweep_22 14 _ rfl)
theorem dX3_sweep_367 : decode cX3_sweep 367 = .ok (.return_, 1) := dz_177 (bX3_sweep_22 15 _ rfl)
def m_X3_sweep_320 (x1 : Int32) (x2 : Int32) (x3 : Int32) (x5 : Int32) (x6 : Int32) (x7 : Int32) (y0 : Int32) (y1 : Int32) (σ : ch_S) : Option ((Int32 × ch_S) ⊕ ((Int32 × Int32 × ch_S) ⊕ (ch_S))) := (ch_mw σ fX3_words y1 y0).bind fun σ1 => (ch_ma σ1 fX3_isObject (x5 + x7)).bind fun v2 => (ch_bit v2).bind fun _ => (ch_mw σ1 fX3_isObject (x2 + x7) v2).bind fun σ3 => some (.inl (x7 + 1, σ3))
theorem s_X3_sweep_320 {g : State} {m : Nat} {w : ch_W} {x1 : Int32} {x2 : Int32} {x3 : Int32} {x5 : Int32} {x6 : Int32} {x7 : Int32} {y0 : Int32} {y1 : Int32} {σ : ch_S} {res : (Int32 × ch_S) ⊕ ((Int32 × Int32 × ch_S) ⊕ (ch_S))} {Q : Outcome → ch_W → Prop} (h : m_X3_sweep_320 x1 x2 x3 x5 x6 x7 y0 y1 σ = some res) (hk : (ch_sm (fun s => ch_FT g false mX3_sweep 3 265 [some (va_rf (some m)), some (.int x1), some (.int x2), some (.int x3), none, some (.int x5), some (.int x6), some (.int s.1)] [] (ch_put m w s.2) Q) (ch_sm (fun s => ch_FT g false mX3_sweep 3 188 [some (va_rf (some m)), some (.int x1), some (.int s.1), some (.int s.2.1), none, none, none, none] [] (ch_put m w s.2.2) Q) (fun r => ch_eV Q (ch_put m w r)))) res) : ch_FT g false mX3_sweep 3 320 [some (va_rf (some m)), some (.int x1), some (.int x2), some (.int x3), none, some (.int x5), some (.int x6), some (.int x7)] [.int y0, .int y1, va_rf (ch_mr m fX3_words)] (ch_put m w σ) Q := by
  unfold m_X3_sweep_320 at h
  refine mp_iast dX3_sweep_320 mk_91 rfl h (fun σ1 h => ?_)
  refine ch_aload_n 0 (some m) dX3_sweep_321 rfl (mp_gA 92 dX3_sweep_322 fl_X3_175 rfl (ch_iload_n 2 _ dX3_sweep_325 rfl (ch_iload 7 _ dX3_sweep_326 rfl (ch_iadd _ _ dX3_sweep_328 (ch_aload_n 0 (some m) dX3_sweep_329 rfl (mp_gA 92 dX3_sweep_330 fl_X3_175 rfl (ch_iload 5 _ dX3_sweep_333 rfl (?_))))))))
  refine ch_iload 7 _ dX3_sweep_335 rfl (ch_iadd _ _ dX3_sweep_337 (mp_zald dX3_sweep_338 mk_92 h (fun v2 h => ?_)))
  refine mp_zast dX3_sweep_339 mk_92 rfl h (fun σ3 h => ?_)
  refine ch_iinc 7 _ _ (x7 + 1) (ls1 := [some (va_rf (some m)), some (.int x1), some (.int x2), some (.int x3), none, some (.int x5), some (.int x6), some (.int (x7 + 1))]) dX3_sweep_340 rfl rfl (Nat.le_of_ble_eq_true rfl) rfl (ch_goto 265 dX3_sweep_343 rfl (ch_FT.wk (ch_wS (ch_wS (ch_wS (ch_wS (ch_wN (ch_wS (ch_wS (ch_wS ch_w0)))))))) ?_))
  obtain rfl := Option.some.inj h
  exact hk

def m_X3_sweep_265 (x1 : Int32) (x2 : Int32) (x3 : Int32) (x5 : Int32) (x6 : Int32) (x7 : Int32)  (σ : ch_S) : Option ((Int32 × ch_S) ⊕ ((Int32 × Int32 × ch_S) ⊕ (ch_S))) := if x7 < x6 then ((ch_ma σ fX3_isObject (x5 + x7)).bind fun v1 => if v1 = 0 then ((ch_ma σ fX3_words (x5 + x7)).bind fun v2 => m_X3_sweep_320 x1 x2 x3 x5 x6 x7 v2 (x2 + x7) σ) else ((ch_ma σ fX3_words (x5 + x7)).bind fun v3 => (m_X3_moved v3 σ).bind fun v4 => m_X3_sweep_320 x1 x2 x3 x5 x6 x7 v4 (x2 + x7) σ)) else (some (.inr (.inl (x2 + x6, x3 + 1, σ))))
theorem s_X3_sweep_265 {g : State} {m : Nat} {w : ch_W} {x1 : Int32} {x2 : Int32} {x3 : Int32} {x5 : Int32} {x6 : Int32} {x7 : Int32} {σ : ch_S} {res : (Int32 × ch_S) ⊕ ((Int32 × Int32 × ch_S) ⊕ (ch_S))} {Q : Outcome → ch_W → Prop} (h : m_X3_sweep_265 x1 x2 x3 x5 x6 x7 σ = some res) (hk : (ch_sm (fun s => ch_FT g false mX3_sweep 3 265 [some (va_rf (some m)), some (.int x1), some (.int x2), some (.int x3), none, some (.int x5), some (.int x6), some (.int s.1)] [] (ch_put m w s.2) Q) (ch_sm (fun s => ch_FT g false mX3_sweep 3 188 [some (va_rf (some m)), some (.int x1), some (.int s.1), some (.int s.2.1), none, none, none, none] [] (ch_put m w s.2.2) Q) (fun r => ch_eV Q (ch_put m w r)))) res) : ch_FT g false mX3_sweep 3 265 [some (va_rf (some m)), some (.int x1), some (.int x2), some (.int x3), none, some (.int x5), some (.int x6), some (.int x7)] [] (ch_put m w σ) Q := by
  unfold m_X3_sweep_265 at h
  refine ch_iload 7 _ dX3_sweep_265 rfl (ch_iload 6 _ dX3_sweep_267 rfl (cp_icmp_ge _ _ (tgt := 346) dX3_sweep_269 rfl h (fun h => ?_) (fun h => ?_)))
  · refine ch_iload_n 2 _ dX3_sweep_346 rfl (ch_iload 6 _ dX3_sweep_347 rfl (ch_iadd _ _ dX3_sweep_349 (ch_istore_n 2 _ (ls1 := [some (va_rf (some m)), some (.int x1), some (.int (x2 + x6)), some (.int x3), none, some (.int x5), some (.int x6), some (.int x7)]) dX3_sweep_350 (Nat.le_of_ble_eq_true rfl) rfl (ch_iinc 3 _ _ (x3 + 1) (ls1 := [some (va_rf (some m)), some (.int x1), some (.int (x2 + x6)), some (.int (x3 + 1)), none, some (.int x5), some (.int x6), some (.int x7)]) dX3_sweep_351 rfl rfl (Nat.le_of_ble_eq_true rfl) rfl (ch_goto 188 dX3_sweep_354 rfl (ch_FT.wk (ch_wS (ch_wS (ch_wS (ch_wS (ch_wN (ch_wN (ch_wN (ch_wN ch_w0)))))))) ?_))))))
    obtain rfl := Option.some.inj h
    exact hk
  · refine ch_aload_n 0 (some m) dX3_sweep_272 rfl (mp_gA 91 dX3_sweep_273 fl_X3_172 rfl (ch_iload_n 2 _ dX3_sweep_276 rfl (ch_iload 7 _ dX3_sweep_277 rfl (ch_iadd _ _ dX3_sweep_279 (ch_aload_n 0 (some m) dX3_sweep_280 rfl (mp_gA 92 dX3_sweep_281 fl_X3_175 rfl (ch_iload 5 _ dX3_sweep_284 rfl (?_))))))))
    refine ch_iload 7 _ dX3_sweep_286 rfl (ch_iadd _ _ dX3_sweep_288 (mp_zald dX3_sweep_289 mk_92 h (fun v1 h => ?_)))
    refine cp_if_eq _ (tgt := 310) dX3_sweep_290 rfl h (fun h => ?_) (fun h => ?_)
    · refine ch_aload_n 0 (some m) dX3_sweep_310 rfl (mp_gA 91 dX3_sweep_311 fl_X3_172 rfl (ch_iload 5 _ dX3_sweep_314 rfl (ch_iload 7 _ dX3_sweep_316 rfl (ch_iadd _ _ dX3_sweep_318 (mp_iald dX3_sweep_319 mk_91 h (fun v2 h => ?_))))))
      exact ch_FT.wk (ch_wS (ch_wS (ch_wS (ch_wS (ch_wN (ch_wS (ch_wS (ch_wS ch_w0)))))))) (s_X3_sweep_320  h hk)
    · refine ch_aload_n 0 (some m) dX3_sweep_293 rfl (ch_aload_n 0 (some m) dX3_sweep_294 rfl (mp_gA 91 dX3_sweep_295 fl_X3_172 rfl (ch_iload 5 _ dX3_sweep_298 rfl (ch_iload 7 _ dX3_sweep_300 rfl (ch_iadd _ _ dX3_sweep_302 (mp_iald dX3_sweep_303 mk_91 h (fun v3 h => ?_)))))))
      obtain ⟨v4, hp5, h⟩ := ch_bd h
      refine ch_iv yX3_moved prog_14_method_78_code 2 (some .int) (ci := 3) (q := (RX3, TX3, 109)) (b := m) (d' := 2) (av := [.int v3]) (rest := [.int (x2 + x7), va_rf (ch_mr m fX3_words)]) rfl dX3_sweep_304 q2267 q2269 rfl qs188 q2270 can_X3_moved (Nat.le_of_ble_eq_true rfl) (ch_hw (Nat.le_of_ble_eq_true rfl)) ch_put_tag (cp_kI (v := v4) (w1 := ch_put m w σ) (fun Q' hq => s_X3_moved hp5 hq) ?_)
      exact ch_goto 320 dX3_sweep_307 rfl (ch_FT.wk (ch_wS (ch_wS (ch_wS (ch_wS (ch_wN (ch_wS (ch_wS (ch_wS ch_w0)))))))) (s_X3_sweep_320  h hk))
theorem sl_X3_sweep_265 {g : State} {m : Nat} {w : ch_W} {x1 : Int32} {x2 : Int32} {x3 : Int32} {x5 : Int32} {x6 : Int32} {a : Int32 × ch_S} {res : (Int32 × Int32 × ch_S) ⊕ (ch_S)} {Q : Outcome → ch_W → Prop} (h : ch_loop (fun (s : Int32 × ch_S) => m_X3_sweep_265 x1 x2 x3 x5 x6 s.1 s.2) a = some res) (hk : (ch_sm (fun s => ch_FT g false mX3_sweep 3 188 [some (va_rf (some m)), some (.int x1), some (.int s.1), some (.int s.2.1), none, none, none, none] [] (ch_put m w s.2.2) Q) (fun r => ch_eV Q (ch_put m w r))) res) : ch_FT g false mX3_sweep 3 265 [some (va_rf (some m)), some (.int x1), some (.int x2), some (.int x3), none, some (.int x5), some (.int x6), some (.int a.1)] [] (ch_put m w a.2) Q := by
  refine ch_loop_ind (fun (a : Int32 × ch_S) (r : (Int32 × Int32 × ch_S) ⊕ (ch_S)) => (ch_sm (fun s => ch_FT g false mX3_sweep 3 188 [some (va_rf (some m)), some (.int x1), some (.int s.1), some (.int s.2.1), none, none, none, none] [] (ch_put m w s.2.2) Q) (fun r => ch_eV Q (ch_put m w r))) r → ch_FT g false mX3_sweep 3 265 [some (va_rf (some m)), some (.int x1), some (.int x2), some (.int x3), none, some (.int x5), some (.int x6), some (.int a.1)] [] (ch_put m w a.2) Q) ?_ ?_ a res h hk
  · intro a a2 b h1 ih hk
    exact s_X3_sweep_265  h1 (ih hk)
  · intro a b h1 hk
    exact s_X3_sweep_265  h1 hk

def m_X3_sweep_188 (x1 : Int32) (x2 : Int32) (x3 : Int32)  (σ : ch_S) : Option ((Int32 × Int32 × ch_S) ⊕ (ch_S)) := if x3 < (σ.1 fX3_objects) then ((ch_ma σ fX3_isReached x3).bind fun v3 => if v3 = 0 then (some (.inl (x2, x3 + 1, σ))) else ((ch_ma σ fX3_newPlace x3).bind fun v4 => (ch_ma σ fX3_wordsFrom x3).bind fun v5 => (ch_ma σ fX3_wordsMany x3).bind fun v6 => (ch_ma σ fX3_classOfObject x3).bind fun v7 => (ch_mw σ fX3_classOfObject v4 v7).bind fun σ8 => (ch_mw σ8 fX3_wordsFrom v4 x2).bind fun σ9 => (ch_mw σ9 fX3_wordsMany v4 v6).bind fun σ10 => ch_loop (fun (s : Int32 × ch_S) => m_X3_sweep_265 x1 x2 x3 v5 v6 s.1 s.2) (0, σ10))) else ((ch_mI σ fX3_objects x1).bind fun σ1 => (ch_mI σ1 fX3_worded x2).bind fun σ2 => some (.inr (σ2)))
theorem s_X3_sweep_188 {g : State} {m : Nat} {w : ch_W} {x1 : Int32} {x2 : Int32} {x3 : Int32} {σ : ch_S} {res : (Int32 × Int32 × ch_S) ⊕ (ch_S)} {Q : Outcome → ch_W → Prop} (h : m_X3_sweep_188 x1 x2 x3 σ = some res) (hk : (ch_sm (fun s => ch_FT g false mX3_sweep 3 188 [some (va_rf (some m)), some (.int x1), some (.int s.1), some (.int s.2.1), none, none, none, none] [] (ch_put m w s.2.2) Q) (fun r => ch_eV Q (ch_put m w r))) res) : ch_FT g false mX3_sweep 3 188 [some (va_rf (some m)), some (.int x1), some (.int x2), some (.int x3), none, none, none, none] [] (ch_put m w σ) Q := by
  unfold m_X3_sweep_188 at h
  refine ch_iload_n 3 _ dX3_sweep_188 rfl (ch_aload_n 0 (some m) dX3_sweep_189 rfl (mp_gI 82 dX3_sweep_190 fl_X3_551 rfl (cp_icmp_ge _ _ (tgt := 357) dX3_sweep_193 rfl h (fun h => ?_) (fun h => ?_))))
  · refine ch_aload_n 0 (some m) dX3_sweep_357 rfl (ch_iload_n 1 _ dX3_sweep_358 rfl (mp_pI (k := 82) dX3_sweep_359 fl_X3_551 rfl rfl rfl h (fun σ1 h => ?_)))
    refine ch_aload_n 0 (some m) dX3_sweep_362 rfl (ch_iload_n 2 _ dX3_sweep_363 rfl (mp_pI (k := 90) dX3_sweep_364 fl_X3_566 rfl rfl rfl h (fun σ2 h => ?_)))
    obtain rfl := Option.some.inj h
    exact ch_return dX3_sweep_367 rfl hk
  · refine ch_aload_n 0 (some m) dX3_sweep_196 rfl (mp_gA 86 dX3_sweep_197 fl_X3_163 rfl (ch_iload_n 3 _ dX3_sweep_200 rfl (mp_zald dX3_sweep_201 mk_86 h (fun v3 h => ?_))))
    refine cp_if_ne _ (tgt := 208) dX3_sweep_202 rfl h (fun h => ?_) (fun h => ?_)
    · refine ch_aload_n 0 (some m) dX3_sweep_208 rfl (mp_gA 87 dX3_sweep_209 fl_X3_166 rfl (ch_iload_n 3 _ dX3_sweep_212 rfl (mp_iald dX3_sweep_213 mk_87 h (fun v4 h => ?_))))
      refine ch_istore 4 _ (ls1 := [some (va_rf (some m)), some (.int x1), some (.int x2), some (.int x3), some (.int v4), none, none, none]) dX3_sweep_214 (Nat.le_of_ble_eq_true rfl) rfl (ch_aload_n 0 (some m) dX3_sweep_216 rfl (mp_gA 84 dX3_sweep_217 fl_X3_157 rfl (ch_iload_n 3 _ dX3_sweep_220 rfl (mp_iald dX3_sweep_221 mk_84 h (fun v5 h => ?_)))))
      refine ch_istore 5 _ (ls1 := [some (va_rf (some m)), some (.int x1), some (.int x2), some (.int x3), some (.int v4), some (.int v5), none, none]) dX3_sweep_222 (Nat.le_of_ble_eq_true rfl) rfl (ch_aload_n 0 (some m) dX3_sweep_224 rfl (mp_gA 85 dX3_sweep_225 fl_X3_160 rfl (ch_iload_n 3 _ dX3_sweep_228 rfl (mp_iald dX3_sweep_229 mk_85 h (fun v6 h => ?_)))))
      refine ch_istore 6 _ (ls1 := [some (va_rf (some m)), some (.int x1), some (.int x2), some (.int x3), some (.int v4), some (.int v5), some (.int v6), none]) dX3_sweep_230 (Nat.le_of_ble_eq_true rfl) rfl (ch_aload_n 0 (some m) dX3_sweep_232 rfl (mp_gA 83 dX3_sweep_233 fl_X3_154 rfl (ch_iload 4 _ dX3_sweep_236 rfl (ch_aload_n 0 (some m) dX3_sweep_238 rfl (mp_gA 83 dX3_sweep_239 fl_X3_154 rfl (ch_iload_n 3 _ dX3_sweep_242 rfl (mp_iald dX3_sweep_243 mk_83 h (fun v7 h => ?_))))))))
      refine mp_iast dX3_sweep_244 mk_83 rfl h (fun σ8 h => ?_)
      refine ch_aload_n 0 (some m) dX3_sweep_245 rfl (mp_gA 84 dX3_sweep_246 fl_X3_157 rfl (ch_iload 4 _ dX3_sweep_249 rfl (ch_iload_n 2 _ dX3_sweep_251 rfl (mp_iast dX3_sweep_252 mk_84 rfl h (fun σ9 h => ?_)))))
      refine ch_aload_n 0 (some m) dX3_sweep_253 rfl (mp_gA 85 dX3_sweep_254 fl_X3_160 rfl (ch_iload 4 _ dX3_sweep_257 rfl (ch_iload 6 _ dX3_sweep_259 rfl (mp_iast dX3_sweep_261 mk_85 rfl h (fun σ10 h => ?_)))))
      exact ch_iconst _ 0 dX3_sweep_262 rfl (ch_istore 7 _ (ls1 := [some (va_rf (some m)), some (.int x1), some (.int x2), some (.int x3), some (.int v4), some (.int v5), some (.int v6), some (.int 0)]) dX3_sweep_263 (Nat.le_of_ble_eq_true rfl) rfl (ch_FT.wk (ch_wS (ch_wS (ch_wS (ch_wS (ch_wN (ch_wS (ch_wS (ch_wS ch_w0)))))))) (sl_X3_sweep_265  h hk)))
    · refine ch_goto 351 dX3_sweep_205 rfl (ch_iinc 3 _ _ (x3 + 1) (ls1 := [some (va_rf (some m)), some (.int x1), some (.int x2), some (.int (x3 + 1)), none, none, none, none]) dX3_sweep_351 rfl rfl (Nat.le_of_ble_eq_true rfl) rfl (ch_goto 188 dX3_sweep_354 rfl (ch_FT.wk (ch_wS (ch_wS (ch_wS (ch_wS (ch_wN (ch_wN (ch_wN (ch_wN ch_w0)))))))) ?_)))
      obtain rfl := Option.some.inj h
      exact hk
theorem sl_X3_sweep_188 {g : State} {m : Nat} {w : ch_W} {x1 : Int32} {a : Int32 × Int32 × ch_S} {res : ch_S} {Q : Outcome → ch_W → Prop} (h : ch_loop (fun (s : Int32 × Int32 × ch_S) => m_X3_sweep_188 x1 s.1 s.2.1 s.2.2) a = some res) (hk : (fun r => ch_eV Q (ch_put m w r)) res) : ch_FT g false mX3_sweep 3 188 [some (va_rf (some m)), some (.int x1), some (.int a.1), some (.int a.2.1), none, none, none, none] [] (ch_put m w a.2.2) Q := by
  refine ch_loop_ind (fun (a : Int32 × Int32 × ch_S) (r : ch_S) => (fun r => ch_eV Q (ch_put m w r)) r → ch_FT g false mX3_sweep 3 188 [some (va_rf (some m)), some (.int x1), some (.int a.1), some (.int a.2.1), none, none, none, none] [] (ch_put m w a.2.2) Q) ?_ ?_ a res h hk
  · intro a a2 b h1 ih hk
    exact s_X3_sweep_188  h1 (ih hk)
  · intro a b h1 hk
    exact s_X3_sweep_188  h1 hk

def m_X3_sweep_145 (x1 : Int32) (x2 : Int32)  (σ : ch_S) : Option ((Int32 × ch_S) ⊕ (ch_S)) := if x2 < (σ.1 fX3_piled) then ((ch_ma σ fX3_isPileObject x2).bind fun v1 => if v1 = 0 then (some (.inl (x2 + 1, σ))) else ((ch_ma σ fX3_pile x2).bind fun v2 => (m_X3_moved v2 σ).bind fun v3 => (ch_mw σ fX3_pile x2 v3).bind fun σ5 => some (.inl (x2 + 1, σ5)))) else ((ch_loop (fun (s : Int32 × Int32 × ch_S) => m_X3_sweep_188 x1 s.1 s.2.1 s.2.2) (0, 5, σ)).bind fun r => some (.inr (r)))
theorem s_X3_sweep_145 {g : State} {m : Nat} {w : ch_W} {x1 : Int32} {x2 : Int32} {σ : ch_S} {res : (Int32 × ch_S) ⊕ (ch_S)} {Q : Outcome → ch_W → Prop} (h : m_X3_sweep_145 x1 x2 σ = some res) (hk : (ch_sm (fun s => ch_FT g false mX3_sweep 3 145 [some (va_rf (some m)), some (.int x1), some (.int s.1), none, none, none, none, none] [] (ch_put m w s.2) Q) (fun r => ch_eV Q (ch_put m w r))) res) : ch_FT g false mX3_sweep 3 145 [some (va_rf (some m)), some (.int x1), some (.int x2), none, none, none, none, none] [] (ch_put m w σ) Q := by
  unfold m_X3_sweep_145 at h
  refine ch_iload_n 2 _ dX3_sweep_145 rfl (ch_aload_n 0 (some m) dX3_sweep_146 rfl (mp_gI 100 dX3_sweep_147 fl_X3_560 rfl (cp_icmp_ge _ _ (tgt := 184) dX3_sweep_150 rfl h (fun h => ?_) (fun h => ?_))))
  · obtain ⟨r, hr, h⟩ := ch_bd h
    obtain rfl := Option.some.inj h
    exact ch_iconst _ 0 dX3_sweep_184 rfl (ch_istore_n 2 _ (ls1 := [some (va_rf (some m)), some (.int x1), some (.int 0), none, none, none, none, none]) dX3_sweep_185 (Nat.le_of_ble_eq_true rfl) rfl (ch_iconst _ 5 dX3_sweep_186 rfl (ch_istore_n 3 _ (ls1 := [some (va_rf (some m)), some (.int x1), some (.int 0), some (.int 5), none, none, none, none]) dX3_sweep_187 (Nat.le_of_ble_eq_true rfl) rfl (ch_FT.wk (ch_wS (ch_wS (ch_wS (ch_wS (ch_wN (ch_wN (ch_wN (ch_wN ch_w0)))))))) (sl_X3_sweep_188  hr hk)))))
  · refine ch_aload_n 0 (some m) dX3_sweep_153 rfl (mp_gA 102 dX3_sweep_154 fl_X3_201 rfl (ch_iload_n 2 _ dX3_sweep_157 rfl (mp_zald dX3_sweep_158 mk_102 h (fun v1 h => ?_))))
    refine cp_if_eq _ (tgt := 178) dX3_sweep_159 rfl h (fun h => ?_) (fun h => ?_)
    · refine ch_iinc 2 _ _ (x2 + 1) (ls1 := [some (va_rf (some m)), some (.int x1), some (.int (x2 + 1)), none, none, none, none, none]) dX3_sweep_178 rfl rfl (Nat.le_of_ble_eq_true rfl) rfl (ch_goto 145 dX3_sweep_181 rfl (ch_FT.wk (ch_wS (ch_wS (ch_wS (ch_wN (ch_wN (ch_wN (ch_wN (ch_wN ch_w0)))))))) ?_))
      obtain rfl := Option.some.inj h
      exact hk
    · refine ch_aload_n 0 (some m) dX3_sweep_162 rfl (mp_gA 101 dX3_sweep_163 fl_X3_198 rfl (ch_iload_n 2 _ dX3_sweep_166 rfl (ch_aload_n 0 (some m) dX3_sweep_167 rfl (ch_aload_n 0 (some m) dX3_sweep_168 rfl (mp_gA 101 dX3_sweep_169 fl_X3_198 rfl (ch_iload_n 2 _ dX3_sweep_172 rfl (mp_iald dX3_sweep_173 mk_101 h (fun v2 h => ?_))))))))
      obtain ⟨v3, hp4, h⟩ := ch_bd h
      refine ch_iv yX3_moved prog_14_method_78_code 2 (some .int) (ci := 3) (q := (RX3, TX3, 109)) (b := m) (d' := 2) (av := [.int v2]) (rest := [.int x2, va_rf (ch_mr m fX3_pile)]) rfl dX3_sweep_174 q2267 q2269 rfl qs188 q2270 can_X3_moved (Nat.le_of_ble_eq_true rfl) (ch_hw (Nat.le_of_ble_eq_true rfl)) ch_put_tag (cp_kI (v := v3) (w1 := ch_put m w σ) (fun Q' hq => s_X3_moved hp4 hq) ?_)
      refine mp_iast dX3_sweep_177 mk_101 rfl h (fun σ5 h => ?_)
      refine ch_iinc 2 _ _ (x2 + 1) (ls1 := [some (va_rf (some m)), some (.int x1), some (.int (x2 + 1)), none, none, none, none, none]) dX3_sweep_178 rfl rfl (Nat.le_of_ble_eq_true rfl) rfl (ch_goto 145 dX3_sweep_181 rfl (ch_FT.wk (ch_wS (ch_wS (ch_wS (ch_wN (ch_wN (ch_wN (ch_wN (ch_wN ch_w0)))))))) ?_))
      obtain rfl := Option.some.inj h
      exact hk
theorem sl_X3_sweep_145 {g : State} {m : Nat} {w : ch_W} {x1 : Int32} {a : Int32 × ch_S} {res : ch_S} {Q : Outcome → ch_W → Prop} (h : ch_loop (fun (s : Int32 × ch_S) => m_X3_sweep_145 x1 s.1 s.2) a = some res) (hk : (fun r => ch_eV Q (ch_put m w r)) res) : ch_FT g false mX3_sweep 3 145 [some (va_rf (some m)), some (.int x1), some (.int a.1), none, none, none, none, none] [] (ch_put m w a.2) Q := by
  refine ch_loop_ind (fun (a : Int32 × ch_S) (r : ch_S) => (fun r => ch_eV Q (ch_put m w r)) r → ch_FT g false mX3_sweep 3 145 [some (va_rf (some m)), some (.int x1), some (.int a.1), none, none, none, none, none] [] (ch_put m w a.2) Q) ?_ ?_ a res h hk
  · intro a a2 b h1 ih hk
    exact s_X3_sweep_145  h1 (ih hk)
  · intro a b h1 hk
    exact s_X3_sweep_145  h1 hk

def m_X3_sweep_89 (x1 : Int32) (x2 : Int32) (x3 : Int32)  (σ : ch_S) : Option ((Int32 × ch_S) ⊕ ((Int32 × ch_S) ⊕ (ch_S))) := (ch_ma σ fX3_openFrom x2).bind fun v1 => (ch_ma σ fX3_openMany x2).bind fun v2 => if x3 < (v1 + v2) then ((ch_ma σ fX3_isLocalObject x3).bind fun v3 => if v3 = 0 then (some (.inl (x3 + 1, σ))) else ((ch_ma σ fX3_local x3).bind fun v4 => (m_X3_moved v4 σ).bind fun v5 => (ch_mw σ fX3_local x3 v5).bind fun σ7 => some (.inl (x3 + 1, σ7)))) else (some (.inr (.inl (x2 + 1, σ))))
theorem s_X3_sweep_89 {g : State} {m : Nat} {w : ch_W} {x1 : Int32} {x2 : Int32} {x3 : Int32} {σ : ch_S} {res : (Int32 × ch_S) ⊕ ((Int32 × ch_S) ⊕ (ch_S))} {Q : Outcome → ch_W → Prop} (h : m_X3_sweep_89 x1 x2 x3 σ = some res) (hk : (ch_sm (fun s => ch_FT g false mX3_sweep 3 89 [some (va_rf (some m)), some (.int x1), some (.int x2), some (.int s.1), none, none, none, none] [] (ch_put m w s.2) Q) (ch_sm (fun s => ch_FT g false mX3_sweep 3 58 [some (va_rf (some m)), some (.int x1), some (.int s.1), none, none, none, none, none] [] (ch_put m w s.2) Q) (fun r => ch_eV Q (ch_put m w r)))) res) : ch_FT g false mX3_sweep 3 89 [some (va_rf (some m)), some (.int x1), some (.int x2), some (.int x3), none, none, none, none] [] (ch_put m w σ) Q := by
  unfold m_X3_sweep_89 at h
  refine ch_iload_n 3 _ dX3_sweep_89 rfl (ch_aload_n 0 (some m) dX3_sweep_90 rfl (mp_gA 95 dX3_sweep_91 fl_X3_181 rfl (ch_iload_n 2 _ dX3_sweep_94 rfl (mp_iald dX3_sweep_95 mk_95 h (fun v1 h => ?_)))))
  refine ch_aload_n 0 (some m) dX3_sweep_96 rfl (mp_gA 96 dX3_sweep_97 fl_X3_184 rfl (ch_iload_n 2 _ dX3_sweep_100 rfl (mp_iald dX3_sweep_101 mk_96 h (fun v2 h => ?_))))
  refine ch_iadd _ _ dX3_sweep_102 (cp_icmp_ge _ _ (tgt := 137) dX3_sweep_103 rfl h (fun h => ?_) (fun h => ?_))
  · refine ch_iinc 2 _ _ (x2 + 1) (ls1 := [some (va_rf (some m)), some (.int x1), some (.int (x2 + 1)), some (.int x3), none, none, none, none]) dX3_sweep_137 rfl rfl (Nat.le_of_ble_eq_true rfl) rfl (ch_goto 58 dX3_sweep_140 rfl (ch_FT.wk (ch_wS (ch_wS (ch_wS (ch_wN (ch_wN (ch_wN (ch_wN (ch_wN ch_w0)))))))) ?_))
    obtain rfl := Option.some.inj h
    exact hk
  · refine ch_aload_n 0 (some m) dX3_sweep_106 rfl (mp_gA 99 dX3_sweep_107 fl_X3_194 rfl (ch_iload_n 3 _ dX3_sweep_110 rfl (mp_zald dX3_sweep_111 mk_99 h (fun v3 h => ?_))))
    refine cp_if_eq _ (tgt := 131) dX3_sweep_112 rfl h (fun h => ?_) (fun h => ?_)
    · refine ch_iinc 3 _ _ (x3 + 1) (ls1 := [some (va_rf (some m)), some (.int x1), some (.int x2), some (.int (x3 + 1)), none, none, none, none]) dX3_sweep_131 rfl rfl (Nat.le_of_ble_eq_true rfl) rfl (ch_goto 89 dX3_sweep_134 rfl (ch_FT.wk (ch_wS (ch_wS (ch_wS (ch_wS (ch_wN (ch_wN (ch_wN (ch_wN ch_w0)))))))) ?_))
      obtain rfl := Option.some.inj h
      exact hk
    · refine ch_aload_n 0 (some m) dX3_sweep_115 rfl (mp_gA 98 dX3_sweep_116 fl_X3_191 rfl (ch_iload_n 3 _ dX3_sweep_119 rfl (ch_aload_n 0 (some m) dX3_sweep_120 rfl (ch_aload_n 0 (some m) dX3_sweep_121 rfl (mp_gA 98 dX3_sweep_122 fl_X3_191 rfl (ch_iload_n 3 _ dX3_sweep_125 rfl (mp_iald dX3_sweep_126 mk_98 h (fun v4 h => ?_))))))))
      obtain ⟨v5, hp6, h⟩ := ch_bd h
      refine ch_iv yX3_moved prog_14_method_78_code 2 (some .int) (ci := 3) (q := (RX3, TX3, 109)) (b := m) (d' := 2) (av := [.int v4]) (rest := [.int x3, va_rf (ch_mr m fX3_local)]) rfl dX3_sweep_127 q2267 q2269 rfl qs188 q2270 can_X3_moved (Nat.le_of_ble_eq_true rfl) (ch_hw (Nat.le_of_ble_eq_true rfl)) ch_put_tag (cp_kI (v := v5) (w1 := ch_put m w σ) (fun Q' hq => s_X3_moved hp6 hq) ?_)
      refine mp_iast dX3_sweep_130 mk_98 rfl h (fun σ7 h => ?_)
      refine ch_iinc 3 _ _ (x3 + 1) (ls1 := [some (va_rf (some m)), some (.int x1), some (.int x2), some (.int (x3 + 1)), none, none, none, none]) dX3_sweep_131 rfl rfl (Nat.le_of_ble_eq_true rfl) rfl (ch_goto 89 dX3_sweep_134 rfl (ch_FT.wk (ch_wS (ch_wS (ch_wS (ch_wS (ch_wN (ch_wN (ch_wN (ch_wN ch_w0)))))))) ?_))
      obtain rfl := Option.some.inj h
      exact hk
theorem sl_X3_sweep_89 {g : State} {m : Nat} {w : ch_W} {x1 : Int32} {x2 : Int32} {a : Int32 × ch_S} {res : (Int32 × ch_S) ⊕ (ch_S)} {Q : Outcome → ch_W → Prop} (h : ch_loop (fun (s : Int32 × ch_S) => m_X3_sweep_89 x1 x2 s.1 s.2) a = some res) (hk : (ch_sm (fun s => ch_FT g false mX3_sweep 3 58 [some (va_rf (some m)), some (.int x1), some (.int s.1), none, none, none, none, none] [] (ch_put m w s.2) Q) (fun r => ch_eV Q (ch_put m w r))) res) : ch_FT g false mX3_sweep 3 89 [some (va_rf (some m)), some (.int x1), some (.int x2), some (.int a.1), none, none, none, none] [] (ch_put m w a.2) Q := by
  refine ch_loop_ind (fun (a : Int32 × ch_S) (r : (Int32 × ch_S) ⊕ (ch_S)) => (ch_sm (fun s => ch_FT g false mX3_sweep 3 58 [some (va_rf (some m)), some (.int x1), some (.int s.1), none, none, none, none, none] [] (ch_put m w s.2) Q) (fun r => ch_eV Q (ch_put m w r))) r → ch_FT g false mX3_sweep 3 89 [some (va_rf (some m)), some (.int x1), some (.int x2), some (.int a.1), none, none, none, none] [] (ch_put m w a.2) Q) ?_ ?_ a res h hk
  · intro a a2 b h1 ih hk
    exact s_X3_sweep_89  h1 (ih hk)
  · intro a b h1 hk
    exact s_X3_sweep_89  h1 hk

def m_X3_sweep_58 (x1 : Int32) (x2 : Int32)  (σ : ch_S) : Option ((Int32 × ch_S) ⊕ (ch_S)) := if x2 < (σ.1 fX3_open) then ((ch_ma σ fX3_openThis x2).bind fun v1 => (m_X3_moved v1 σ).bind fun v2 => (ch_mw σ fX3_openThis x2 v2).bind fun σ4 => (ch_ma σ4 fX3_openFrom x2).bind fun v5 => ch_loop (fun (s : Int32 × ch_S) => m_X3_sweep_89 x1 x2 s.1 s.2) (v5, σ4)) else ((ch_loop (fun (s : Int32 × ch_S) => m_X3_sweep_145 x1 s.1 s.2) (0, σ)).bind fun r => some (.inr (r)))
theorem s_X3_sweep_58 {g : State} {m : Nat} {w : ch_W} {x1 : Int32} {x2 : Int32} {σ : ch_S} {res : (Int32 × ch_S) ⊕ (ch_S)} {Q : Outcome → ch_W → Prop} (h : m_X3_sweep_58 x1 x2 σ = some res) (hk : (ch_sm (fun s => ch_FT g false mX3_sweep 3 58 [some (va_rf (some m)), some (.int x1), some (.int s.1), none, none, none, none, none] [] (ch_put m w s.2) Q) (fun r => ch_eV Q (ch_put m w r))) res) : ch_FT g false mX3_sweep 3 58 [some (va_rf (some m)), some (.int x1), some (.int x2), none, none, none, none, none] [] (ch_put m w σ) Q := by
  unfold m_X3_sweep_58 at h
  refine ch_iload_n 2 _ dX3_sweep_58 rfl (ch_aload_n 0 (some m) dX3_sweep_59 rfl (mp_gI 93 dX3_sweep_60 fl_X3_554 rfl (cp_icmp_ge _ _ (tgt := 143) dX3_sweep_63 rfl h (fun h => ?_) (fun h => ?_))))
  · obtain ⟨r, hr, h⟩ := ch_bd h
    obtain rfl := Option.some.inj h
    exact ch_iconst _ 0 dX3_sweep_143 rfl (ch_istore_n 2 _ (ls1 := [some (va_rf (some m)), some (.int x1), some (.int 0), none, none, none, none, none]) dX3_sweep_144 (Nat.le_of_ble_eq_true rfl) rfl (ch_FT.wk (ch_wS (ch_wS (ch_wS (ch_wN (ch_wN (ch_wN (ch_wN (ch_wN ch_w0)))))))) (sl_X3_sweep_145  hr hk)))
  · refine ch_aload_n 0 (some m) dX3_sweep_66 rfl (mp_gA 94 dX3_sweep_67 fl_X3_178 rfl (ch_iload_n 2 _ dX3_sweep_70 rfl (ch_aload_n 0 (some m) dX3_sweep_71 rfl (ch_aload_n 0 (some m) dX3_sweep_72 rfl (mp_gA 94 dX3_sweep_73 fl_X3_178 rfl (ch_iload_n 2 _ dX3_sweep_76 rfl (mp_iald dX3_sweep_77 mk_94 h (fun v1 h => ?_))))))))
    obtain ⟨v2, hp3, h⟩ := ch_bd h
    refine ch_iv yX3_moved prog_14_method_78_code 2 (some .int) (ci := 3) (q := (RX3, TX3, 109)) (b := m) (d' := 2) (av := [.int v1]) (rest := [.int x2, va_rf (ch_mr m fX3_openThis)]) rfl dX3_sweep_78 q2267 q2269 rfl qs188 q2270 can_X3_moved (Nat.le_of_ble_eq_true rfl) (ch_hw (Nat.le_of_ble_eq_true rfl)) ch_put_tag (cp_kI (v := v2) (w1 := ch_put m w σ) (fun Q' hq => s_X3_moved hp3 hq) ?_)
    refine mp_iast dX3_sweep_81 mk_94 rfl h (fun σ4 h => ?_)
    refine ch_aload_n 0 (some m) dX3_sweep_82 rfl (mp_gA 95 dX3_sweep_83 fl_X3_181 rfl (ch_iload_n 2 _ dX3_sweep_86 rfl (mp_iald dX3_sweep_87 mk_95 h (fun v5 h => ?_))))
    exact ch_istore_n 3 _ (ls1 := [some (va_rf (some m)), some (.int x1), some (.int x2), some (.int v5), none, none, none, none]) dX3_sweep_88 (Nat.le_of_ble_eq_true rfl) rfl (ch_FT.wk (ch_wS (ch_wS (ch_wS (ch_wS (ch_wN (ch_wN (ch_wN (ch_wN ch_w0)))))))) (sl_X3_sweep_89  h hk))
theorem sl_X3_sweep_58 {g : State} {m : Nat} {w : ch_W} {x1 : Int32} {a : Int32 × ch_S} {res : ch_S} {Q : Outcome → ch_W → Prop} (h : ch_loop (fun (s : Int32 × ch_S) => m_X3_sweep_58 x1 s.1 s.2) a = some res) (hk : (fun r => ch_eV Q (ch_put m w r)) res) : ch_FT g false mX3_sweep 3 58 [some (va_rf (some m)), some (.int x1), some (.int a.1), none, none, none, none, none] [] (ch_put m w a.2) Q := by
  refine ch_loop_ind (fun (a : Int32 × ch_S) (r : ch_S) => (fun r => ch_eV Q (ch_put m w r)) r → ch_FT g false mX3_sweep 3 58 [some (va_rf (some m)), some (.int x1), some (.int a.1), none, none, none, none, none] [] (ch_put m w a.2) Q) ?_ ?_ a res h hk
  · intro a a2 b h1 ih hk
    exact s_X3_sweep_58  h1 (ih hk)
  · intro a b h1 hk
    exact s_X3_sweep_58  h1 hk

def m_X3_sweep_27 (x1 : Int32) (x2 : Int32) (y0 : Int32) (y1 : Int32) (σ : ch_S) : Option ((Int32 × Int32 × ch_S) ⊕ (ch_S)) := (ch_mw σ fX3_newPlace y1 y0).bind fun σ1 => if x2 < 5 then (some (.inl (x1 + 0, x2 + 1, σ1))) else ((ch_ma σ1 fX3_isReached x2).bind fun v2 => if v2 = 0 then (some (.inl (x1 + 0, x2 + 1, σ1))) else (some (.inl (x1 + 1, x2 + 1, σ1))))
theorem s_X3_sweep_27 {g : State} {m : Nat} {w : ch_W} {x1 : Int32} {x2 : Int32} {y0 : Int32} {y1 : Int32} {σ : ch_S} {res : (Int32 × Int32 × ch_S) ⊕ (ch_S)} {Q : Outcome → ch_W → Prop} (h : m_X3_sweep_27 x1 x2 y0 y1 σ = some res) (hk : (ch_sm (fun s => ch_FT g false mX3_sweep 3 4 [some (va_rf (some m)), some (.int s.1), some (.int s.2.1), none, none, none, none, none] [] (ch_put m w s.2.2) Q) (fun r => ch_eV Q (ch_put m w r))) res) : ch_FT g false mX3_sweep 3 27 [some (va_rf (some m)), some (.int x1), some (.int x2), none, none, none, none, none] [.int y0, .int y1, va_rf (ch_mr m fX3_newPlace)] (ch_put m w σ) Q := by
  unfold m_X3_sweep_27 at h
  refine mp_iast dX3_sweep_27 mk_87 rfl h (fun σ1 h => ?_)
  refine ch_iload_n 1 _ dX3_sweep_28 rfl (ch_iload_n 2 _ dX3_sweep_29 rfl (ch_iconst _ 5 dX3_sweep_30 rfl (cp_icmp_lt _ _ (tgt := 47) dX3_sweep_31 rfl h (fun h => ?_) (fun h => ?_))))
  · refine ch_iconst _ 0 dX3_sweep_47 rfl (ch_iadd _ _ dX3_sweep_48 (ch_istore_n 1 _ (ls1 := [some (va_rf (some m)), some (.int (x1 + 0)), some (.int x2), none, none, none, none, none]) dX3_sweep_49 (Nat.le_of_ble_eq_true rfl) rfl (ch_iinc 2 _ _ (x2 + 1) (ls1 := [some (va_rf (some m)), some (.int (x1 + 0)), some (.int (x2 + 1)), none, none, none, none, none]) dX3_sweep_50 rfl rfl (Nat.le_of_ble_eq_true rfl) rfl (ch_goto 4 dX3_sweep_53 rfl (ch_FT.wk (ch_wS (ch_wS (ch_wS (ch_wN (ch_wN (ch_wN (ch_wN (ch_wN ch_w0)))))))) ?_)))))
    obtain rfl := Option.some.inj h
    exact hk
  · refine ch_aload_n 0 (some m) dX3_sweep_34 rfl (mp_gA 86 dX3_sweep_35 fl_X3_163 rfl (ch_iload_n 2 _ dX3_sweep_38 rfl (mp_zald dX3_sweep_39 mk_86 h (fun v2 h => ?_))))
    refine cp_if_eq _ (tgt := 47) dX3_sweep_40 rfl h (fun h => ?_) (fun h => ?_)
    · refine ch_iconst _ 0 dX3_sweep_47 rfl (ch_iadd _ _ dX3_sweep_48 (ch_istore_n 1 _ (ls1 := [some (va_rf (some m)), some (.int (x1 + 0)), some (.int x2), none, none, none, none, none]) dX3_sweep_49 (Nat.le_of_ble_eq_true rfl) rfl (ch_iinc 2 _ _ (x2 + 1) (ls1 := [some (va_rf (some m)), some (.int (x1 + 0)), some (.int (x2 + 1)), none, none, none, none, none]) dX3_sweep_50 rfl rfl (Nat.le_of_ble_eq_true rfl) rfl (ch_goto 4 dX3_sweep_53 rfl (ch_FT.wk (ch_wS (ch_wS (ch_wS (ch_wN (ch_wN (ch_wN (ch_wN (ch_wN ch_w0)))))))) ?_)))))
      obtain rfl := Option.some.inj h
      exact hk
    · refine ch_iconst _ 1 dX3_sweep_43 rfl (ch_goto 48 dX3_sweep_44 rfl (ch_iadd _ _ dX3_sweep_48 (ch_istore_n 1 _ (ls1 := [some (va_rf (some m)), some (.int (x1 + 1)), some (.int x2), none, none, none, none, none]) dX3_sweep_49 (Nat.le_of_ble_eq_true rfl) rfl (ch_iinc 2 _ _ (x2 + 1) (ls1 := [some (va_rf (some m)), some (.int (x1 + 1)), some (.int (x2 + 1)), none, none, none, none, none]) dX3_sweep_50 rfl rfl (Nat.le_of_ble_eq_true rfl) rfl (ch_goto 4 dX3_sweep_53 rfl (ch_FT.wk (ch_wS (ch_wS (ch_wS (ch_wN (ch_wN (ch_wN (ch_wN (ch_wN ch_w0)))))))) ?_))))))
      obtain rfl := Option.some.inj h
      exact hk

def m_X3_sweep_4 (x1 : Int32) (x2 : Int32)  (σ : ch_S) : Option ((Int32 × Int32 × ch_S) ⊕ (ch_S)) := if x2 < (σ.1 fX3_objects) then (if x2 < 5 then (m_X3_sweep_27 x1 x2 x2 x2 σ) else (m_X3_sweep_27 x1 x2 x1 x2 σ)) else ((ch_loop (fun (s : Int32 × ch_S) => m_X3_sweep_58 x1 s.1 s.2) (0, σ)).bind fun r => some (.inr (r)))
theorem s_X3_sweep_4 {g : State} {m : Nat} {w : ch_W} {x1 : Int32} {x2 : Int32} {σ : ch_S} {res : (Int32 × Int32 × ch_S) ⊕ (ch_S)} {Q : Outcome → ch_W → Prop} (h : m_X3_sweep_4 x1 x2 σ = some res) (hk : (ch_sm (fun s => ch_FT g false mX3_sweep 3 4 [some (va_rf (some m)), some (.int s.1), some (.int s.2.1), none, none, none, none, none] [] (ch_put m w s.2.2) Q) (fun r => ch_eV Q (ch_put m w r))) res) : ch_FT g false mX3_sweep 3 4 [some (va_rf (some m)), some (.int x1), some (.int x2), none, none, none, none, none] [] (ch_put m w σ) Q := by
  unfold m_X3_sweep_4 at h
  refine ch_iload_n 2 _ dX3_sweep_4 rfl (ch_aload_n 0 (some m) dX3_sweep_5 rfl (mp_gI 82 dX3_sweep_6 fl_X3_551 rfl (cp_icmp_ge _ _ (tgt := 56) dX3_sweep_9 rfl h (fun h => ?_) (fun h => ?_))))
  · obtain ⟨r, hr, h⟩ := ch_bd h
    obtain rfl := Option.some.inj h
    exact ch_iconst _ 0 dX3_sweep_56 rfl (ch_istore_n 2 _ (ls1 := [some (va_rf (some m)), some (.int x1), some (.int 0), none, none, none, none, none]) dX3_sweep_57 (Nat.le_of_ble_eq_true rfl) rfl (ch_FT.wk (ch_wS (ch_wS (ch_wS (ch_wN (ch_wN (ch_wN (ch_wN (ch_wN ch_w0)))))))) (sl_X3_sweep_58  hr hk)))
  · refine ch_aload_n 0 (some m) dX3_sweep_12 rfl (mp_gA 87 dX3_sweep_13 fl_X3_166 rfl (ch_iload_n 2 _ dX3_sweep_16 rfl (ch_iload_n 2 _ dX3_sweep_17 rfl (ch_iconst _ 5 dX3_sweep_18 rfl (cp_icmp_ge _ _ (tgt := 26) dX3_sweep_19 rfl h (fun h => ?_) (fun h => ?_))))))
    · exact ch_iload_n 1 _ dX3_sweep_26 rfl (ch_FT.wk (ch_wS (ch_wS (ch_wS (ch_wN (ch_wN (ch_wN (ch_wN (ch_wN ch_w0)))))))) (s_X3_sweep_27  h hk))
    · exact ch_iload_n 2 _ dX3_sweep_22 rfl (ch_goto 27 dX3_sweep_23 rfl (ch_FT.wk (ch_wS (ch_wS (ch_wS (ch_wN (ch_wN (ch_wN (ch_wN (ch_wN ch_w0)))))))) (s_X3_sweep_27  h hk)))
theorem sl_X3_sweep_4 {g : State} {m : Nat} {w : ch_W} {a : Int32 × Int32 × ch_S} {res : ch_S} {Q : Outcome → ch_W → Prop} (h : ch_loop (fun (s : Int32 × Int32 × ch_S) => m_X3_sweep_4 s.1 s.2.1 s.2.2) a = some res) (hk : (fun r => ch_eV Q (ch_put m w r)) res) : ch_FT g false mX3_sweep 3 4 [some (va_rf (some m)), some (.int a.1), some (.int a.2.1), none, none, none, none, none] [] (ch_put m w a.2.2) Q := by
  refine ch_loop_ind (fun (a : Int32 × Int32 × ch_S) (r : ch_S) => (fun r => ch_eV Q (ch_put m w r)) r → ch_FT g false mX3_sweep 3 4 [some (va_rf (some m)), some (.int a.1), some (.int a.2.1), none, none, none, none, none] [] (ch_put m w a.2.2) Q) ?_ ?_ a res h hk
  · intro a a2 b h1 ih hk
    exact s_X3_sweep_4  h1 (ih hk)
  · intro a b h1 hk
    exact s_X3_sweep_4  h1 hk

def m_X3_sweep  (σ : ch_S) : Option (ch_S) := ch_loop (fun (s : Int32 × Int32 × ch_S) => m_X3_sweep_4 s.1 s.2.1 s.2.2) (5, 0, σ)
theorem s_X3_sweep {g : State} {m : Nat} {w : ch_W} {σ : ch_S} {res : ch_S} {Q : Outcome → ch_W → Prop} (h : m_X3_sweep  σ = some res) (hk : (fun r => ch_eV Q (ch_put m w r)) res) : ch_CT g false yX3_sweep 3 [.ref m] (ch_put m w σ) Q := by
  unfold m_X3_sweep at h
  refine ch_ctL mX3_sweep (ls := [some (va_rf (some m)), none, none, none, none, none, none, none]) q2266 rfl (ch_lyr (r := some m) ch_ly0) (Nat.le_of_ble_eq_true rfl) rfl ?_
  exact ch_iconst _ 5 dX3_sweep_0 rfl (ch_istore_n 1 _ (ls1 := [some (va_rf (some m)), some (.int 5), none, none, none, none, none, none]) dX3_sweep_1 (Nat.le_of_ble_eq_true rfl) rfl (ch_iconst _ 0 dX3_sweep_2 rfl (ch_istore_n 2 _ (ls1 := [some (va_rf (some m)), some (.int 5), some (.int 0), none, none, none, none, none]) dX3_sweep_3 (Nat.le_of_ble_eq_true rfl) rfl (ch_FT.wk (ch_wS (ch_wS (ch_wS (ch_wN (ch_wN (ch_wN (ch_wN (ch_wN ch_w0)))))))) (sl_X3_sweep_4  h hk)))))

