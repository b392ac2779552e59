/-! printed by tools/dec.py -/
set_option maxRecDepth 100000
def cr_MB : Nat → Nat → ch_S → Option (Int32 × ch_S)
  | 0 => fun _ _ => none
  | d + 1 => fun k  σ => if k = 0 then m_X3_block (cr_MB d) σ else m_X3_statement (cr_MB d) σ
theorem sr_MB {g : State} {m : Nat} {w : ch_W} : ∀ d : Nat, (∀ {σ : ch_S} {p : Int32 × ch_S} {Q : Outcome → ch_W → Prop}, cr_MB d 0  σ = some p → ch_eI Q (p.1, ch_put m w p.2) → ch_CT g false yX3_block (d + 459) [.ref m] (ch_put m w σ) Q) ∧ (∀ {σ : ch_S} {p : Int32 × ch_S} {Q : Outcome → ch_W → Prop}, cr_MB d 1  σ = some p → ch_eI Q (p.1, ch_put m w p.2) → ch_CT g false yX3_statement (d + 459) [.ref m] (ch_put m w σ) Q) := by
  intro d
  induction d with
  | zero => exact ⟨fun h _ => (by cases h), fun h _ => (by cases h)⟩
  | succ d ih =>
    exact ⟨fun {σ p Q} h hk => s_X3_block ih.2 h hk,
      fun {σ p Q} h hk => s_X3_statement ih.1 h hk⟩
theorem sr_X3_block {g : State} {m : Nat} {w : ch_W} {σ : ch_S} {p : Int32 × ch_S} {Q : Outcome → ch_W → Prop} (h : cr_MB 70 0  σ = some p) (hk : ch_eI Q (p.1, ch_put m w p.2)) : ch_CT g false yX3_block 529 [.ref m] (ch_put m w σ) Q := (sr_MB 70).1 h hk
theorem sr_X3_statement {g : State} {m : Nat} {w : ch_W} {σ : ch_S} {p : Int32 × ch_S} {Q : Outcome → ch_W → Prop} (h : cr_MB 70 1  σ = some p) (hk : ch_eI Q (p.1, ch_put m w p.2)) : ch_CT g false yX3_statement 529 [.ref m] (ch_put m w σ) Q := (sr_MB 70).2 h hk

theorem bX3_member_0 : ch_ck cX3_member 0 [42, 180, 1, 147, 60, 42, 8, 182, 1, 74, 61, 42, 180, 0, 103, 27] := ch_ckof (by decide +kernel)
theorem bX3_member_1 : ch_ck cX3_member 16 [6, 79, 28, 153, 0, 10, 42, 182, 1, 33, 167, 0, 13, 42, 180, 0] := ch_ckof (by decide +kernel)
theorem bX3_member_2 : ch_ck cX3_member 32 [103, 27, 42, 182, 1, 129, 79, 42, 180, 0, 100, 27, 42, 180, 0, 246] := ch_ckof (by decide +kernel)
theorem bX3_member_3 : ch_ck cX3_member 48 [79, 42, 180, 0, 97, 27, 42, 182, 1, 77, 79, 42, 89, 180, 1, 147] := ch_ckof (by decide +kernel)
theorem bX3_member_4 : ch_ck cX3_member 64 [4, 96, 181, 1, 147, 42, 180, 0, 106, 27, 28, 154, 0, 12, 42, 16] := ch_ckof (by decide +kernel)
theorem bX3_member_5 : ch_ck cX3_member 80 [40, 182, 1, 39, 153, 0, 7, 4, 167, 0, 4, 3, 84, 42, 180, 0] := ch_ckof (by decide +kernel)
theorem bX3_member_6 : ch_ck cX3_member 96 [110, 27, 42, 180, 1, 150, 79, 42, 180, 0, 110, 27, 4, 96, 42, 180] := ch_ckof (by decide +kernel)
theorem bX3_member_7 : ch_ck cX3_member 112 [1, 150, 79, 42, 180, 0, 106, 27, 51, 154, 0, 15, 42, 42, 16, 59] := ch_ckof (by decide +kernel)
theorem bX3_member_8 : ch_ck cX3_member 128 [182, 1, 39, 182, 1, 42, 62, 177, 42, 42, 16, 40, 182, 1, 39, 182] := ch_ckof (by decide +kernel)
theorem bX3_member_9 : ch_ck cX3_member 144 [1, 83, 154, 0, 4, 177, 42, 16, 41, 182, 1, 39, 154, 0, 7, 4] := ch_ckof (by decide +kernel)
theorem bX3_member_10 : ch_ck cX3_member 160 [167, 0, 4, 3, 62, 29, 153, 0, 64, 42, 180, 1, 27, 156, 0, 57] := ch_ckof (by decide +kernel)
theorem bX3_member_11 : ch_ck cX3_member 176 [42, 180, 0, 122, 42, 180, 1, 150, 42, 182, 1, 129, 79, 42, 180, 0] := ch_ckof (by decide +kernel)
theorem bX3_member_12 : ch_ck cX3_member 192 [125, 42, 180, 1, 150, 42, 182, 1, 77, 79, 42, 89, 180, 1, 150, 4] := ch_ckof (by decide +kernel)
theorem bX3_member_13 : ch_ck cX3_member 208 [96, 181, 1, 150, 42, 16, 44, 182, 1, 39, 62, 29, 153, 255, 201, 42] := ch_ckof (by decide +kernel)
theorem bX3_member_14 : ch_ck cX3_member 224 [182, 1, 33, 167, 255, 194, 42, 16, 41, 182, 1, 96, 42, 180, 0, 110] := ch_ckof (by decide +kernel)
theorem bX3_member_15 : ch_ck cX3_member 240 [27, 4, 96, 42, 180, 1, 150, 79, 42, 180, 0, 113, 27, 42, 182, 1] := ch_ckof (by decide +kernel)
theorem bX3_member_16 : ch_ck cX3_member 256 [135, 79, 42, 180, 0, 116, 27, 42, 180, 1, 116, 79, 177] := ch_ckof (by decide +kernel)
theorem dX3_member_0 : decode cX3_member 0 = .ok (.aload_n 0, 1) := dz_42 (bX3_member_0 0 _ rfl)
theorem dX3_member_1 : decode cX3_member 1 = .ok (.getfield 403, 3) := dz_180 (bX3_member_0 1 _ rfl) (bX3_member_0 2 _ rfl) (bX3_member_0 3 _ rfl)
theorem dX3_member_4 : decode cX3_member 4 = .ok (.istore_n 1, 1) := dz_60 (bX3_member_0 4 _ rfl)
theorem dX3_member_5 : decode cX3_member 5 = .ok (.aload_n 0, 1) := dz_42 (bX3_member_0 5 _ rfl)
theorem dX3_member_6 : decode cX3_member 6 = .ok (.iconst 5, 1) := dz_8 (bX3_member_0 6 _ rfl)
theorem dX3_member_7 : decode cX3_member 7 = .ok (.invokevirtual 330, 3) := dz_182 (bX3_member_0 7 _ rfl) (bX3_member_0 8 _ rfl) (bX3_member_0 9 _ rfl)
theorem dX3_member_10 : decode cX3_member 10 = .ok (.istore_n 2, 1) := dz_61 (bX3_member_0 10 _ rfl)
theorem dX3_member_11 : decode cX3_member 11 = .ok (.aload_n 0, 1) := dz_42 (bX3_member_0 11 _ rfl)
theorem dX3_member_12 : decode cX3_member 12 = .ok (.getfield 103, 3) := dz_180 (bX3_member_0 12 _ rfl) (bX3_member_0 13 _ rfl) (bX3_member_0 14 _ rfl)
theorem dX3_member_15 : decode cX3_member 15 = .ok (.iload_n 1, 1) := dz_27 (bX3_member_0 15 _ rfl)
theorem dX3_member_16 : decode cX3_member 16 = .ok (.iconst 3, 1) := dz_6 (bX3_member_1 0 _ rfl)
theorem dX3_member_17 : decode cX3_member 17 = .ok (.iastore, 1) := dz_79 (bX3_member_1 1 _ rfl)
theorem dX3_member_18 : decode cX3_member 18 = .ok (.iload_n 2, 1) := dz_28 (bX3_member_1 2 _ rfl)
theorem dX3_member_19 : decode cX3_member 19 = .ok (.ifCond .eq 10, 3) := dz_153 (bX3_member_1 3 _ rfl) (bX3_member_1 4 _ rfl) (bX3_member_1 5 _ rfl)
theorem dX3_member_22 : decode cX3_member 22 = .ok (.aload_n 0, 1) := dz_42 (bX3_member_1 6 _ rfl)
theorem dX3_member_23 : decode cX3_member 23 = .ok (.invokevirtual 289, 3) := dz_182 (bX3_member_1 7 _ rfl) (bX3_member_1 8 _ rfl) (bX3_member_1 9 _ rfl)
theorem dX3_member_26 : decode cX3_member 26 = .ok (.goto 13, 3) := dz_167 (bX3_member_1 10 _ rfl) (bX3_member_1 11 _ rfl) (bX3_member_1 12 _ rfl)
theorem dX3_member_29 : decode cX3_member 29 = .ok (.aload_n 0, 1) := dz_42 (bX3_member_1 13 _ rfl)
theorem dX3_member_30 : decode cX3_member 30 = .ok (.getfield 103, 3) := dz_180 (bX3_member_1 14 _ rfl) (bX3_member_1 15 _ rfl) (bX3_member_2 0 _ rfl)
theorem dX3_member_33 : decode cX3_member 33 = .ok (.iload_n 1, 1) := dz_27 (bX3_member_2 1 _ rfl)
theorem dX3_member_34 : decode cX3_member 34 = .ok (.aload_n 0, 1) := dz_42 (bX3_member_2 2 _ rfl)
theorem dX3_member_35 : decode cX3_member 35 = .ok (.invokevirtual 385, 3) := dz_182 (bX3_member_2 3 _ rfl) (bX3_member_2 4 _ rfl) (bX3_member_2 5 _ rfl)
theorem dX3_member_38 : decode cX3_member 38 = .ok (.iastore, 1) := dz_79 (bX3_member_2 6 _ rfl)
theorem dX3_member_39 : decode cX3_member 39 = .ok (.aload_n 0, 1) := dz_42 (bX3_member_2 7 _ rfl)
theorem dX3_member_40 : decode cX3_member 40 = .ok (.getfield 100, 3) := dz_180 (bX3_member_2 8 _ rfl) (bX3_member_2 9 _ rfl) (bX3_member_2 10 _ rfl)
theorem dX3_member_43 : decode cX3_member 43 = .ok (.iload_n 1, 1) := dz_27 (bX3_member_2 11 _ rfl)
theorem dX3_member_44 : decode cX3_member 44 = .ok (.aload_n 0, 1) := dz_42 (bX3_member_2 12 _ rfl)
theorem dX3_member_45 : decode cX3_member 45 = .ok (.getfield 246, 3) := dz_180 (bX3_member_2 13 _ rfl) (bX3_member_2 14 _ rfl) (bX3_member_2 15 _ rfl)
theorem dX3_member_48 : decode cX3_member 48 = .ok (.iastore, 1) := dz_79 (bX3_member_3 0 _ rfl)
theorem dX3_member_49 : decode cX3_member 49 = .ok (.aload_n 0, 1) := dz_42 (bX3_member_3 1 _ rfl)
theorem dX3_member_50 : decode cX3_member 50 = .ok (.getfield 97, 3) := dz_180 (bX3_member_3 2 _ rfl) (bX3_member_3 3 _ rfl) (bX3_member_3 4 _ rfl)
theorem dX3_member_53 : decode cX3_member 53 = .ok (.iload_n 1, 1) := dz_27 (bX3_member_3 5 _ rfl)
theorem dX3_member_54 : decode cX3_member 54 = .ok (.aload_n 0, 1) := dz_42 (bX3_member_3 6 _ rfl)
theorem dX3_member_55 : decode cX3_member 55 = .ok (.invokevirtual 333, 3) := dz_182 (bX3_member_3 7 _ rfl) (bX3_member_3 8 _ rfl) (bX3_member_3 9 _ rfl)
theorem dX3_member_58 : decode cX3_member 58 = .ok (.iastore, 1) := dz_79 (bX3_member_3 10 _ rfl)
theorem dX3_member_59 : decode cX3_member 59 = .ok (.aload_n 0, 1) := dz_42 (bX3_member_3 11 _ rfl)
theorem dX3_member_60 : decode cX3_member 60 = .ok (.dup, 1) := dz_89 (bX3_member_3 12 _ rfl)
theorem dX3_member_61 : decode cX3_member 61 = .ok (.getfield 403, 3) := dz_180 (bX3_member_3 13 _ rfl) (bX3_member_3 14 _ rfl) (bX3_member_3 15 _ rfl)
theorem dX3_member_64 : decode cX3_member 64 = .ok (.iconst 1, 1) := dz_4 (bX3_member_4 0 _ rfl)
theorem dX3_member_65 : decode cX3_member 65 = .ok (.iadd, 1) := dz_96 (bX3_member_4 1 _ rfl)
theorem dX3_member_66 : decode cX3_member 66 = .ok (.putfield 403, 3) := dz_181 (bX3_member_4 2 _ rfl) (bX3_member_4 3 _ rfl) (bX3_member_4 4 _ rfl)
theorem dX3_member_69 : decode cX3_member 69 = .ok (.aload_n 0, 1) := dz_42 (bX3_member_4 5 _ rfl)
theorem dX3_member_70 : decode cX3_member 70 = .ok (.getfield 106, 3) := dz_180 (bX3_member_4 6 _ rfl) (bX3_member_4 7 _ rfl) (bX3_member_4 8 _ rfl)
theorem dX3_member_73 : decode cX3_member 73 = .ok (.iload_n 1, 1) := dz_27 (bX3_member_4 9 _ rfl)
theorem dX3_member_74 : decode cX3_member 74 = .ok (.iload_n 2, 1) := dz_28 (bX3_member_4 10 _ rfl)
theorem dX3_member_75 : decode cX3_member 75 = .ok (.ifCond .ne 12, 3) := dz_154 (bX3_member_4 11 _ rfl) (bX3_member_4 12 _ rfl) (bX3_member_4 13 _ rfl)
theorem dX3_member_78 : decode cX3_member 78 = .ok (.aload_n 0, 1) := dz_42 (bX3_member_4 14 _ rfl)
theorem dX3_member_79 : decode cX3_member 79 = .ok (.bipush 40, 2) := dz_16 (bX3_member_4 15 _ rfl) (bX3_member_5 0 _ rfl)
theorem dX3_member_81 : decode cX3_member 81 = .ok (.invokevirtual 295, 3) := dz_182 (bX3_member_5 1 _ rfl) (bX3_member_5 2 _ rfl) (bX3_member_5 3 _ rfl)
theorem dX3_member_84 : decode cX3_member 84 = .ok (.ifCond .eq 7, 3) := dz_153 (bX3_member_5 4 _ rfl) (bX3_member_5 5 _ rfl) (bX3_member_5 6 _ rfl)
theorem dX3_member_87 : decode cX3_member 87 = .ok (.iconst 1, 1) := dz_4 (bX3_member_5 7 _ rfl)
theorem dX3_member_88 : decode cX3_member 88 = .ok (.goto 4, 3) := dz_167 (bX3_member_5 8 _ rfl) (bX3_member_5 9 _ rfl) (bX3_member_5 10 _ rfl)
theorem dX3_member_91 : decode cX3_member 91 = .ok (.iconst 0, 1) := dz_3 (bX3_member_5 11 _ rfl)
theorem dX3_member_92 : decode cX3_member 92 = .ok (.bastore, 1) := dz_84 (bX3_member_5 12 _ rfl)
theorem dX3_member_93 : decode cX3_member 93 = .ok (.aload_n 0, 1) := dz_42 (bX3_member_5 13 _ rfl)
theorem dX3_member_94 : decode cX3_member 94 = .ok (.getfield 110, 3) := dz_180 (bX3_member_5 14 _ rfl) (bX3_member_5 15 _ rfl) (bX3_member_6 0 _ rfl)
theorem dX3_member_97 : decode cX3_member 97 = .ok (.iload_n 1, 1) := dz_27 (bX3_member_6 1 _ rfl)
theorem dX3_member_98 : decode cX3_member 98 = .ok (.aload_n 0, 1) := dz_42 (bX3_member_6 2 _ rfl)
theorem dX3_member_99 : decode cX3_member 99 = .ok (.getfield 406, 3) := dz_180 (bX3_member_6 3 _ rfl) (bX3_member_6 4 _ rfl) (bX3_member_6 5 _ rfl)
theorem dX3_member_102 : decode cX3_member 102 = .ok (.iastore, 1) := dz_79 (bX3_member_6 6 _ rfl)
theorem dX3_member_103 : decode cX3_member 103 = .ok (.aload_n 0, 1) := dz_42 (bX3_member_6 7 _ rfl)
theorem dX3_member_104 : decode cX3_member 104 = .ok (.getfield 110, 3) := dz_180 (bX3_member_6 8 _ rfl) (bX3_member_6 9 _ rfl) (bX3_member_6 10 _ rfl)
theorem dX3_member_107 : decode cX3_member 107 = .ok (.iload_n 1, 1) := dz_27 (bX3_member_6 11 _ rfl)
theorem dX3_member_108 : decode cX3_member 108 = .ok (.iconst 1, 1) := dz_4 (bX3_member_6 12 _ rfl)
theorem dX3_member_109 : decode cX3_member 109 = .ok (.iadd, 1) := dz_96 (bX3_member_6 13 _ rfl)
theorem dX3_member_110 : decode cX3_member 110 = .ok (.aload_n 0, 1) := dz_42 (bX3_member_6 14 _ rfl)
theorem dX3_member_111 : decode cX3_member 111 = .ok (.getfield 406, 3) := dz_180 (bX3_member_6 15 _ rfl) (bX3_member_7 0 _ rfl) (bX3_member_7 1 _ rfl)
theorem dX3_member_114 : decode cX3_member 114 = .ok (.iastore, 1) := dz_79 (bX3_member_7 2 _ rfl)
theorem dX3_member_115 : decode cX3_member 115 = .ok (.aload_n 0, 1) := dz_42 (bX3_member_7 3 _ rfl)
theorem dX3_member_116 : decode cX3_member 116 = .ok (.getfield 106, 3) := dz_180 (bX3_member_7 4 _ rfl) (bX3_member_7 5 _ rfl) (bX3_member_7 6 _ rfl)
theorem dX3_member_119 : decode cX3_member 119 = .ok (.iload_n 1, 1) := dz_27 (bX3_member_7 7 _ rfl)
theorem dX3_member_120 : decode cX3_member 120 = .ok (.baload, 1) := dz_51 (bX3_member_7 8 _ rfl)
theorem dX3_member_121 : decode cX3_member 121 = .ok (.ifCond .ne 15, 3) := dz_154 (bX3_member_7 9 _ rfl) (bX3_member_7 10 _ rfl) (bX3_member_7 11 _ rfl)
theorem dX3_member_124 : decode cX3_member 124 = .ok (.aload_n 0, 1) := dz_42 (bX3_member_7 12 _ rfl)
theorem dX3_member_125 : decode cX3_member 125 = .ok (.aload_n 0, 1) := dz_42 (bX3_member_7 13 _ rfl)
theorem dX3_member_126 : decode cX3_member 126 = .ok (.bipush 59, 2) := dz_16 (bX3_member_7 14 _ rfl) (bX3_member_7 15 _ rfl)
theorem dX3_member_128 : decode cX3_member 128 = .ok (.invokevirtual 295, 3) := dz_182 (bX3_member_8 0 _ rfl) (bX3_member_8 1 _ rfl) (bX3_member_8 2 _ rfl)
theorem dX3_member_131 : decode cX3_member 131 = .ok (.invokevirtual 298, 3) := dz_182 (bX3_member_8 3 _ rfl) (bX3_member_8 4 _ rfl) (bX3_member_8 5 _ rfl)
theorem dX3_member_134 : decode cX3_member 134 = .ok (.istore_n 3, 1) := dz_62 (bX3_member_8 6 _ rfl)
theorem dX3_member_135 : decode cX3_member 135 = .ok (.return_, 1) := dz_177 (bX3_member_8 7 _ rfl)
theorem dX3_member_136 : decode cX3_member 136 = .ok (.aload_n 0, 1) := dz_42 (bX3_member_8 8 _ rfl)
theorem dX3_member_137 : decode cX3_member 137 = .ok (.aload_n 0, 1) := dz_42 (bX3_member_8 9 _ rfl)
theorem dX3_member_138 : decode cX3_member 138 = .ok (.bipush 40, 2) := dz_16 (bX3_member_8 10 _ rfl) (bX3_member_8 11 _ rfl)
theorem dX3_member_140 : decode cX3_member 140 = .ok (.invokevirtual 295, 3) := dz_182 (bX3_member_8 12 _ rfl) (bX3_member_8 13 _ rfl) (bX3_member_8 14 _ rfl)
theorem dX3_member_143 : decode cX3_member 143 = .ok (.invokevirtual 339, 3) := dz_182 (bX3_member_8 15 _ rfl) (bX3_member_9 0 _ rfl) (bX3_member_9 1 _ rfl)
theorem dX3_member_146 : decode cX3_member 146 = .ok (.ifCond .ne 4, 3) := dz_154 (bX3_member_9 2 _ rfl) (bX3_member_9 3 _ rfl) (bX3_member_9 4 _ rfl)
theorem dX3_member_149 : decode cX3_member 149 = .ok (.return_, 1) := dz_177 (bX3_member_9 5 _ rfl)
theorem dX3_member_150 : decode cX3_member 150 = .ok (.aload_n 0, 1) := dz_42 (bX3_member_9 6 _ rfl)
theorem dX3_member_151 : decode cX3_member 151 = .ok (.bipush 41, 2) := dz_16 (bX3_member_9 7 _ rfl) (bX3_member_9 8 _ rfl)
theorem dX3_member_153 : decode cX3_member 153 = .ok (.invokevirtual 295, 3) := dz_182 (bX3_member_9 9 _ rfl) (bX3_member_9 10 _ rfl) (bX3_member_9 11 _ rfl)
theorem dX3_member_156 : decode cX3_member 156 = .ok (.ifCond .ne 7, 3) := dz_154 (bX3_member_9 12 _ rfl) (bX3_member_9 13 _ rfl) (bX3_member_9 14 _ rfl)
theorem dX3_member_159 : decode cX3_member 159 = .ok (.iconst 1, 1) := dz_4 (bX3_member_9 15 _ rfl)
theorem dX3_member_160 : decode cX3_member 160 = .ok (.goto 4, 3) := dz_167 (bX3_member_10 0 _ rfl) (bX3_member_10 1 _ rfl) (bX3_member_10 2 _ rfl)
theorem dX3_member_163 : decode cX3_member 163 = .ok (.iconst 0, 1) := dz_3 (bX3_member_10 3 _ rfl)
theorem dX3_member_164 : decode cX3_member 164 = .ok (.istore_n 3, 1) := dz_62 (bX3_member_10 4 _ rfl)
theorem dX3_member_165 : decode cX3_member 165 = .ok (.iload_n 3, 1) := dz_29 (bX3_member_10 5 _ rfl)
theorem dX3_member_166 : decode cX3_member 166 = .ok (.ifCond .eq 64, 3) := dz_153 (bX3_member_10 6 _ rfl) (bX3_member_10 7 _ rfl) (bX3_member_10 8 _ rfl)
theorem dX3_member_169 : decode cX3_member 169 = .ok (.aload_n 0, 1) := dz_42 (bX3_member_10 9 _ rfl)
theorem dX3_member_170 : decode cX3_member 170 = .ok (.getfield 283, 3) := dz_180 (bX3_member_10 10 _ rfl) (bX3_member_10 11 _ rfl) (bX3_member_10 12 _ rfl)
theorem dX3_member_173 : decode cX3_member 173 = .ok (.ifCond .ge 57, 3) := dz_156 (bX3_member_10 13 _ rfl) (bX3_member_10 14 _ rfl) (bX3_member_10 15 _ rfl)
theorem dX3_member_176 : decode cX3_member 176 = .ok (.aload_n 0, 1) := dz_42 (bX3_member_11 0 _ rfl)
theorem dX3_member_177 : decode cX3_member 177 = .ok (.getfield 122, 3) := dz_180 (bX3_member_11 1 _ rfl) (bX3_member_11 2 _ rfl) (bX3_member_11 3 _ rfl)
theorem dX3_member_180 : decode cX3_member 180 = .ok (.aload_n 0, 1) := dz_42 (bX3_member_11 4 _ rfl)
theorem dX3_member_181 : decode cX3_member 181 = .ok (.getfield 406, 3) := dz_180 (bX3_member_11 5 _ rfl) (bX3_member_11 6 _ rfl) (bX3_member_11 7 _ rfl)
theorem dX3_member_184 : decode cX3_member 184 = .ok (.aload_n 0, 1) := dz_42 (bX3_member_11 8 _ rfl)
theorem dX3_member_185 : decode cX3_member 185 = .ok (.invokevirtual 385, 3) := dz_182 (bX3_member_11 9 _ rfl) (bX3_member_11 10 _ rfl) (bX3_member_11 11 _ rfl)
theorem dX3_member_188 : decode cX3_member 188 = .ok (.iastore, 1) := dz_79 (bX3_member_11 12 _ rfl)
theorem dX3_member_189 : decode cX3_member 189 = .ok (.aload_n 0, 1) := dz_42 (bX3_member_11 13 _ rfl)
theorem dX3_member_190 : decode cX3_member 190 = .ok (.getfield 125, 3) := dz_180 (bX3_member_11 14 _ rfl) (bX3_member_11 15 _ rfl) (bX3_member_12 0 _ rfl)
theorem dX3_member_193 : decode cX3_member 193 = .ok (.aload_n 0, 1) := dz_42 (bX3_member_12 1 _ rfl)
theorem dX3_member_194 : decode cX3_member 194 = .ok (.getfield 406, 3) := dz_180 (bX3_member_12 2 _ rfl) (bX3_member_12 3 _ rfl) (bX3_member_12 4 _ rfl)
theorem dX3_member_197 : decode cX3_member 197 = .ok (.aload_n 0, 1) := dz_42 (bX3_member_12 5 _ rfl)
theorem dX3_member_198 : decode cX3_member 198 = .ok (.invokevirtual 333, 3) := dz_182 (bX3_member_12 6 _ rfl) (bX3_member_12 7 _ rfl) (bX3_member_12 8 _ rfl)
theorem dX3_member_201 : decode cX3_member 201 = .ok (.iastore, 1) := dz_79 (bX3_member_12 9 _ rfl)
theorem dX3_member_202 : decode cX3_member 202 = .ok (.aload_n 0, 1) := dz_42 (bX3_member_12 10 _ rfl)
theorem dX3_member_203 : decode cX3_member 203 = .ok (.dup, 1) := dz_89 (bX3_member_12 11 _ rfl)
theorem dX3_member_204 : decode cX3_member 204 = .ok (.getfield 406, 3) := dz_180 (bX3_member_12 12 _ rfl) (bX3_member_12 13 _ rfl) (bX3_member_12 14 _ rfl)
theorem dX3_member_207 : decode cX3_member 207 = .ok (.iconst 1, 1) := dz_4 (bX3_member_12 15 _ rfl)
theorem dX3_member_208 : decode cX3_member 208 = .ok (.iadd, 1) := dz_96 (bX3_member_13 0 _ rfl)
theorem dX3_member_209 : decode cX3_member 209 = .ok (.putfield 406, 3) := dz_181 (bX3_member_13 1 _ rfl) (bX3_member_13 2 _ rfl) (bX3_member_13 3 _ rfl)
theorem dX3_member_212 : decode cX3_member 212 = .ok (.aload_n 0, 1) := dz_42 (bX3_member_13 4 _ rfl)
theorem dX3_member_213 : decode cX3_member 213 = .ok (.bipush 44, 2) := dz_16 (bX3_member_13 5 _ rfl) (bX3_member_13 6 _ rfl)
theorem dX3_member_215 : decode cX3_member 215 = .ok (.invokevirtual 295, 3) := dz_182 (bX3_member_13 7 _ rfl) (bX3_member_13 8 _ rfl) (bX3_member_13 9 _ rfl)
theorem dX3_member_218 : decode cX3_member 218 = .ok (.istore_n 3, 1) := dz_62 (bX3_member_13 10 _ rfl)
theorem dX3_member_219 : decode cX3_member 219 = .ok (.iload_n 3, 1) := dz_29 (bX3_member_13 11 _ rfl)
theorem dX3_member_220 : decode cX3_member 220 = .ok (.ifCond .eq (-55), 3) := dz_153 (bX3_member_13 12 _ rfl) (bX3_member_13 13 _ rfl) (bX3_member_13 14 _ rfl)
theorem dX3_member_223 : decode cX3_member 223 = .ok (.aload_n 0, 1) := dz_42 (bX3_member_13 15 _ rfl)
theorem dX3_member_224 : decode cX3_member 224 = .ok (.invokevirtual 289, 3) := dz_182 (bX3_member_14 0 _ rfl) (bX3_member_14 1 _ rfl) (bX3_member_14 2 _ rfl)
theorem dX3_member_227 : decode cX3_member 227 = .ok (.goto (-62), 3) := dz_167 (bX3_member_14 3 _ rfl) (bX3_member_14 4 _ rfl) (bX3_member_14 5 _ rfl)
theorem dX3_member_230 : decode cX3_member 230 = .ok (.aload_n 0, 1) := dz_42 (bX3_member_14 6 _ rfl)
theorem dX3_member_231 : decode cX3_member 231 = .ok (.bipush 41, 2) := dz_16 (bX3_member_14 7 _ rfl) (bX3_member_14 8 _ rfl)
theorem dX3_member_233 : decode cX3_member 233 = .ok (.invokevirtual 352, 3) := dz_182 (bX3_member_14 9 _ rfl) (bX3_member_14 10 _ rfl) (bX3_member_14 11 _ rfl)
theorem dX3_member_236 : decode cX3_member 236 = .ok (.aload_n 0, 1) := dz_42 (bX3_member_14 12 _ rfl)
theorem dX3_member_237 : decode cX3_member 237 = .ok (.getfield 110, 3) := dz_180 (bX3_member_14 13 _ rfl) (bX3_member_14 14 _ rfl) (bX3_member_14 15 _ rfl)
theorem dX3_member_240 : decode cX3_member 240 = .ok (.iload_n 1, 1) := dz_27 (bX3_member_15 0 _ rfl)
theorem dX3_member_241 : decode cX3_member 241 = .ok (.iconst 1, 1) := dz_4 (bX3_member_15 1 _ rfl)
theorem dX3_member_242 : decode cX3_member 242 = .ok (.iadd, 1) := dz_96 (bX3_member_15 2 _ rfl)
theorem dX3_member_243 : decode cX3_member 243 = .ok (.aload_n 0, 1) := dz_42 (bX3_member_15 3 _ rfl)
theorem dX3_member_244 : decode cX3_member 244 = .ok (.getfield 406, 3) := dz_180 (bX3_member_15 4 _ rfl) (bX3_member_15 5 _ rfl) (bX3_member_15 6 _ rfl)
theorem dX3_member_247 : decode cX3_member 247 = .ok (.iastore, 1) := dz_79 (bX3_member_15 7 _ rfl)
theorem dX3_member_248 : decode cX3_member 248 = .ok (.aload_n 0, 1) := dz_42 (bX3_member_15 8 _ rfl)
theorem dX3_member_249 : decode cX3_member 249 = .ok (.getfield 113, 3) := dz_180 (bX3_member_15 9 _ rfl) (bX3_member_15 10 _ rfl) (bX3_member_15 11 _ rfl)
theorem dX3_member_252 : decode cX3_member 252 = .ok (.iload_n 1, 1) := dz_27 (bX3_member_15 12 _ rfl)
theorem dX3_member_253 : decode cX3_member 253 = .ok (.aload_n 0, 1) := dz_42 (bX3_member_15 13 _ rfl)
theorem dX3_member_254 : decode cX3_member 254 = .ok (.invokevirtual 391, 3) := dz_182 (bX3_member_15 14 _ rfl) (bX3_member_15 15 _ rfl) (bX3_member_16 0 _ rfl)
theorem dX3_member_257 : decode cX3_member 257 = .ok (.iastore, 1) := dz_79 (bX3_member_16 1 _ rfl)
theorem dX3_member_258 : decode cX3_member 258 = .ok (.aload_n 0, 1) := dz_42 (bX3_member_16 2 _ rfl)
theorem dX3_member_259 : decode cX3_member 259 = .ok (.getfield 116, 3) := dz_180 (bX3_member_16 3 _ rfl) (bX3_member_16 4 _ rfl) (bX3_member_16 5 _ rfl)
theorem dX3_member_262 : decode cX3_member 262 = .ok (.iload_n 1, 1) := dz_27 (bX3_member_16 6 _ rfl)
theorem dX3_member_263 : decode cX3_member 263 = .ok (.aload_n 0, 1) := dz_42 (bX3_member_16 7 _ rfl)
theorem dX3_member_264 : decode cX3_member 264 = .ok (.getfield 372, 3) := dz_180 (bX3_member_16 8 _ rfl) (bX3_member_16 9 _ rfl) (bX3_member_16 10 _ rfl)
theorem dX3_member_267 : decode cX3_member 267 = .ok (.iastore, 1) := dz_79 (bX3_member_16 11 _ rfl)
theorem dX3_member_268 : decode cX3_member 268 = .ok (.return_, 1) := dz_177 (bX3_member_16 12 _ rfl)
def m_X3_member_230 (x1 : Int32)  (σ : ch_S) : Option (ch_S) := (m_X3_closes 41 σ).bind fun p1 => (ch_mw p1 fX3_parameterFrom (x1 + 1) (p1.1 fX3_parameters)).bind fun σ3 => (cr_MB 70 0 σ3).bind fun p4 => (ch_mw p4.2 fX3_body x1 p4.1).bind fun σ6 => (ch_mw σ6 fX3_closeAt x1 (σ6.1 fX3_blockEnd)).bind fun σ7 => some (σ7)
theorem s_X3_member_230 {g : State} {m : Nat} {w : ch_W} {x1 : Int32} {σ : ch_S} {res : ch_S} {Q : Outcome → ch_W → Prop} (h : m_X3_member_230 x1 σ = some res) (hk : (fun r => ch_eV Q (ch_put m w r)) res) : ch_FT g false mX3_member 530 230 [some (va_rf (some m)), some (.int x1), none, none] [] (ch_put m w σ) Q := by
  unfold m_X3_member_230 at h
  obtain ⟨p1, hp2, h⟩ := ch_bd h
  refine ch_aload_n 0 (some m) dX3_member_230 rfl (ch_bipush _ 41 dX3_member_231 rfl (ch_iv yX3_closes prog_14_method_18_code 2 none (ci := 3) (q := (RX3, TX3, 109)) (b := m) (d' := 6) (av := [.int 41]) (rest := []) rfl dX3_member_233 q1962 q1964 rfl qs120 q1965 can_X3_closes (Nat.le_of_ble_eq_true rfl) (Nat.le_of_ble_eq_true rfl) ch_put_tag (cp_kV (w1 := ch_put m w p1) (fun Q' hq => s_X3_closes hp2 hq) ?_)))
  refine ch_aload_n 0 (some m) dX3_member_236 rfl (mp_gA 49 dX3_member_237 fl_X3_110 rfl (ch_iload_n 1 _ dX3_member_240 rfl (ch_iconst _ 1 dX3_member_241 rfl (ch_iadd _ _ dX3_member_242 (ch_aload_n 0 (some m) dX3_member_243 rfl (mp_gI 53 dX3_member_244 fl_X3_406 rfl (mp_iast dX3_member_247 mk_49 rfl h (fun σ3 h => ?_))))))))
  obtain ⟨p4, hp5, h⟩ := ch_bd h
  refine ch_aload_n 0 (some m) dX3_member_248 rfl (mp_gA 50 dX3_member_249 fl_X3_113 rfl (ch_iload_n 1 _ dX3_member_252 rfl (ch_aload_n 0 (some m) dX3_member_253 rfl (ch_iv yX3_block prog_14_method_33_code 4 (some .int) (ci := 3) (q := (RX3, TX3, 109)) (b := m) (d' := 529) (av := []) (rest := [.int x1, va_rf (ch_mr m fX3_body)]) rfl dX3_member_254 q1966 q1968 rfl qs121 q1969 can_X3_block (Nat.le_of_ble_eq_true rfl) (ch_hw (Nat.le_of_ble_eq_true rfl)) ch_put_tag (cp_kI (v := p4.1) (w1 := ch_put m w p4.2) (fun Q' hq => sr_X3_block hp5 hq) ?_)))))
  refine mp_iast dX3_member_257 mk_50 rfl h (fun σ6 h => ?_)
  refine ch_aload_n 0 (some m) dX3_member_258 rfl (mp_gA 51 dX3_member_259 fl_X3_116 rfl (ch_iload_n 1 _ dX3_member_262 rfl (ch_aload_n 0 (some m) dX3_member_263 rfl (mp_gI 57 dX3_member_264 fl_X3_372 rfl (mp_iast dX3_member_267 mk_51 rfl h (fun σ7 h => ?_))))))
  obtain rfl := Option.some.inj h
  exact ch_return dX3_member_268 rfl hk

def m_X3_member_165 (x1 : Int32) (x3 : Int32)  (σ : ch_S) : Option ((Int32 × ch_S) ⊕ (ch_S)) := if x3 = 0 then ((m_X3_member_230 x1 σ).bind fun r => some (.inr (r))) else (if (σ.1 fX3_wrong) < 0 then ((m_X3_type σ).bind fun p1 => (ch_mw p1.2 fX3_parameterType (σ.1 fX3_parameters) p1.1).bind fun σ3 => (m_X3_name σ3).bind fun p4 => (ch_mw p4.2 fX3_parameterId (σ3.1 fX3_parameters) p4.1).bind fun σ6 => (ch_mI σ6 fX3_parameters ((σ6.1 fX3_parameters) + 1)).bind fun σ7 => (m_X3_isSign 44 σ7).bind fun v8 => if v8 = 0 then (some (.inl (v8, σ7))) else ((m_X3_next σ7).bind fun p10 => some (.inl (v8, p10)))) else ((m_X3_member_230 x1 σ).bind fun r => some (.inr (r))))
theorem s_X3_member_165 {g : State} {m : Nat} {w : ch_W} {x1 : Int32} {x3 : Int32} {σ : ch_S} {res : (Int32 × ch_S) ⊕ (ch_S)} {Q : Outcome → ch_W → Prop} (h : m_X3_member_165 x1 x3 σ = some res) (hk : (ch_sm (fun s => ch_FT g false mX3_member 530 165 [some (va_rf (some m)), some (.int x1), none, some (.int s.1)] [] (ch_put m w s.2) Q) (fun r => ch_eV Q (ch_put m w r))) res) : ch_FT g false mX3_member 530 165 [some (va_rf (some m)), some (.int x1), none, some (.int x3)] [] (ch_put m w σ) Q := by
  unfold m_X3_member_165 at h
  refine ch_iload_n 3 _ dX3_member_165 rfl (cp_if_eq _ (tgt := 230) dX3_member_166 rfl h (fun h => ?_) (fun h => ?_))
  · obtain ⟨r, hr, h⟩ := ch_bd h
    obtain rfl := Option.some.inj h
    exact ch_FT.wk (ch_wS (ch_wS (ch_wN (ch_wN ch_w0)))) (s_X3_member_230  hr hk)
  · refine ch_aload_n 0 (some m) dX3_member_169 rfl (mp_gI 9 dX3_member_170 fl_X3_283 rfl (cp_if_ge _ (tgt := 230) dX3_member_173 rfl h (fun h => ?_) (fun h => ?_)))
    · obtain ⟨r, hr, h⟩ := ch_bd h
      obtain rfl := Option.some.inj h
      exact ch_FT.wk (ch_wS (ch_wS (ch_wN (ch_wN ch_w0)))) (s_X3_member_230  hr hk)
    · obtain ⟨p1, hp2, h⟩ := ch_bd h
      refine ch_aload_n 0 (some m) dX3_member_176 rfl (mp_gA 54 dX3_member_177 fl_X3_122 rfl (ch_aload_n 0 (some m) dX3_member_180 rfl (mp_gI 53 dX3_member_181 fl_X3_406 rfl (ch_aload_n 0 (some m) dX3_member_184 rfl (ch_iv yX3_type prog_14_method_35_code 3 (some .int) (ci := 3) (q := (RX3, TX3, 109)) (b := m) (d' := 6) (av := []) (rest := [.int (σ.1 fX3_parameters), va_rf (ch_mr m fX3_parameterType)]) rfl dX3_member_185 q1954 q1956 rfl qs118 q1957 can_X3_type (Nat.le_of_ble_eq_true rfl) (ch_hw (Nat.le_of_ble_eq_true rfl)) ch_put_tag (cp_kI (v := p1.1) (w1 := ch_put m w p1.2) (fun Q' hq => s_X3_type hp2 hq) ?_))))))
      refine mp_iast dX3_member_188 mk_54 rfl h (fun σ3 h => ?_)
      obtain ⟨p4, hp5, h⟩ := ch_bd h
      refine ch_aload_n 0 (some m) dX3_member_189 rfl (mp_gA 55 dX3_member_190 fl_X3_125 rfl (ch_aload_n 0 (some m) dX3_member_193 rfl (mp_gI 53 dX3_member_194 fl_X3_406 rfl (ch_aload_n 0 (some m) dX3_member_197 rfl (ch_iv yX3_name prog_14_method_19_code 2 (some .int) (ci := 3) (q := (RX3, TX3, 109)) (b := m) (d' := 6) (av := []) (rest := [.int (σ3.1 fX3_parameters), va_rf (ch_mr m fX3_parameterId)]) rfl dX3_member_198 q1938 q1940 rfl qs114 q1941 can_X3_name (Nat.le_of_ble_eq_true rfl) (ch_hw (Nat.le_of_ble_eq_true rfl)) ch_put_tag (cp_kI (v := p4.1) (w1 := ch_put m w p4.2) (fun Q' hq => s_X3_name hp5 hq) ?_))))))
      refine mp_iast dX3_member_201 mk_55 rfl h (fun σ6 h => ?_)
      refine ch_aload_n 0 (some m) dX3_member_202 rfl (ch_dup dX3_member_203 (ch_cat _) (mp_gI 53 dX3_member_204 fl_X3_406 rfl (ch_iconst _ 1 dX3_member_207 rfl (ch_iadd _ _ dX3_member_208 (mp_pI (k := 53) dX3_member_209 fl_X3_406 rfl rfl rfl h (fun σ7 h => ?_))))))
      obtain ⟨v8, hp9, h⟩ := ch_bd h
      refine ch_aload_n 0 (some m) dX3_member_212 rfl (ch_bipush _ 44 dX3_member_213 rfl (ch_iv yX3_isSign prog_14_method_14_code 2 (some .boolean) (ci := 3) (q := (RX3, TX3, 109)) (b := m) (d' := 2) (av := [.int 44]) (rest := []) rfl dX3_member_215 q1942 q1944 rfl qs115 q1945 can_X3_isSign (Nat.le_of_ble_eq_true rfl) (Nat.le_of_ble_eq_true rfl) ch_put_tag (cp_kI (v := v8) (w1 := ch_put m w σ7) (fun Q' hq => s_X3_isSign hp9 hq) ?_)))
      refine ch_istore_n 3 _ (ls1 := [some (va_rf (some m)), some (.int x1), none, some (.int v8)]) dX3_member_218 (Nat.le_of_ble_eq_true rfl) rfl (ch_iload_n 3 _ dX3_member_219 rfl (cp_if_eq _ (tgt := 165) dX3_member_220 rfl h (fun h => ?_) (fun h => ?_)))
      · refine ch_FT.wk (ch_wS (ch_wS (ch_wN (ch_wS ch_w0)))) ?_
        obtain rfl := Option.some.inj h
        exact hk
      · obtain ⟨p10, hp11, h⟩ := ch_bd h
        refine ch_aload_n 0 (some m) dX3_member_223 rfl (ch_iv yX3_next prog_14_method_12_code 4 none (ci := 3) (q := (RX3, TX3, 109)) (b := m) (d' := 4) (av := []) (rest := []) rfl dX3_member_224 q1884 q1886 rfl qs105 q1887 can_X3_next (Nat.le_of_ble_eq_true rfl) (Nat.le_of_ble_eq_true rfl) ch_put_tag (cp_kV (w1 := ch_put m w p10) (fun Q' hq => s_X3_next hp11 hq) ?_))
        refine ch_goto 165 dX3_member_227 rfl (ch_FT.wk (ch_wS (ch_wS (ch_wN (ch_wS ch_w0)))) ?_)
        obtain rfl := Option.some.inj h
        exact hk
theorem sl_X3_member_165 {g : State} {m : Nat} {w : ch_W} {x1 : Int32} {a : Int32 × ch_S} {res : ch_S} {Q : Outcome → ch_W → Prop} (h : ch_loop (fun (s : Int32 × ch_S) => m_X3_member_165 x1 s.1 s.2) a = some res) (hk : (fun r => ch_eV Q (ch_put m w r)) res) : ch_FT g false mX3_member 530 165 [some (va_rf (some m)), some (.int x1), none, some (.int a.1)] [] (ch_put m w a.2) Q := by
  refine ch_loop_ind (fun (a : Int32 × ch_S) (r : ch_S) => (fun r => ch_eV Q (ch_put m w r)) r → ch_FT g false mX3_member 530 165 [some (va_rf (some m)), some (.int x1), none, some (.int a.1)] [] (ch_put m w a.2) Q) ?_ ?_ a res h hk
  · intro a a2 b h1 ih hk
    exact s_X3_member_165  h1 (ih hk)
  · intro a b h1 hk
    exact s_X3_member_165  h1 hk

def m_X3_member_92 (x1 : Int32) (y0 : Int32) (y1 : Int32) (σ : ch_S) : Option (ch_S) := (ch_bit y0).bind fun _ => (ch_mw σ fX3_isMethod y1 y0).bind fun σ1 => (ch_mw σ1 fX3_parameterFrom x1 (σ1.1 fX3_parameters)).bind fun σ2 => (ch_mw σ2 fX3_parameterFrom (x1 + 1) (σ2.1 fX3_parameters)).bind fun σ3 => (ch_ma σ3 fX3_isMethod x1).bind fun v4 => if v4 = 0 then ((m_X3_isSign 59 σ3).bind fun v11 => (m_X3_passes v11 σ3).bind fun p13 => some (p13.2)) else ((m_X3_isSign 40 σ3).bind fun v5 => (m_X3_opens v5 σ3).bind fun p7 => if p7.1 = 0 then (some (p7.2)) else ((m_X3_isSign 41 p7.2).bind fun v9 => if v9 = 0 then (ch_loop (fun (s : Int32 × ch_S) => m_X3_member_165 x1 s.1 s.2) (1, p7.2)) else (ch_loop (fun (s : Int32 × ch_S) => m_X3_member_165 x1 s.1 s.2) (0, p7.2))))
theorem s_X3_member_92 {g : State} {m : Nat} {w : ch_W} {x1 : Int32} {y0 : Int32} {y1 : Int32} {σ : ch_S} {res : ch_S} {Q : Outcome → ch_W → Prop} (h : m_X3_member_92 x1 y0 y1 σ = some res) (hk : (fun r => ch_eV Q (ch_put m w r)) res) : ch_FT g false mX3_member 530 92 [some (va_rf (some m)), some (.int x1), none, none] [.int y0, .int y1, va_rf (ch_mr m fX3_isMethod)] (ch_put m w σ) Q := by
  unfold m_X3_member_92 at h
  refine mp_zast dX3_member_92 mk_48 rfl h (fun σ1 h => ?_)
  refine ch_aload_n 0 (some m) dX3_member_93 rfl (mp_gA 49 dX3_member_94 fl_X3_110 rfl (ch_iload_n 1 _ dX3_member_97 rfl (ch_aload_n 0 (some m) dX3_member_98 rfl (mp_gI 53 dX3_member_99 fl_X3_406 rfl (mp_iast dX3_member_102 mk_49 rfl h (fun σ2 h => ?_))))))
  refine ch_aload_n 0 (some m) dX3_member_103 rfl (mp_gA 49 dX3_member_104 fl_X3_110 rfl (ch_iload_n 1 _ dX3_member_107 rfl (ch_iconst _ 1 dX3_member_108 rfl (ch_iadd _ _ dX3_member_109 (ch_aload_n 0 (some m) dX3_member_110 rfl (mp_gI 53 dX3_member_111 fl_X3_406 rfl (mp_iast dX3_member_114 mk_49 rfl h (fun σ3 h => ?_))))))))
  refine ch_aload_n 0 (some m) dX3_member_115 rfl (mp_gA 48 dX3_member_116 fl_X3_106 rfl (ch_iload_n 1 _ dX3_member_119 rfl (mp_zald dX3_member_120 mk_48 h (fun v4 h => ?_))))
  refine cp_if_ne _ (tgt := 136) dX3_member_121 rfl h (fun h => ?_) (fun h => ?_)
  · obtain ⟨v5, hp6, h⟩ := ch_bd h
    refine ch_aload_n 0 (some m) dX3_member_136 rfl (ch_aload_n 0 (some m) dX3_member_137 rfl (ch_bipush _ 40 dX3_member_138 rfl (ch_iv yX3_isSign prog_14_method_14_code 2 (some .boolean) (ci := 3) (q := (RX3, TX3, 109)) (b := m) (d' := 2) (av := [.int 40]) (rest := [va_rf (some m)]) rfl dX3_member_140 q1942 q1944 rfl qs115 q1945 can_X3_isSign (Nat.le_of_ble_eq_true rfl) (ch_hw (Nat.le_of_ble_eq_true rfl)) ch_put_tag (cp_kI (v := v5) (w1 := ch_put m w σ3) (fun Q' hq => s_X3_isSign hp6 hq) ?_))))
    obtain ⟨p7, hp8, h⟩ := ch_bd h
    refine ch_iv yX3_opens prog_14_method_17_code 3 (some .boolean) (ci := 3) (q := (RX3, TX3, 109)) (b := m) (d' := 5) (av := [.int v5]) (rest := []) rfl dX3_member_143 q1946 q1948 rfl qs116 q1949 can_X3_opens (Nat.le_of_ble_eq_true rfl) (Nat.le_of_ble_eq_true rfl) ch_put_tag (cp_kI (v := p7.1) (w1 := ch_put m w p7.2) (fun Q' hq => s_X3_opens hp8 hq) ?_)
    refine cp_if_ne _ (tgt := 150) dX3_member_146 rfl h (fun h => ?_) (fun h => ?_)
    · obtain ⟨v9, hp10, h⟩ := ch_bd h
      refine ch_aload_n 0 (some m) dX3_member_150 rfl (ch_bipush _ 41 dX3_member_151 rfl (ch_iv yX3_isSign prog_14_method_14_code 2 (some .boolean) (ci := 3) (q := (RX3, TX3, 109)) (b := m) (d' := 2) (av := [.int 41]) (rest := []) rfl dX3_member_153 q1942 q1944 rfl qs115 q1945 can_X3_isSign (Nat.le_of_ble_eq_true rfl) (Nat.le_of_ble_eq_true rfl) ch_put_tag (cp_kI (v := v9) (w1 := ch_put m w p7.2) (fun Q' hq => s_X3_isSign hp10 hq) ?_)))
      refine cp_if_ne _ (tgt := 163) dX3_member_156 rfl h (fun h => ?_) (fun h => ?_)
      · exact ch_iconst _ 0 dX3_member_163 rfl (ch_istore_n 3 _ (ls1 := [some (va_rf (some m)), some (.int x1), none, some (.int 0)]) dX3_member_164 (Nat.le_of_ble_eq_true rfl) rfl (ch_FT.wk (ch_wS (ch_wS (ch_wN (ch_wS ch_w0)))) (sl_X3_member_165  h hk)))
      · exact ch_iconst _ 1 dX3_member_159 rfl (ch_goto 164 dX3_member_160 rfl (ch_istore_n 3 _ (ls1 := [some (va_rf (some m)), some (.int x1), none, some (.int 1)]) dX3_member_164 (Nat.le_of_ble_eq_true rfl) rfl (ch_FT.wk (ch_wS (ch_wS (ch_wN (ch_wS ch_w0)))) (sl_X3_member_165  h hk))))
    · obtain rfl := Option.some.inj h
      exact ch_return dX3_member_149 rfl hk
  · obtain ⟨v11, hp12, h⟩ := ch_bd h
    refine ch_aload_n 0 (some m) dX3_member_124 rfl (ch_aload_n 0 (some m) dX3_member_125 rfl (ch_bipush _ 59 dX3_member_126 rfl (ch_iv yX3_isSign prog_14_method_14_code 2 (some .boolean) (ci := 3) (q := (RX3, TX3, 109)) (b := m) (d' := 2) (av := [.int 59]) (rest := [va_rf (some m)]) rfl dX3_member_128 q1942 q1944 rfl qs115 q1945 can_X3_isSign (Nat.le_of_ble_eq_true rfl) (ch_hw (Nat.le_of_ble_eq_true rfl)) ch_put_tag (cp_kI (v := v11) (w1 := ch_put m w σ3) (fun Q' hq => s_X3_isSign hp12 hq) ?_))))
    obtain ⟨p13, hp14, h⟩ := ch_bd h
    refine ch_iv yX3_passes prog_14_method_16_code 3 (some .boolean) (ci := 3) (q := (RX3, TX3, 109)) (b := m) (d' := 5) (av := [.int v11]) (rest := []) rfl dX3_member_131 q1926 q1928 rfl qs111 q1929 can_X3_passes (Nat.le_of_ble_eq_true rfl) (Nat.le_of_ble_eq_true rfl) ch_put_tag (cp_kI (v := p13.1) (w1 := ch_put m w p13.2) (fun Q' hq => s_X3_passes hp14 hq) ?_)
    obtain rfl := Option.some.inj h
    exact ch_istore_n 3 _ (ls1 := [some (va_rf (some m)), some (.int x1), none, some (.int p13.1)]) dX3_member_134 (Nat.le_of_ble_eq_true rfl) rfl (ch_return dX3_member_135 rfl hk)

def m_X3_member_87 (x1 : Int32) (y0 : Int32) (σ : ch_S) : Option (ch_S) := m_X3_member_92 x1 1 y0 σ
theorem s_X3_member_87 {g : State} {m : Nat} {w : ch_W} {x1 : Int32} {y0 : Int32} {σ : ch_S} {res : ch_S} {Q : Outcome → ch_W → Prop} (h : m_X3_member_87 x1 y0 σ = some res) (hk : (fun r => ch_eV Q (ch_put m w r)) res) : ch_FT g false mX3_member 530 87 [some (va_rf (some m)), some (.int x1), none, none] [.int y0, va_rf (ch_mr m fX3_isMethod)] (ch_put m w σ) Q := by
  unfold m_X3_member_87 at h
  exact ch_iconst _ 1 dX3_member_87 rfl (ch_goto 92 dX3_member_88 rfl (ch_FT.wk (ch_wS (ch_wS (ch_wN (ch_wN ch_w0)))) (s_X3_member_92  h hk)))

def m_X3_member_39 (x1 : Int32) (x2 : Int32)  (σ : ch_S) : Option (ch_S) := (ch_mw σ fX3_memberAt x1 (σ.1 fX3_wordFrom)).bind fun σ1 => (m_X3_name σ1).bind fun p2 => (ch_mw p2.2 fX3_memberId x1 p2.1).bind fun σ4 => (ch_mI σ4 fX3_members ((σ4.1 fX3_members) + 1)).bind fun σ5 => if x2 = 0 then ((m_X3_isSign 40 σ5).bind fun v6 => if v6 = 0 then (m_X3_member_92 x1 0 x1 σ5) else (m_X3_member_87 x1 x1 σ5)) else (m_X3_member_87 x1 x1 σ5)
theorem s_X3_member_39 {g : State} {m : Nat} {w : ch_W} {x1 : Int32} {x2 : Int32} {σ : ch_S} {res : ch_S} {Q : Outcome → ch_W → Prop} (h : m_X3_member_39 x1 x2 σ = some res) (hk : (fun r => ch_eV Q (ch_put m w r)) res) : ch_FT g false mX3_member 530 39 [some (va_rf (some m)), some (.int x1), some (.int x2), none] [] (ch_put m w σ) Q := by
  unfold m_X3_member_39 at h
  refine ch_aload_n 0 (some m) dX3_member_39 rfl (mp_gA 46 dX3_member_40 fl_X3_100 rfl (ch_iload_n 1 _ dX3_member_43 rfl (ch_aload_n 0 (some m) dX3_member_44 rfl (mp_gI 6 dX3_member_45 fl_X3_246 rfl (mp_iast dX3_member_48 mk_46 rfl h (fun σ1 h => ?_))))))
  obtain ⟨p2, hp3, h⟩ := ch_bd h
  refine ch_aload_n 0 (some m) dX3_member_49 rfl (mp_gA 45 dX3_member_50 fl_X3_97 rfl (ch_iload_n 1 _ dX3_member_53 rfl (ch_aload_n 0 (some m) dX3_member_54 rfl (ch_iv yX3_name prog_14_method_19_code 2 (some .int) (ci := 3) (q := (RX3, TX3, 109)) (b := m) (d' := 6) (av := []) (rest := [.int x1, va_rf (ch_mr m fX3_memberId)]) rfl dX3_member_55 q1938 q1940 rfl qs114 q1941 can_X3_name (Nat.le_of_ble_eq_true rfl) (ch_hw (Nat.le_of_ble_eq_true rfl)) ch_put_tag (cp_kI (v := p2.1) (w1 := ch_put m w p2.2) (fun Q' hq => s_X3_name hp3 hq) ?_)))))
  refine mp_iast dX3_member_58 mk_45 rfl h (fun σ4 h => ?_)
  refine ch_aload_n 0 (some m) dX3_member_59 rfl (ch_dup dX3_member_60 (ch_cat _) (mp_gI 44 dX3_member_61 fl_X3_403 rfl (ch_iconst _ 1 dX3_member_64 rfl (ch_iadd _ _ dX3_member_65 (mp_pI (k := 44) dX3_member_66 fl_X3_403 rfl rfl rfl h (fun σ5 h => ?_))))))
  refine ch_aload_n 0 (some m) dX3_member_69 rfl (mp_gA 48 dX3_member_70 fl_X3_106 rfl (ch_iload_n 1 _ dX3_member_73 rfl (ch_iload_n 2 _ dX3_member_74 rfl (cp_if_ne _ (tgt := 87) dX3_member_75 rfl h (fun h => ?_) (fun h => ?_)))))
  · exact ch_FT.wk (ch_wS (ch_wS (ch_wN (ch_wN ch_w0)))) (s_X3_member_87  h hk)
  · obtain ⟨v6, hp7, h⟩ := ch_bd h
    refine ch_aload_n 0 (some m) dX3_member_78 rfl (ch_bipush _ 40 dX3_member_79 rfl (ch_iv yX3_isSign prog_14_method_14_code 2 (some .boolean) (ci := 3) (q := (RX3, TX3, 109)) (b := m) (d' := 2) (av := [.int 40]) (rest := [.int x1, va_rf (ch_mr m fX3_isMethod)]) rfl dX3_member_81 q1942 q1944 rfl qs115 q1945 can_X3_isSign (Nat.le_of_ble_eq_true rfl) (ch_hw (Nat.le_of_ble_eq_true rfl)) ch_put_tag (cp_kI (v := v6) (w1 := ch_put m w σ5) (fun Q' hq => s_X3_isSign hp7 hq) ?_)))
    refine cp_if_eq _ (tgt := 91) dX3_member_84 rfl h (fun h => ?_) (fun h => ?_)
    · exact ch_iconst _ 0 dX3_member_91 rfl (ch_FT.wk (ch_wS (ch_wS (ch_wN (ch_wN ch_w0)))) (s_X3_member_92  h hk))
    · exact ch_FT.wk (ch_wS (ch_wS (ch_wN (ch_wN ch_w0)))) (s_X3_member_87  h hk)

def m_X3_member  (σ : ch_S) : Option (ch_S) := (m_X3_isKey 5 σ).bind fun v1 => (ch_mw σ fX3_memberType (σ.1 fX3_members) 3).bind fun σ3 => if v1 = 0 then ((m_X3_type σ3).bind fun p4 => (ch_mw p4.2 fX3_memberType (σ.1 fX3_members) p4.1).bind fun σ6 => m_X3_member_39 (σ.1 fX3_members) v1 σ6) else ((m_X3_next σ3).bind fun p7 => m_X3_member_39 (σ.1 fX3_members) v1 p7)
theorem s_X3_member {g : State} {m : Nat} {w : ch_W} {σ : ch_S} {res : ch_S} {Q : Outcome → ch_W → Prop} (h : m_X3_member  σ = some res) (hk : (fun r => ch_eV Q (ch_put m w r)) res) : ch_CT g false yX3_member 530 [.ref m] (ch_put m w σ) Q := by
  unfold m_X3_member at h
  refine ch_ctL mX3_member (ls := [some (va_rf (some m)), none, none, none]) q1953 rfl (ch_lyr (r := some m) ch_ly0) (Nat.le_of_ble_eq_true rfl) rfl ?_
  obtain ⟨v1, hp2, h⟩ := ch_bd h
  refine ch_aload_n 0 (some m) dX3_member_0 rfl (mp_gI 44 dX3_member_1 fl_X3_403 rfl (ch_istore_n 1 _ (ls1 := [some (va_rf (some m)), some (.int (σ.1 fX3_members)), none, none]) dX3_member_4 (Nat.le_of_ble_eq_true rfl) rfl (ch_aload_n 0 (some m) dX3_member_5 rfl (ch_iconst _ 5 dX3_member_6 rfl (ch_iv yX3_isKey prog_14_method_15_code 2 (some .boolean) (ci := 3) (q := (RX3, TX3, 109)) (b := m) (d' := 2) (av := [.int 5]) (rest := []) rfl dX3_member_7 q1922 q1924 rfl qs110 q1925 can_X3_isKey (Nat.le_of_ble_eq_true rfl) (Nat.le_of_ble_eq_true rfl) ch_put_tag (cp_kI (v := v1) (w1 := ch_put m w σ) (fun Q' hq => s_X3_isKey hp2 hq) ?_))))))
  refine ch_istore_n 2 _ (ls1 := [some (va_rf (some m)), some (.int (σ.1 fX3_members)), some (.int v1), none]) dX3_member_10 (Nat.le_of_ble_eq_true rfl) rfl (ch_aload_n 0 (some m) dX3_member_11 rfl (mp_gA 47 dX3_member_12 fl_X3_103 rfl (ch_iload_n 1 _ dX3_member_15 rfl (ch_iconst _ 3 dX3_member_16 rfl (mp_iast dX3_member_17 mk_47 rfl h (fun σ3 h => ?_))))))
  refine ch_iload_n 2 _ dX3_member_18 rfl (cp_if_eq _ (tgt := 29) dX3_member_19 rfl h (fun h => ?_) (fun h => ?_))
  · obtain ⟨p4, hp5, h⟩ := ch_bd h
    refine ch_aload_n 0 (some m) dX3_member_29 rfl (mp_gA 47 dX3_member_30 fl_X3_103 rfl (ch_iload_n 1 _ dX3_member_33 rfl (ch_aload_n 0 (some m) dX3_member_34 rfl (ch_iv yX3_type prog_14_method_35_code 3 (some .int) (ci := 3) (q := (RX3, TX3, 109)) (b := m) (d' := 6) (av := []) (rest := [.int (σ.1 fX3_members), va_rf (ch_mr m fX3_memberType)]) rfl dX3_member_35 q1954 q1956 rfl qs118 q1957 can_X3_type (Nat.le_of_ble_eq_true rfl) (ch_hw (Nat.le_of_ble_eq_true rfl)) ch_put_tag (cp_kI (v := p4.1) (w1 := ch_put m w p4.2) (fun Q' hq => s_X3_type hp5 hq) ?_)))))
    refine mp_iast dX3_member_38 mk_47 rfl h (fun σ6 h => ?_)
    exact ch_FT.wk (ch_wS (ch_wS (ch_wS (ch_wN ch_w0)))) (s_X3_member_39  h hk)
  · obtain ⟨p7, hp8, h⟩ := ch_bd h
    refine ch_aload_n 0 (some m) dX3_member_22 rfl (ch_iv yX3_next prog_14_method_12_code 4 none (ci := 3) (q := (RX3, TX3, 109)) (b := m) (d' := 4) (av := []) (rest := []) rfl dX3_member_23 q1884 q1886 rfl qs105 q1887 can_X3_next (Nat.le_of_ble_eq_true rfl) (Nat.le_of_ble_eq_true rfl) ch_put_tag (cp_kV (w1 := ch_put m w p7) (fun Q' hq => s_X3_next hp8 hq) ?_))
    exact ch_goto 39 dX3_member_26 rfl (ch_FT.wk (ch_wS (ch_wS (ch_wS (ch_wN ch_w0)))) (s_X3_member_39  h hk))

theorem bX3_readClass_0 : ch_ck cX3_readClass 0 [42, 180, 1, 141, 60, 42, 180, 0, 82, 27, 42, 180, 0, 246, 79, 42] := ch_ckof (by decide +kernel)
theorem bX3_readClass_1 : ch_ck cX3_readClass 16 [180, 0, 79, 27, 42, 182, 1, 77, 79, 42, 180, 0, 85, 27, 2, 79] := ch_ckof (by decide +kernel)
theorem bX3_readClass_2 : ch_ck cX3_readClass 32 [42, 16, 58, 182, 1, 39, 153, 0, 17, 42, 182, 1, 33, 42, 180, 0] := ch_ckof (by decide +kernel)
theorem bX3_readClass_3 : ch_ck cX3_readClass 48 [85, 27, 42, 182, 1, 77, 79, 42, 89, 180, 1, 141, 4, 96, 181, 1] := ch_ckof (by decide +kernel)
theorem bX3_readClass_4 : ch_ck cX3_readClass 64 [141, 42, 42, 16, 123, 182, 1, 39, 182, 1, 83, 154, 0, 4, 177, 42] := ch_ckof (by decide +kernel)
theorem bX3_readClass_5 : ch_ck cX3_readClass 80 [180, 1, 27, 156, 0, 19, 42, 16, 125, 182, 1, 39, 154, 0, 10, 42] := ch_ckof (by decide +kernel)
theorem bX3_readClass_6 : ch_ck cX3_readClass 96 [182, 1, 144, 167, 255, 236, 42, 16, 125, 182, 1, 96, 42, 180, 0, 94] := ch_ckof (by decide +kernel)
theorem bX3_readClass_7 : ch_ck cX3_readClass 112 [42, 180, 1, 141, 42, 180, 1, 147, 79, 177] := ch_ckof (by decide +kernel)
theorem dX3_readClass_0 : decode cX3_readClass 0 = .ok (.aload_n 0, 1) := dz_42 (bX3_readClass_0 0 _ rfl)
theorem dX3_readClass_1 : decode cX3_readClass 1 = .ok (.getfield 397, 3) := dz_180 (bX3_readClass_0 1 _ rfl) (bX3_readClass_0 2 _ rfl) (bX3_readClass_0 3 _ rfl)
theorem dX3_readClass_4 : decode cX3_readClass 4 = .ok (.istore_n 1, 1) := dz_60 (bX3_readClass_0 4 _ rfl)
theorem dX3_readClass_5 : decode cX3_readClass 5 = .ok (.aload_n 0, 1) := dz_42 (bX3_readClass_0 5 _ rfl)
theorem dX3_readClass_6 : decode cX3_readClass 6 = .ok (.getfield 82, 3) := dz_180 (bX3_readClass_0 6 _ rfl) (bX3_readClass_0 7 _ rfl) (bX3_readClass_0 8 _ rfl)
theorem dX3_readClass_9 : decode cX3_readClass 9 = .ok (.iload_n 1, 1) := dz_27 (bX3_readClass_0 9 _ rfl)
theorem dX3_readClass_10 : decode cX3_readClass 10 = .ok (.aload_n 0, 1) := dz_42 (bX3_readClass_0 10 _ rfl)
theorem dX3_readClass_11 : decode cX3_readClass 11 = .ok (.getfield 246, 3) := dz_180 (bX3_readClass_0 11 _ rfl) (bX3_readClass_0 12 _ rfl) (bX3_readClass_0 13 _ rfl)
theorem dX3_readClass_14 : decode cX3_readClass 14 = .ok (.iastore, 1) := dz_79 (bX3_readClass_0 14 _ rfl)
theorem dX3_readClass_15 : decode cX3_readClass 15 = .ok (.aload_n 0, 1) := dz_42 (bX3_readClass_0 15 _ rfl)
theorem dX3_readClass_16 : decode cX3_readClass 16 = .ok (.getfield 79, 3) := dz_180 (bX3_readClass_1 0 _ rfl) (bX3_readClass_1 1 _ rfl) (bX3_readClass_1 2 _ rfl)
theorem dX3_readClass_19 : decode cX3_readClass 19 = .ok (.iload_n 1, 1) := dz_27 (bX3_readClass_1 3 _ rfl)
theorem dX3_readClass_20 : decode cX3_readClass 20 = .ok (.aload_n 0, 1) := dz_42 (bX3_readClass_1 4 _ rfl)
theorem dX3_readClass_21 : decode cX3_readClass 21 = .ok (.invokevirtual 333, 3) := dz_182 (bX3_readClass_1 5 _ rfl) (bX3_readClass_1 6 _ rfl) (bX3_readClass_1 7 _ rfl)
theorem dX3_readClass_24 : decode cX3_readClass 24 = .ok (.iastore, 1) := dz_79 (bX3_readClass_1 8 _ rfl)
theorem dX3_readClass_25 : decode cX3_readClass 25 = .ok (.aload_n 0, 1) := dz_42 (bX3_readClass_1 9 _ rfl)
theorem dX3_readClass_26 : decode cX3_readClass 26 = .ok (.getfield 85, 3) := dz_180 (bX3_readClass_1 10 _ rfl) (bX3_readClass_1 11 _ rfl) (bX3_readClass_1 12 _ rfl)
theorem dX3_readClass_29 : decode cX3_readClass 29 = .ok (.iload_n 1, 1) := dz_27 (bX3_readClass_1 13 _ rfl)
theorem dX3_readClass_30 : decode cX3_readClass 30 = .ok (.iconst (-1), 1) := dz_2 (bX3_readClass_1 14 _ rfl)
theorem dX3_readClass_31 : decode cX3_readClass 31 = .ok (.iastore, 1) := dz_79 (bX3_readClass_1 15 _ rfl)
theorem dX3_readClass_32 : decode cX3_readClass 32 = .ok (.aload_n 0, 1) := dz_42 (bX3_readClass_2 0 _ rfl)
theorem dX3_readClass_33 : decode cX3_readClass 33 = .ok (.bipush 58, 2) := dz_16 (bX3_readClass_2 1 _ rfl) (bX3_readClass_2 2 _ rfl)
theorem dX3_readClass_35 : decode cX3_readClass 35 = .ok (.invokevirtual 295, 3) := dz_182 (bX3_readClass_2 3 _ rfl) (bX3_readClass_2 4 _ rfl) (bX3_readClass_2 5 _ rfl)
theorem dX3_readClass_38 : decode cX3_readClass 38 = .ok (.ifCond .eq 17, 3) := dz_153 (bX3_readClass_2 6 _ rfl) (bX3_readClass_2 7 _ rfl) (bX3_readClass_2 8 _ rfl)
theorem dX3_readClass_41 : decode cX3_readClass 41 = .ok (.aload_n 0, 1) := dz_42 (bX3_readClass_2 9 _ rfl)
theorem dX3_readClass_42 : decode cX3_readClass 42 = .ok (.invokevirtual 289, 3) := dz_182 (bX3_readClass_2 10 _ rfl) (bX3_readClass_2 11 _ rfl) (bX3_readClass_2 12 _ rfl)
theorem dX3_readClass_45 : decode cX3_readClass 45 = .ok (.aload_n 0, 1) := dz_42 (bX3_readClass_2 13 _ rfl)
theorem dX3_readClass_46 : decode cX3_readClass 46 = .ok (.getfield 85, 3) := dz_180 (bX3_readClass_2 14 _ rfl) (bX3_readClass_2 15 _ rfl) (bX3_readClass_3 0 _ rfl)
theorem dX3_readClass_49 : decode cX3_readClass 49 = .ok (.iload_n 1, 1) := dz_27 (bX3_readClass_3 1 _ rfl)
theorem dX3_readClass_50 : decode cX3_readClass 50 = .ok (.aload_n 0, 1) := dz_42 (bX3_readClass_3 2 _ rfl)
theorem dX3_readClass_51 : decode cX3_readClass 51 = .ok (.invokevirtual 333, 3) := dz_182 (bX3_readClass_3 3 _ rfl) (bX3_readClass_3 4 _ rfl) (bX3_readClass_3 5 _ rfl)
theorem dX3_readClass_54 : decode cX3_readClass 54 = .ok (.iastore, 1) := dz_79 (bX3_readClass_3 6 _ rfl)
theorem dX3_readClass_55 : decode cX3_readClass 55 = .ok (.aload_n 0, 1) := dz_42 (bX3_readClass_3 7 _ rfl)
theorem dX3_readClass_56 : decode cX3_readClass 56 = .ok (.dup, 1) := dz_89 (bX3_readClass_3 8 _ rfl)
theorem dX3_readClass_57 : decode cX3_readClass 57 = .ok (.getfield 397, 3) := dz_180 (bX3_readClass_3 9 _ rfl) (bX3_readClass_3 10 _ rfl) (bX3_readClass_3 11 _ rfl)
theorem dX3_readClass_60 : decode cX3_readClass 60 = .ok (.iconst 1, 1) := dz_4 (bX3_readClass_3 12 _ rfl)
theorem dX3_readClass_61 : decode cX3_readClass 61 = .ok (.iadd, 1) := dz_96 (bX3_readClass_3 13 _ rfl)
theorem dX3_readClass_62 : decode cX3_readClass 62 = .ok (.putfield 397, 3) := dz_181 (bX3_readClass_3 14 _ rfl) (bX3_readClass_3 15 _ rfl) (bX3_readClass_4 0 _ rfl)
theorem dX3_readClass_65 : decode cX3_readClass 65 = .ok (.aload_n 0, 1) := dz_42 (bX3_readClass_4 1 _ rfl)
theorem dX3_readClass_66 : decode cX3_readClass 66 = .ok (.aload_n 0, 1) := dz_42 (bX3_readClass_4 2 _ rfl)
theorem dX3_readClass_67 : decode cX3_readClass 67 = .ok (.bipush 123, 2) := dz_16 (bX3_readClass_4 3 _ rfl) (bX3_readClass_4 4 _ rfl)
theorem dX3_readClass_69 : decode cX3_readClass 69 = .ok (.invokevirtual 295, 3) := dz_182 (bX3_readClass_4 5 _ rfl) (bX3_readClass_4 6 _ rfl) (bX3_readClass_4 7 _ rfl)
theorem dX3_readClass_72 : decode cX3_readClass 72 = .ok (.invokevirtual 339, 3) := dz_182 (bX3_readClass_4 8 _ rfl) (bX3_readClass_4 9 _ rfl) (bX3_readClass_4 10 _ rfl)
theorem dX3_readClass_75 : decode cX3_readClass 75 = .ok (.ifCond .ne 4, 3) := dz_154 (bX3_readClass_4 11 _ rfl) (bX3_readClass_4 12 _ rfl) (bX3_readClass_4 13 _ rfl)
theorem dX3_readClass_78 : decode cX3_readClass 78 = .ok (.return_, 1) := dz_177 (bX3_readClass_4 14 _ rfl)
theorem dX3_readClass_79 : decode cX3_readClass 79 = .ok (.aload_n 0, 1) := dz_42 (bX3_readClass_4 15 _ rfl)
theorem dX3_readClass_80 : decode cX3_readClass 80 = .ok (.getfield 283, 3) := dz_180 (bX3_readClass_5 0 _ rfl) (bX3_readClass_5 1 _ rfl) (bX3_readClass_5 2 _ rfl)
theorem dX3_readClass_83 : decode cX3_readClass 83 = .ok (.ifCond .ge 19, 3) := dz_156 (bX3_readClass_5 3 _ rfl) (bX3_readClass_5 4 _ rfl) (bX3_readClass_5 5 _ rfl)
theorem dX3_readClass_86 : decode cX3_readClass 86 = .ok (.aload_n 0, 1) := dz_42 (bX3_readClass_5 6 _ rfl)
theorem dX3_readClass_87 : decode cX3_readClass 87 = .ok (.bipush 125, 2) := dz_16 (bX3_readClass_5 7 _ rfl) (bX3_readClass_5 8 _ rfl)
theorem dX3_readClass_89 : decode cX3_readClass 89 = .ok (.invokevirtual 295, 3) := dz_182 (bX3_readClass_5 9 _ rfl) (bX3_readClass_5 10 _ rfl) (bX3_readClass_5 11 _ rfl)
theorem dX3_readClass_92 : decode cX3_readClass 92 = .ok (.ifCond .ne 10, 3) := dz_154 (bX3_readClass_5 12 _ rfl) (bX3_readClass_5 13 _ rfl) (bX3_readClass_5 14 _ rfl)
theorem dX3_readClass_95 : decode cX3_readClass 95 = .ok (.aload_n 0, 1) := dz_42 (bX3_readClass_5 15 _ rfl)
theorem dX3_readClass_96 : decode cX3_readClass 96 = .ok (.invokevirtual 400, 3) := dz_182 (bX3_readClass_6 0 _ rfl) (bX3_readClass_6 1 _ rfl) (bX3_readClass_6 2 _ rfl)
theorem dX3_readClass_99 : decode cX3_readClass 99 = .ok (.goto (-20), 3) := dz_167 (bX3_readClass_6 3 _ rfl) (bX3_readClass_6 4 _ rfl) (bX3_readClass_6 5 _ rfl)
theorem dX3_readClass_102 : decode cX3_readClass 102 = .ok (.aload_n 0, 1) := dz_42 (bX3_readClass_6 6 _ rfl)
theorem dX3_readClass_103 : decode cX3_readClass 103 = .ok (.bipush 125, 2) := dz_16 (bX3_readClass_6 7 _ rfl) (bX3_readClass_6 8 _ rfl)
theorem dX3_readClass_105 : decode cX3_readClass 105 = .ok (.invokevirtual 352, 3) := dz_182 (bX3_readClass_6 9 _ rfl) (bX3_readClass_6 10 _ rfl) (bX3_readClass_6 11 _ rfl)
theorem dX3_readClass_108 : decode cX3_readClass 108 = .ok (.aload_n 0, 1) := dz_42 (bX3_readClass_6 12 _ rfl)
theorem dX3_readClass_109 : decode cX3_readClass 109 = .ok (.getfield 94, 3) := dz_180 (bX3_readClass_6 13 _ rfl) (bX3_readClass_6 14 _ rfl) (bX3_readClass_6 15 _ rfl)
theorem dX3_readClass_112 : decode cX3_readClass 112 = .ok (.aload_n 0, 1) := dz_42 (bX3_readClass_7 0 _ rfl)
theorem dX3_readClass_113 : decode cX3_readClass 113 = .ok (.getfield 397, 3) := dz_180 (bX3_readClass_7 1 _ rfl) (bX3_readClass_7 2 _ rfl) (bX3_readClass_7 3 _ rfl)
theorem dX3_readClass_116 : decode cX3_readClass 116 = .ok (.aload_n 0, 1) := dz_42 (bX3_readClass_7 4 _ rfl)
theorem dX3_readClass_117 : decode cX3_readClass 117 = .ok (.getfield 403, 3) := dz_180 (bX3_readClass_7 5 _ rfl) (bX3_readClass_7 6 _ rfl) (bX3_readClass_7 7 _ rfl)
theorem dX3_readClass_120 : decode cX3_readClass 120 = .ok (.iastore, 1) := dz_79 (bX3_readClass_7 8 _ rfl)
theorem dX3_readClass_121 : decode cX3_readClass 121 = .ok (.return_, 1) := dz_177 (bX3_readClass_7 9 _ rfl)
def m_X3_readClass_102   (σ : ch_S) : Option (ch_S) := (m_X3_closes 125 σ).bind fun p1 => (ch_mw p1 fX3_memberFrom (p1.1 fX3_classes) (p1.1 fX3_members)).bind fun σ3 => some (σ3)
theorem s_X3_readClass_102 {g : State} {m : Nat} {w : ch_W} {σ : ch_S} {res : ch_S} {Q : Outcome → ch_W → Prop} (h : m_X3_readClass_102  σ = some res) (hk : (fun r => ch_eV Q (ch_put m w r)) res) : ch_FT g false mX3_readClass 531 102 [some (va_rf (some m)), none] [] (ch_put m w σ) Q := by
  unfold m_X3_readClass_102 at h
  obtain ⟨p1, hp2, h⟩ := ch_bd h
  refine ch_aload_n 0 (some m) dX3_readClass_102 rfl (ch_bipush _ 125 dX3_readClass_103 rfl (ch_iv yX3_closes prog_14_method_18_code 2 none (ci := 3) (q := (RX3, TX3, 109)) (b := m) (d' := 6) (av := [.int 125]) (rest := []) rfl dX3_readClass_105 q1962 q1964 rfl qs120 q1965 can_X3_closes (Nat.le_of_ble_eq_true rfl) (Nat.le_of_ble_eq_true rfl) ch_put_tag (cp_kV (w1 := ch_put m w p1) (fun Q' hq => s_X3_closes hp2 hq) ?_)))
  refine ch_aload_n 0 (some m) dX3_readClass_108 rfl (mp_gA 43 dX3_readClass_109 fl_X3_94 rfl (ch_aload_n 0 (some m) dX3_readClass_112 rfl (mp_gI 37 dX3_readClass_113 fl_X3_397 rfl (ch_aload_n 0 (some m) dX3_readClass_116 rfl (mp_gI 44 dX3_readClass_117 fl_X3_403 rfl (mp_iast dX3_readClass_120 mk_43 rfl h (fun σ3 h => ?_)))))))
  obtain rfl := Option.some.inj h
  exact ch_return dX3_readClass_121 rfl hk

def m_X3_readClass_79   (σ : ch_S) : Option (ch_S ⊕ (ch_S)) := if (σ.1 fX3_wrong) < 0 then ((m_X3_isSign 125 σ).bind fun v1 => if v1 = 0 then ((m_X3_member σ).bind fun p3 => some (.inl (p3))) else ((m_X3_readClass_102 σ).bind fun r => some (.inr (r)))) else ((m_X3_readClass_102 σ).bind fun r => some (.inr (r)))
theorem s_X3_readClass_79 {g : State} {m : Nat} {w : ch_W} {σ : ch_S} {res : ch_S ⊕ (ch_S)} {Q : Outcome → ch_W → Prop} (h : m_X3_readClass_79  σ = some res) (hk : (ch_sm (fun s => ch_FT g false mX3_readClass 531 79 [some (va_rf (some m)), none] [] (ch_put m w s) Q) (fun r => ch_eV Q (ch_put m w r))) res) : ch_FT g false mX3_readClass 531 79 [some (va_rf (some m)), none] [] (ch_put m w σ) Q := by
  unfold m_X3_readClass_79 at h
  refine ch_aload_n 0 (some m) dX3_readClass_79 rfl (mp_gI 9 dX3_readClass_80 fl_X3_283 rfl (cp_if_ge _ (tgt := 102) dX3_readClass_83 rfl h (fun h => ?_) (fun h => ?_)))
  · obtain ⟨r, hr, h⟩ := ch_bd h
    obtain rfl := Option.some.inj h
    exact ch_FT.wk (ch_wS (ch_wN ch_w0)) (s_X3_readClass_102  hr hk)
  · obtain ⟨v1, hp2, h⟩ := ch_bd h
    refine ch_aload_n 0 (some m) dX3_readClass_86 rfl (ch_bipush _ 125 dX3_readClass_87 rfl (ch_iv yX3_isSign prog_14_method_14_code 2 (some .boolean) (ci := 3) (q := (RX3, TX3, 109)) (b := m) (d' := 2) (av := [.int 125]) (rest := []) rfl dX3_readClass_89 q1942 q1944 rfl qs115 q1945 can_X3_isSign (Nat.le_of_ble_eq_true rfl) (Nat.le_of_ble_eq_true rfl) ch_put_tag (cp_kI (v := v1) (w1 := ch_put m w σ) (fun Q' hq => s_X3_isSign hp2 hq) ?_)))
    refine cp_if_ne _ (tgt := 102) dX3_readClass_92 rfl h (fun h => ?_) (fun h => ?_)
    · obtain ⟨r, hr, h⟩ := ch_bd h
      obtain rfl := Option.some.inj h
      exact ch_FT.wk (ch_wS (ch_wN ch_w0)) (s_X3_readClass_102  hr hk)
    · obtain ⟨p3, hp4, h⟩ := ch_bd h
      refine ch_aload_n 0 (some m) dX3_readClass_95 rfl (ch_iv yX3_member prog_14_method_41_code 4 none (ci := 3) (q := (RX3, TX3, 109)) (b := m) (d' := 530) (av := []) (rest := []) rfl dX3_readClass_96 q1950 q1952 rfl qs117 q1953 can_X3_member (Nat.le_of_ble_eq_true rfl) (Nat.le_of_ble_eq_true rfl) ch_put_tag (cp_kV (w1 := ch_put m w p3) (fun Q' hq => s_X3_member hp4 hq) ?_))
      refine ch_goto 79 dX3_readClass_99 rfl (ch_FT.wk (ch_wS (ch_wN ch_w0)) ?_)
      obtain rfl := Option.some.inj h
      exact hk
theorem sl_X3_readClass_79 {g : State} {m : Nat} {w : ch_W} {a : ch_S} {res : ch_S} {Q : Outcome → ch_W → Prop} (h : ch_loop (fun (s : ch_S) => m_X3_readClass_79 s) a = some res) (hk : (fun r => ch_eV Q (ch_put m w r)) res) : ch_FT g false mX3_readClass 531 79 [some (va_rf (some m)), none] [] (ch_put m w a) Q := by
  refine ch_loop_ind (fun (a : ch_S) (r : ch_S) => (fun r => ch_eV Q (ch_put m w r)) r → ch_FT g false mX3_readClass 531 79 [some (va_rf (some m)), none] [] (ch_put m w a) Q) ?_ ?_ a res h hk
  · intro a a2 b h1 ih hk
    exact s_X3_readClass_79  h1 (ih hk)
  · intro a b h1 hk
    exact s_X3_readClass_79  h1 hk

def m_X3_readClass_55   (σ : ch_S) : Option (ch_S) := (ch_mI σ fX3_classes ((σ.1 fX3_classes) + 1)).bind fun σ1 => (m_X3_isSign 123 σ1).bind fun v2 => (m_X3_opens v2 σ1).bind fun p4 => if p4.1 = 0 then (some (p4.2)) else (ch_loop (fun (s : ch_S) => m_X3_readClass_79 s) (p4.2))
theorem s_X3_readClass_55 {g : State} {m : Nat} {w : ch_W} {σ : ch_S} {res : ch_S} {Q : Outcome → ch_W → Prop} (h : m_X3_readClass_55  σ = some res) (hk : (fun r => ch_eV Q (ch_put m w r)) res) : ch_FT g false mX3_readClass 531 55 [some (va_rf (some m)), none] [] (ch_put m w σ) Q := by
  unfold m_X3_readClass_55 at h
  refine ch_aload_n 0 (some m) dX3_readClass_55 rfl (ch_dup dX3_readClass_56 (ch_cat _) (mp_gI 37 dX3_readClass_57 fl_X3_397 rfl (ch_iconst _ 1 dX3_readClass_60 rfl (ch_iadd _ _ dX3_readClass_61 (mp_pI (k := 37) dX3_readClass_62 fl_X3_397 rfl rfl rfl h (fun σ1 h => ?_))))))
  obtain ⟨v2, hp3, h⟩ := ch_bd h
  refine ch_aload_n 0 (some m) dX3_readClass_65 rfl (ch_aload_n 0 (some m) dX3_readClass_66 rfl (ch_bipush _ 123 dX3_readClass_67 rfl (ch_iv yX3_isSign prog_14_method_14_code 2 (some .boolean) (ci := 3) (q := (RX3, TX3, 109)) (b := m) (d' := 2) (av := [.int 123]) (rest := [va_rf (some m)]) rfl dX3_readClass_69 q1942 q1944 rfl qs115 q1945 can_X3_isSign (Nat.le_of_ble_eq_true rfl) (ch_hw (Nat.le_of_ble_eq_true rfl)) ch_put_tag (cp_kI (v := v2) (w1 := ch_put m w σ1) (fun Q' hq => s_X3_isSign hp3 hq) ?_))))
  obtain ⟨p4, hp5, h⟩ := ch_bd h
  refine ch_iv yX3_opens prog_14_method_17_code 3 (some .boolean) (ci := 3) (q := (RX3, TX3, 109)) (b := m) (d' := 5) (av := [.int v2]) (rest := []) rfl dX3_readClass_72 q1946 q1948 rfl qs116 q1949 can_X3_opens (Nat.le_of_ble_eq_true rfl) (Nat.le_of_ble_eq_true rfl) ch_put_tag (cp_kI (v := p4.1) (w1 := ch_put m w p4.2) (fun Q' hq => s_X3_opens hp5 hq) ?_)
  refine cp_if_ne _ (tgt := 79) dX3_readClass_75 rfl h (fun h => ?_) (fun h => ?_)
  · exact ch_FT.wk (ch_wS (ch_wN ch_w0)) (sl_X3_readClass_79  h hk)
  · obtain rfl := Option.some.inj h
    exact ch_return dX3_readClass_78 rfl hk

def m_X3_readClass  (σ : ch_S) : Option (ch_S) := (ch_mw σ fX3_classAt (σ.1 fX3_classes) (σ.1 fX3_wordFrom)).bind fun σ1 => (m_X3_name σ1).bind fun p2 => (ch_mw p2.2 fX3_classId (σ.1 fX3_classes) p2.1).bind fun σ4 => (ch_mw σ4 fX3_parentId (σ.1 fX3_classes) (-1)).bind fun σ5 => (m_X3_isSign 58 σ5).bind fun v6 => if v6 = 0 then (m_X3_readClass_55 σ5) else ((m_X3_next σ5).bind fun p8 => (m_X3_name p8).bind fun p10 => (ch_mw p10.2 fX3_parentId (σ.1 fX3_classes) p10.1).bind fun σ12 => m_X3_readClass_55 σ12)
theorem s_X3_readClass {g : State} {m : Nat} {w : ch_W} {σ : ch_S} {res : ch_S} {Q : Outcome → ch_W → Prop} (h : m_X3_readClass  σ = some res) (hk : (fun r => ch_eV Q (ch_put m w r)) res) : ch_CT g false yX3_readClass 531 [.ref m] (ch_put m w σ) Q := by
  unfold m_X3_readClass at h
  refine ch_ctL mX3_readClass (ls := [some (va_rf (some m)), none]) q1937 rfl (ch_lyr (r := some m) ch_ly0) (Nat.le_of_ble_eq_true rfl) rfl ?_
  refine ch_aload_n 0 (some m) dX3_readClass_0 rfl (mp_gI 37 dX3_readClass_1 fl_X3_397 rfl (ch_istore_n 1 _ (ls1 := [some (va_rf (some m)), some (.int (σ.1 fX3_classes))]) dX3_readClass_4 (Nat.le_of_ble_eq_true rfl) rfl (ch_aload_n 0 (some m) dX3_readClass_5 rfl (mp_gA 39 dX3_readClass_6 fl_X3_82 rfl (ch_iload_n 1 _ dX3_readClass_9 rfl (ch_aload_n 0 (some m) dX3_readClass_10 rfl (mp_gI 6 dX3_readClass_11 fl_X3_246 rfl (?_))))))))
  refine mp_iast dX3_readClass_14 mk_39 rfl h (fun σ1 h => ?_)
  obtain ⟨p2, hp3, h⟩ := ch_bd h
  refine ch_aload_n 0 (some m) dX3_readClass_15 rfl (mp_gA 38 dX3_readClass_16 fl_X3_79 rfl (ch_iload_n 1 _ dX3_readClass_19 rfl (ch_aload_n 0 (some m) dX3_readClass_20 rfl (ch_iv yX3_name prog_14_method_19_code 2 (some .int) (ci := 3) (q := (RX3, TX3, 109)) (b := m) (d' := 6) (av := []) (rest := [.int (σ.1 fX3_classes), va_rf (ch_mr m fX3_classId)]) rfl dX3_readClass_21 q1938 q1940 rfl qs114 q1941 can_X3_name (Nat.le_of_ble_eq_true rfl) (ch_hw (Nat.le_of_ble_eq_true rfl)) ch_put_tag (cp_kI (v := p2.1) (w1 := ch_put m w p2.2) (fun Q' hq => s_X3_name hp3 hq) ?_)))))
  refine mp_iast dX3_readClass_24 mk_38 rfl h (fun σ4 h => ?_)
  refine ch_aload_n 0 (some m) dX3_readClass_25 rfl (mp_gA 40 dX3_readClass_26 fl_X3_85 rfl (ch_iload_n 1 _ dX3_readClass_29 rfl (ch_iconst _ (-1) dX3_readClass_30 rfl (mp_iast dX3_readClass_31 mk_40 rfl h (fun σ5 h => ?_)))))
  obtain ⟨v6, hp7, h⟩ := ch_bd h
  refine ch_aload_n 0 (some m) dX3_readClass_32 rfl (ch_bipush _ 58 dX3_readClass_33 rfl (ch_iv yX3_isSign prog_14_method_14_code 2 (some .boolean) (ci := 3) (q := (RX3, TX3, 109)) (b := m) (d' := 2) (av := [.int 58]) (rest := []) rfl dX3_readClass_35 q1942 q1944 rfl qs115 q1945 can_X3_isSign (Nat.le_of_ble_eq_true rfl) (Nat.le_of_ble_eq_true rfl) ch_put_tag (cp_kI (v := v6) (w1 := ch_put m w σ5) (fun Q' hq => s_X3_isSign hp7 hq) ?_)))
  refine cp_if_eq _ (tgt := 55) dX3_readClass_38 rfl h (fun h => ?_) (fun h => ?_)
  · exact ch_FT.wk (ch_wS (ch_wN ch_w0)) (s_X3_readClass_55  h hk)
  · obtain ⟨p8, hp9, h⟩ := ch_bd h
    refine ch_aload_n 0 (some m) dX3_readClass_41 rfl (ch_iv yX3_next prog_14_method_12_code 4 none (ci := 3) (q := (RX3, TX3, 109)) (b := m) (d' := 4) (av := []) (rest := []) rfl dX3_readClass_42 q1884 q1886 rfl qs105 q1887 can_X3_next (Nat.le_of_ble_eq_true rfl) (Nat.le_of_ble_eq_true rfl) ch_put_tag (cp_kV (w1 := ch_put m w p8) (fun Q' hq => s_X3_next hp9 hq) ?_))
    obtain ⟨p10, hp11, h⟩ := ch_bd h
    refine ch_aload_n 0 (some m) dX3_readClass_45 rfl (mp_gA 40 dX3_readClass_46 fl_X3_85 rfl (ch_iload_n 1 _ dX3_readClass_49 rfl (ch_aload_n 0 (some m) dX3_readClass_50 rfl (ch_iv yX3_name prog_14_method_19_code 2 (some .int) (ci := 3) (q := (RX3, TX3, 109)) (b := m) (d' := 6) (av := []) (rest := [.int (σ.1 fX3_classes), va_rf (ch_mr m fX3_parentId)]) rfl dX3_readClass_51 q1938 q1940 rfl qs114 q1941 can_X3_name (Nat.le_of_ble_eq_true rfl) (ch_hw (Nat.le_of_ble_eq_true rfl)) ch_put_tag (cp_kI (v := p10.1) (w1 := ch_put m w p10.2) (fun Q' hq => s_X3_name hp11 hq) ?_)))))
    refine mp_iast dX3_readClass_54 mk_40 rfl h (fun σ12 h => ?_)
    exact ch_FT.wk (ch_wS (ch_wN ch_w0)) (s_X3_readClass_55  h hk)

theorem bX3_classOf_0 : ch_ck cX3_classOf 0 [3, 61, 28, 42, 180, 1, 141, 162, 0, 21, 42, 180, 0, 79, 28, 46] := ch_ckof (by decide +kernel)
theorem bX3_classOf_1 : ch_ck cX3_classOf 16 [27, 160, 0, 5, 28, 172, 132, 2, 1, 167, 255, 233, 2, 172] := ch_ckof (by decide +kernel)
theorem dX3_classOf_0 : decode cX3_classOf 0 = .ok (.iconst 0, 1) := dz_3 (bX3_classOf_0 0 _ rfl)
theorem dX3_classOf_1 : decode cX3_classOf 1 = .ok (.istore_n 2, 1) := dz_61 (bX3_classOf_0 1 _ rfl)
theorem dX3_classOf_2 : decode cX3_classOf 2 = .ok (.iload_n 2, 1) := dz_28 (bX3_classOf_0 2 _ rfl)
theorem dX3_classOf_3 : decode cX3_classOf 3 = .ok (.aload_n 0, 1) := dz_42 (bX3_classOf_0 3 _ rfl)
theorem dX3_classOf_4 : decode cX3_classOf 4 = .ok (.getfield 397, 3) := dz_180 (bX3_classOf_0 4 _ rfl) (bX3_classOf_0 5 _ rfl) (bX3_classOf_0 6 _ rfl)
theorem dX3_classOf_7 : decode cX3_classOf 7 = .ok (.if_icmp .ge 21, 3) := dz_162 (bX3_classOf_0 7 _ rfl) (bX3_classOf_0 8 _ rfl) (bX3_classOf_0 9 _ rfl)
theorem dX3_classOf_10 : decode cX3_classOf 10 = .ok (.aload_n 0, 1) := dz_42 (bX3_classOf_0 10 _ rfl)
theorem dX3_classOf_11 : decode cX3_classOf 11 = .ok (.getfield 79, 3) := dz_180 (bX3_classOf_0 11 _ rfl) (bX3_classOf_0 12 _ rfl) (bX3_classOf_0 13 _ rfl)
theorem dX3_classOf_14 : decode cX3_classOf 14 = .ok (.iload_n 2, 1) := dz_28 (bX3_classOf_0 14 _ rfl)
theorem dX3_classOf_15 : decode cX3_classOf 15 = .ok (.iaload, 1) := dz_46 (bX3_classOf_0 15 _ rfl)
theorem dX3_classOf_16 : decode cX3_classOf 16 = .ok (.iload_n 1, 1) := dz_27 (bX3_classOf_1 0 _ rfl)
theorem dX3_classOf_17 : decode cX3_classOf 17 = .ok (.if_icmp .ne 5, 3) := dz_160 (bX3_classOf_1 1 _ rfl) (bX3_classOf_1 2 _ rfl) (bX3_classOf_1 3 _ rfl)
theorem dX3_classOf_20 : decode cX3_classOf 20 = .ok (.iload_n 2, 1) := dz_28 (bX3_classOf_1 4 _ rfl)
theorem dX3_classOf_21 : decode cX3_classOf 21 = .ok (.ireturn, 1) := dz_172 (bX3_classOf_1 5 _ rfl)
theorem dX3_classOf_22 : decode cX3_classOf 22 = .ok (.iinc 2 1, 3) := dz_132 (bX3_classOf_1 6 _ rfl) (bX3_classOf_1 7 _ rfl) (bX3_classOf_1 8 _ rfl)
theorem dX3_classOf_25 : decode cX3_classOf 25 = .ok (.goto (-23), 3) := dz_167 (bX3_classOf_1 9 _ rfl) (bX3_classOf_1 10 _ rfl) (bX3_classOf_1 11 _ rfl)
theorem dX3_classOf_28 : decode cX3_classOf 28 = .ok (.iconst (-1), 1) := dz_2 (bX3_classOf_1 12 _ rfl)
theorem dX3_classOf_29 : decode cX3_classOf 29 = .ok (.ireturn, 1) := dz_172 (bX3_classOf_1 13 _ rfl)
def m_X3_classOf_2 (x1 : Int32) (x2 : Int32)  (σ : ch_S) : Option (Int32 ⊕ (Int32)) := if x2 < (σ.1 fX3_classes) then ((ch_ma σ fX3_classId x2).bind fun v1 => if v1 = x1 then (some (.inr (x2))) else (some (.inl (x2 + 1)))) else (some (.inr ((-1))))
theorem s_X3_classOf_2 {g : State} {m : Nat} {w : ch_W} {x1 : Int32} {x2 : Int32} {σ : ch_S} {res : Int32 ⊕ (Int32)} {Q : Outcome → ch_W → Prop} (h : m_X3_classOf_2 x1 x2 σ = some res) (hk : (ch_sm (fun s => ch_FT g false mX3_classOf 2 2 [some (va_rf (some m)), some (.int x1), some (.int s)] [] (ch_put m w σ) Q) (fun r => ch_eI Q (r, ch_put m w σ))) res) : ch_FT g false mX3_classOf 2 2 [some (va_rf (some m)), some (.int x1), some (.int x2)] [] (ch_put m w σ) Q := by
  unfold m_X3_classOf_2 at h
  refine ch_iload_n 2 _ dX3_classOf_2 rfl (ch_aload_n 0 (some m) dX3_classOf_3 rfl (mp_gI 37 dX3_classOf_4 fl_X3_397 rfl (cp_icmp_ge _ _ (tgt := 28) dX3_classOf_7 rfl h (fun h => ?_) (fun h => ?_))))
  · obtain rfl := Option.some.inj h
    exact ch_iconst _ (-1) dX3_classOf_28 rfl (ch_ireturn _ dX3_classOf_29 rfl rfl hk)
  · refine ch_aload_n 0 (some m) dX3_classOf_10 rfl (mp_gA 38 dX3_classOf_11 fl_X3_79 rfl (ch_iload_n 2 _ dX3_classOf_14 rfl (mp_iald dX3_classOf_15 mk_38 h (fun v1 h => ?_))))
    refine ch_iload_n 1 _ dX3_classOf_16 rfl (cp_icmp_ne _ _ (tgt := 22) dX3_classOf_17 rfl h (fun h => ?_) (fun h => ?_))
    · refine ch_iinc 2 _ _ (x2 + 1) (ls1 := [some (va_rf (some m)), some (.int x1), some (.int (x2 + 1))]) dX3_classOf_22 rfl rfl (Nat.le_of_ble_eq_true rfl) rfl (ch_goto 2 dX3_classOf_25 rfl (ch_FT.wk (ch_wS (ch_wS (ch_wS ch_w0))) ?_))
      obtain rfl := Option.some.inj h
      exact hk
    · obtain rfl := Option.some.inj h
      exact ch_iload_n 2 _ dX3_classOf_20 rfl (ch_ireturn _ dX3_classOf_21 rfl rfl hk)
theorem sl_X3_classOf_2 {g : State} {m : Nat} {w : ch_W} {x1 : Int32} {σ : ch_S} {a : Int32} {res : Int32} {Q : Outcome → ch_W → Prop} (h : ch_loop (fun (s : Int32) => m_X3_classOf_2 x1 s σ) a = some res) (hk : (fun r => ch_eI Q (r, ch_put m w σ)) res) : ch_FT g false mX3_classOf 2 2 [some (va_rf (some m)), some (.int x1), some (.int a)] [] (ch_put m w σ) Q := by
  refine ch_loop_ind (fun (a : Int32) (r : Int32) => (fun r => ch_eI Q (r, ch_put m w σ)) r → ch_FT g false mX3_classOf 2 2 [some (va_rf (some m)), some (.int x1), some (.int a)] [] (ch_put m w σ) Q) ?_ ?_ a res h hk
  · intro a a2 b h1 ih hk
    exact s_X3_classOf_2  h1 (ih hk)
  · intro a b h1 hk
    exact s_X3_classOf_2  h1 hk

def m_X3_classOf (x1 : Int32) (σ : ch_S) : Option (Int32) := ch_loop (fun (s : Int32) => m_X3_classOf_2 x1 s σ) (0)
theorem s_X3_classOf {g : State} {m : Nat} {w : ch_W} {x1 : Int32} {σ : ch_S} {res : Int32} {Q : Outcome → ch_W → Prop} (h : m_X3_classOf x1 σ = some res) (hk : (fun r => ch_eI Q (r, ch_put m w σ)) res) : ch_CT g false yX3_classOf 2 [.ref m, .int x1] (ch_put m w σ) Q := by
  unfold m_X3_classOf at h
  refine ch_ctL mX3_classOf (ls := [some (va_rf (some m)), some (.int x1), none]) q2047 rfl (ch_lyr (r := some m) (ch_lyi ch_ly0)) (Nat.le_of_ble_eq_true rfl) rfl ?_
  exact ch_iconst _ 0 dX3_classOf_0 rfl (ch_istore_n 2 _ (ls1 := [some (va_rf (some m)), some (.int x1), some (.int 0)]) dX3_classOf_1 (Nat.le_of_ble_eq_true rfl) rfl (ch_FT.wk (ch_wS (ch_wS (ch_wS ch_w0))) (sl_X3_classOf_2  h hk)))

theorem bX3_isBad_0 : ch_ck cX3_isBad 0 [42, 180, 1, 153, 156, 0, 8, 42, 27, 181, 1, 153, 177] := ch_ckof (by decide +kernel)
theorem dX3_isBad_0 : decode cX3_isBad 0 = .ok (.aload_n 0, 1) := dz_42 (bX3_isBad_0 0 _ rfl)
theorem dX3_isBad_1 : decode cX3_isBad 1 = .ok (.getfield 409, 3) := dz_180 (bX3_isBad_0 1 _ rfl) (bX3_isBad_0 2 _ rfl) (bX3_isBad_0 3 _ rfl)
theorem dX3_isBad_4 : decode cX3_isBad 4 = .ok (.ifCond .ge 8, 3) := dz_156 (bX3_isBad_0 4 _ rfl) (bX3_isBad_0 5 _ rfl) (bX3_isBad_0 6 _ rfl)
theorem dX3_isBad_7 : decode cX3_isBad 7 = .ok (.aload_n 0, 1) := dz_42 (bX3_isBad_0 7 _ rfl)
theorem dX3_isBad_8 : decode cX3_isBad 8 = .ok (.iload_n 1, 1) := dz_27 (bX3_isBad_0 8 _ rfl)
theorem dX3_isBad_9 : decode cX3_isBad 9 = .ok (.putfield 409, 3) := dz_181 (bX3_isBad_0 9 _ rfl) (bX3_isBad_0 10 _ rfl) (bX3_isBad_0 11 _ rfl)
theorem dX3_isBad_12 : decode cX3_isBad 12 = .ok (.return_, 1) := dz_177 (bX3_isBad_0 12 _ rfl)
def m_X3_isBad (x1 : Int32) (σ : ch_S) : Option (ch_S) := if (σ.1 fX3_bad) < 0 then ((ch_mI σ fX3_bad x1).bind fun σ1 => some (σ1)) else (some (σ))
theorem s_X3_isBad {g : State} {m : Nat} {w : ch_W} {x1 : Int32} {σ : ch_S} {res : ch_S} {Q : Outcome → ch_W → Prop} (h : m_X3_isBad x1 σ = some res) (hk : (fun r => ch_eV Q (ch_put m w r)) res) : ch_CT g false yX3_isBad 2 [.ref m, .int x1] (ch_put m w σ) Q := by
  unfold m_X3_isBad at h
  refine ch_ctL mX3_isBad (ls := [some (va_rf (some m)), some (.int x1)]) q2051 rfl (ch_lyr (r := some m) (ch_lyi ch_ly0)) (Nat.le_of_ble_eq_true rfl) rfl ?_
  refine ch_aload_n 0 (some m) dX3_isBad_0 rfl (mp_gI 58 dX3_isBad_1 fl_X3_409 rfl (cp_if_ge _ (tgt := 12) dX3_isBad_4 rfl h (fun h => ?_) (fun h => ?_)))
  · obtain rfl := Option.some.inj h
    exact ch_return dX3_isBad_12 rfl hk
  · refine ch_aload_n 0 (some m) dX3_isBad_7 rfl (ch_iload_n 1 _ dX3_isBad_8 rfl (mp_pI (k := 58) dX3_isBad_9 fl_X3_409 rfl rfl rfl h (fun σ1 h => ?_)))
    obtain rfl := Option.some.inj h
    exact ch_return dX3_isBad_12 rfl hk

theorem bX3_checkClasses_0 : ch_ck cX3_checkClasses 0 [8, 60, 27, 42, 180, 1, 141, 162, 0, 40, 42, 180, 1, 153, 156, 0] := ch_ckof (by decide +kernel)
theorem bX3_checkClasses_1 : ch_ck cX3_checkClasses 16 [33, 42, 42, 180, 0, 79, 27, 46, 182, 1, 156, 27, 159, 0, 13, 42] := ch_ckof (by decide +kernel)
theorem bX3_checkClasses_2 : ch_ck cX3_checkClasses 32 [42, 180, 0, 82, 27, 46, 182, 1, 163, 132, 1, 1, 167, 255, 214, 8] := ch_ckof (by decide +kernel)
theorem bX3_checkClasses_3 : ch_ck cX3_checkClasses 48 [60, 27, 42, 180, 1, 141, 162, 0, 73, 42, 180, 1, 153, 156, 0, 66] := ch_ckof (by decide +kernel)
theorem bX3_checkClasses_4 : ch_ck cX3_checkClasses 64 [42, 180, 0, 88, 27, 42, 180, 0, 85, 27, 46, 156, 0, 7, 2, 167] := ch_ckof (by decide +kernel)
theorem bX3_checkClasses_5 : ch_ck cX3_checkClasses 80 [0, 13, 42, 42, 180, 0, 85, 27, 46, 182, 1, 156, 79, 42, 180, 0] := ch_ckof (by decide +kernel)
theorem bX3_checkClasses_6 : ch_ck cX3_checkClasses 96 [85, 27, 46, 155, 0, 22, 42, 180, 0, 88, 27, 46, 156, 0, 13, 42] := ch_ckof (by decide +kernel)
theorem bX3_checkClasses_7 : ch_ck cX3_checkClasses 112 [42, 180, 0, 82, 27, 46, 182, 1, 163, 132, 1, 1, 167, 255, 181, 8] := ch_ckof (by decide +kernel)
theorem bX3_checkClasses_8 : ch_ck cX3_checkClasses 128 [60, 27, 42, 180, 1, 141, 162, 0, 70, 42, 180, 1, 153, 156, 0, 63] := ch_ckof (by decide +kernel)
theorem bX3_checkClasses_9 : ch_ck cX3_checkClasses 144 [42, 180, 0, 88, 27, 46, 61, 3, 62, 29, 42, 180, 1, 141, 162, 0] := ch_ckof (by decide +kernel)
theorem bX3_checkClasses_10 : ch_ck cX3_checkClasses 160 [25, 28, 155, 0, 21, 28, 27, 159, 0, 16, 42, 180, 0, 88, 28, 46] := ch_ckof (by decide +kernel)
theorem bX3_checkClasses_11 : ch_ck cX3_checkClasses 176 [61, 132, 3, 1, 167, 255, 229, 28, 27, 160, 0, 13, 42, 42, 180, 0] := ch_ckof (by decide +kernel)
theorem bX3_checkClasses_12 : ch_ck cX3_checkClasses 192 [82, 27, 46, 182, 1, 163, 132, 1, 1, 167, 255, 184, 177] := ch_ckof (by decide +kernel)
theorem dX3_checkClasses_0 : decode cX3_checkClasses 0 = .ok (.iconst 5, 1) := dz_8 (bX3_checkClasses_0 0 _ rfl)
theorem dX3_checkClasses_1 : decode cX3_checkClasses 1 = .ok (.istore_n 1, 1) := dz_60 (bX3_checkClasses_0 1 _ rfl)
theorem dX3_checkClasses_2 : decode cX3_checkClasses 2 = .ok (.iload_n 1, 1) := dz_27 (bX3_checkClasses_0 2 _ rfl)
theorem dX3_checkClasses_3 : decode cX3_checkClasses 3 = .ok (.aload_n 0, 1) := dz_42 (bX3_checkClasses_0 3 _ rfl)
theorem dX3_checkClasses_4 : decode cX3_checkClasses 4 = .ok (.getfield 397, 3) := dz_180 (bX3_checkClasses_0 4 _ rfl) (bX3_checkClasses_0 5 _ rfl) (bX3_checkClasses_0 6 _ rfl)
theorem dX3_checkClasses_7 : decode cX3_checkClasses 7 = .ok (.if_icmp .ge 40, 3) := dz_162 (bX3_checkClasses_0 7 _ rfl) (bX3_checkClasses_0 8 _ rfl) (bX3_checkClasses_0 9 _ rfl)
theorem dX3_checkClasses_10 : decode cX3_checkClasses 10 = .ok (.aload_n 0, 1) := dz_42 (bX3_checkClasses_0 10 _ rfl)
theorem dX3_checkClasses_11 : decode cX3_checkClasses 11 = .ok (.getfield 409, 3) := dz_180 (bX3_checkClasses_0 11 _ rfl) (bX3_checkClasses_0 12 _ rfl) (bX3_checkClasses_0 13 _ rfl)
theorem dX3_checkClasses_14 : decode cX3_checkClasses 14 = .ok (.ifCond .ge 33, 3) := dz_156 (bX3_checkClasses_0 14 _ rfl) (bX3_checkClasses_0 15 _ rfl) (bX3_checkClasses_1 0 _ rfl)
theorem dX3_checkClasses_17 : decode cX3_checkClasses 17 = .ok (.aload_n 0, 1) := dz_42 (bX3_checkClasses_1 1 _ rfl)
theorem dX3_checkClasses_18 : decode cX3_checkClasses 18 = .ok (.aload_n 0, 1) := dz_42 (bX3_checkClasses_1 2 _ rfl)
theorem dX3_checkClasses_19 : decode cX3_checkClasses 19 = .ok (.getfield 79, 3) := dz_180 (bX3_checkClasses_1 3 _ rfl) (bX3_checkClasses_1 4 _ rfl) (bX3_checkClasses_1 5 _ rfl)
theorem dX3_checkClasses_22 : decode cX3_checkClasses 22 = .ok (.iload_n 1, 1) := dz_27 (bX3_checkClasses_1 6 _ rfl)
theorem dX3_checkClasses_23 : decode cX3_checkClasses 23 = .ok (.iaload, 1) := dz_46 (bX3_checkClasses_1 7 _ rfl)
theorem dX3_checkClasses_24 : decode cX3_checkClasses 24 = .ok (.invokevirtual 412, 3) := dz_182 (bX3_checkClasses_1 8 _ rfl) (bX3_checkClasses_1 9 _ rfl) (bX3_checkClasses_1 10 _ rfl)
theorem dX3_checkClasses_27 : decode cX3_checkClasses 27 = .ok (.iload_n 1, 1) := dz_27 (bX3_checkClasses_1 11 _ rfl)
theorem dX3_checkClasses_28 : decode cX3_checkClasses 28 = .ok (.if_icmp .eq 13, 3) := dz_159 (bX3_checkClasses_1 12 _ rfl) (bX3_checkClasses_1 13 _ rfl) (bX3_checkClasses_1 14 _ rfl)
theorem dX3_checkClasses_31 : decode cX3_checkClasses 31 = .ok (.aload_n 0, 1) := dz_42 (bX3_checkClasses_1 15 _ rfl)
theorem dX3_checkClasses_32 : decode cX3_checkClasses 32 = .ok (.aload_n 0, 1) := dz_42 (bX3_checkClasses_2 0 _ rfl)
theorem dX3_checkClasses_33 : decode cX3_checkClasses 33 = .ok (.getfield 82, 3) := dz_180 (bX3_checkClasses_2 1 _ rfl) (bX3_checkClasses_2 2 _ rfl) (bX3_checkClasses_2 3 _ rfl)
theorem dX3_checkClasses_36 : decode cX3_checkClasses 36 = .ok (.iload_n 1, 1) := dz_27 (bX3_checkClasses_2 4 _ rfl)
theorem dX3_checkClasses_37 : decode cX3_checkClasses 37 = .ok (.iaload, 1) := dz_46 (bX3_checkClasses_2 5 _ rfl)
theorem dX3_checkClasses_38 : decode cX3_checkClasses 38 = .ok (.invokevirtual 419, 3) := dz_182 (bX3_checkClasses_2 6 _ rfl) (bX3_checkClasses_2 7 _ rfl) (bX3_checkClasses_2 8 _ rfl)
theorem dX3_checkClasses_41 : decode cX3_checkClasses 41 = .ok (.iinc 1 1, 3) := dz_132 (bX3_checkClasses_2 9 _ rfl) (bX3_checkClasses_2 10 _ rfl) (bX3_checkClasses_2 11 _ rfl)
theorem dX3_checkClasses_44 : decode cX3_checkClasses 44 = .ok (.goto (-42), 3) := dz_167 (bX3_checkClasses_2 12 _ rfl) (bX3_checkClasses_2 13 _ rfl) (bX3_checkClasses_2 14 _ rfl)
theorem dX3_checkClasses_47 : decode cX3_checkClasses 47 = .ok (.iconst 5, 1) := dz_8 (bX3_checkClasses_2 15 _ rfl)
theorem dX3_checkClasses_48 : decode cX3_checkClasses 48 = .ok (.istore_n 1, 1) := dz_60 (bX3_checkClasses_3 0 _ rfl)
theorem dX3_checkClasses_49 : decode cX3_checkClasses 49 = .ok (.iload_n 1, 1) := dz_27 (bX3_checkClasses_3 1 _ rfl)
theorem dX3_checkClasses_50 : decode cX3_checkClasses 50 = .ok (.aload_n 0, 1) := dz_42 (bX3_checkClasses_3 2 _ rfl)
theorem dX3_checkClasses_51 : decode cX3_checkClasses 51 = .ok (.getfield 397, 3) := dz_180 (bX3_checkClasses_3 3 _ rfl) (bX3_checkClasses_3 4 _ rfl) (bX3_checkClasses_3 5 _ rfl)
theorem dX3_checkClasses_54 : decode cX3_checkClasses 54 = .ok (.if_icmp .ge 73, 3) := dz_162 (bX3_checkClasses_3 6 _ rfl) (bX3_checkClasses_3 7 _ rfl) (bX3_checkClasses_3 8 _ rfl)
theorem dX3_checkClasses_57 : decode cX3_checkClasses 57 = .ok (.aload_n 0, 1) := dz_42 (bX3_checkClasses_3 9 _ rfl)
theorem dX3_checkClasses_58 : decode cX3_checkClasses 58 = .ok (.getfield 409, 3) := dz_180 (bX3_checkClasses_3 10 _ rfl) (bX3_checkClasses_3 11 _ rfl) (bX3_checkClasses_3 12 _ rfl)
theorem dX3_checkClasses_61 : decode cX3_checkClasses 61 = .ok (.ifCond .ge 66, 3) := dz_156 (bX3_checkClasses_3 13 _ rfl) (bX3_checkClasses_3 14 _ rfl) (bX3_checkClasses_3 15 _ rfl)
theorem dX3_checkClasses_64 : decode cX3_checkClasses 64 = .ok (.aload_n 0, 1) := dz_42 (bX3_checkClasses_4 0 _ rfl)
theorem dX3_checkClasses_65 : decode cX3_checkClasses 65 = .ok (.getfield 88, 3) := dz_180 (bX3_checkClasses_4 1 _ rfl) (bX3_checkClasses_4 2 _ rfl) (bX3_checkClasses_4 3 _ rfl)
theorem dX3_checkClasses_68 : decode cX3_checkClasses 68 = .ok (.iload_n 1, 1) := dz_27 (bX3_checkClasses_4 4 _ rfl)
theorem dX3_checkClasses_69 : decode cX3_checkClasses 69 = .ok (.aload_n 0, 1) := dz_42 (bX3_checkClasses_4 5 _ rfl)
theorem dX3_checkClasses_70 : decode cX3_checkClasses 70 = .ok (.getfield 85, 3) := dz_180 (bX3_checkClasses_4 6 _ rfl) (bX3_checkClasses_4 7 _ rfl) (bX3_checkClasses_4 8 _ rfl)
theorem dX3_checkClasses_73 : decode cX3_checkClasses 73 = .ok (.iload_n 1, 1) := dz_27 (bX3_checkClasses_4 9 _ rfl)
theorem dX3_checkClasses_74 : decode cX3_checkClasses 74 = .ok (.iaload, 1) := dz_46 (bX3_checkClasses_4 10 _ rfl)
theorem dX3_checkClasses_75 : decode cX3_checkClasses 75 = .ok (.ifCond .ge 7, 3) := dz_156 (bX3_checkClasses_4 11 _ rfl) (bX3_checkClasses_4 12 _ rfl) (bX3_checkClasses_4 13 _ rfl)
theorem dX3_checkClasses_78 : decode cX3_checkClasses 78 = .ok (.iconst (-1), 1) := dz_2 (bX3_checkClasses_4 14 _ rfl)
theorem dX3_checkClasses_79 : decode cX3_checkClasses 79 = .ok (.goto 13, 3) := dz_167 (bX3_checkClasses_4 15 _ rfl) (bX3_checkClasses_5 0 _ rfl) (bX3_checkClasses_5 1 _ rfl)
theorem dX3_checkClasses_82 : decode cX3_checkClasses 82 = .ok (.aload_n 0, 1) := dz_42 (bX3_checkClasses_5 2 _ rfl)
theorem dX3_checkClasses_83 : decode cX3_checkClasses 83 = .ok (.aload_n 0, 1) := dz_42 (bX3_checkClasses_5 3 _ rfl)
theorem dX3_checkClasses_84 : decode cX3_checkClasses 84 = .ok (.getfield 85, 3) := dz_180 (bX3_checkClasses_5 4 _ rfl) (bX3_checkClasses_5 5 _ rfl) (bX3_checkClasses_5 6 _ rfl)
theorem dX3_checkClasses_87 : decode cX3_checkClasses 87 = .ok (.iload_n 1, 1) := dz_27 (bX3_checkClasses_5 7 _ rfl)
theorem dX3_checkClasses_88 : decode cX3_checkClasses 88 = .ok (.iaload, 1) := dz_46 (bX3_checkClasses_5 8 _ rfl)
theorem dX3_checkClasses_89 : decode cX3_checkClasses 89 = .ok (.invokevirtual 412, 3) := dz_182 (bX3_checkClasses_5 9 _ rfl) (bX3_checkClasses_5 10 _ rfl) (bX3_checkClasses_5 11 _ rfl)
theorem dX3_checkClasses_92 : decode cX3_checkClasses 92 = .ok (.iastore, 1) := dz_79 (bX3_checkClasses_5 12 _ rfl)
theorem dX3_checkClasses_93 : decode cX3_checkClasses 93 = .ok (.aload_n 0, 1) := dz_42 (bX3_checkClasses_5 13 _ rfl)
theorem dX3_checkClasses_94 : decode cX3_checkClasses 94 = .ok (.getfield 85, 3) := dz_180 (bX3_checkClasses_5 14 _ rfl) (bX3_checkClasses_5 15 _ rfl) (bX3_checkClasses_6 0 _ rfl)
theorem dX3_checkClasses_97 : decode cX3_checkClasses 97 = .ok (.iload_n 1, 1) := dz_27 (bX3_checkClasses_6 1 _ rfl)
theorem dX3_checkClasses_98 : decode cX3_checkClasses 98 = .ok (.iaload, 1) := dz_46 (bX3_checkClasses_6 2 _ rfl)
theorem dX3_checkClasses_99 : decode cX3_checkClasses 99 = .ok (.ifCond .lt 22, 3) := dz_155 (bX3_checkClasses_6 3 _ rfl) (bX3_checkClasses_6 4 _ rfl) (bX3_checkClasses_6 5 _ rfl)
theorem dX3_checkClasses_102 : decode cX3_checkClasses 102 = .ok (.aload_n 0, 1) := dz_42 (bX3_checkClasses_6 6 _ rfl)
theorem dX3_checkClasses_103 : decode cX3_checkClasses 103 = .ok (.getfield 88, 3) := dz_180 (bX3_checkClasses_6 7 _ rfl) (bX3_checkClasses_6 8 _ rfl) (bX3_checkClasses_6 9 _ rfl)
theorem dX3_checkClasses_106 : decode cX3_checkClasses 106 = .ok (.iload_n 1, 1) := dz_27 (bX3_checkClasses_6 10 _ rfl)
theorem dX3_checkClasses_107 : decode cX3_checkClasses 107 = .ok (.iaload, 1) := dz_46 (bX3_checkClasses_6 11 _ rfl)
theorem dX3_checkClasses_108 : decode cX3_checkClasses 108 = .ok (.ifCond .ge 13, 3) := dz_156 (bX3_checkClasses_6 12 _ rfl) (bX3_checkClasses_6 13 _ rfl) (bX3_checkClasses_6 14 _ rfl)
theorem dX3_checkClasses_111 : decode cX3_checkClasses 111 = .ok (.aload_n 0, 1) := dz_42 (bX3_checkClasses_6 15 _ rfl)
theorem dX3_checkClasses_112 : decode cX3_checkClasses 112 = .ok (.aload_n 0, 1) := dz_42 (bX3_checkClasses_7 0 _ rfl)
theorem dX3_checkClasses_113 : decode cX3_checkClasses 113 = .ok (.getfield 82, 3) := dz_180 (bX3_checkClasses_7 1 _ rfl) (bX3_checkClasses_7 2 _ rfl) (bX3_checkClasses_7 3 _ rfl)
theorem dX3_checkClasses_116 : decode cX3_checkClasses 116 = .ok (.iload_n 1, 1) := dz_27 (bX3_checkClasses_7 4 _ rfl)
theorem dX3_checkClasses_117 : decode cX3_checkClasses 117 = .ok (.iaload, 1) := dz_46 (bX3_checkClasses_7 5 _ rfl)
theorem dX3_checkClasses_118 : decode cX3_checkClasses 118 = .ok (.invokevirtual 419, 3) := dz_182 (bX3_checkClasses_7 6 _ rfl) (bX3_checkClasses_7 7 _ rfl) (bX3_checkClasses_7 8 _ rfl)
theorem dX3_checkClasses_121 : decode cX3_checkClasses 121 = .ok (.iinc 1 1, 3) := dz_132 (bX3_checkClasses_7 9 _ rfl) (bX3_checkClasses_7 10 _ rfl) (bX3_checkClasses_7 11 _ rfl)
theorem dX3_checkClasses_124 : decode cX3_checkClasses 124 = .ok (.goto (-75), 3) := dz_167 (bX3_checkClasses_7 12 _ rfl) (bX3_checkClasses_7 13 _ rfl) (bX3_checkClasses_7 14 _ rfl)
theorem dX3_checkClasses_127 : decode cX3_checkClasses 127 = .ok (.iconst 5, 1) := dz_8 (bX3_checkClasses_7 15 _ rfl)
theorem dX3_checkClasses_128 : decode cX3_checkClasses 128 = .ok (.istore_n 1, 1) := dz_60 (bX3_checkClasses_8 0 _ rfl)
theorem dX3_checkClasses_129 : decode cX3_checkClasses 129 = .ok (.iload_n 1, 1) := dz_27 (bX3_checkClasses_8 1 _ rfl)
theorem dX3_checkClasses_130 : decode cX3_checkClasses 130 = .ok (.aload_n 0, 1) := dz_42 (bX3_checkClasses_8 2 _ rfl)
theorem dX3_checkClasses_131 : decode cX3_checkClasses 131 = .ok (.getfield 397, 3) := dz_180 (bX3_checkClasses_8 3 _ rfl) (bX3_checkClasses_8 4 _ rfl) (bX3_checkClasses_8 5 _ rfl)
theorem dX3_checkClasses_134 : decode cX3_checkClasses 134 = .ok (.if_icmp .ge 70, 3) := dz_162 (bX3_checkClasses_8 6 _ rfl) (bX3_checkClasses_8 7 _ rfl) (bX3_checkClasses_8 8 _ rfl)
theorem dX3_checkClasses_137 : decode cX3_checkClasses 137 = .ok (.aload_n 0, 1) := dz_42 (bX3_checkClasses_8 9 _ rfl)
theorem dX3_checkClasses_138 : decode cX3_checkClasses 138 = .ok (.getfield 409, 3) := dz_180 (bX3_checkClasses_8 10 _ rfl) (bX3_checkClasses_8 11 _ rfl) (bX3_checkClasses_8 12 _ rfl)
theorem dX3_checkClasses_141 : decode cX3_checkClasses 141 = .ok (.ifCond .ge 63, 3) := dz_156 (bX3_checkClasses_8 13 _ rfl) (bX3_checkClasses_8 14 _ rfl) (bX3_checkClasses_8 15 _ rfl)
theorem dX3_checkClasses_144 : decode cX3_checkClasses 144 = .ok (.aload_n 0, 1) := dz_42 (bX3_checkClasses_9 0 _ rfl)
theorem dX3_checkClasses_145 : decode cX3_checkClasses 145 = .ok (.getfield 88, 3) := dz_180 (bX3_checkClasses_9 1 _ rfl) (bX3_checkClasses_9 2 _ rfl) (bX3_checkClasses_9 3 _ rfl)
theorem dX3_checkClasses_148 : decode cX3_checkClasses 148 = .ok (.iload_n 1, 1) := dz_27 (bX3_checkClasses_9 4 _ rfl)
theorem dX3_checkClasses_149 : decode cX3_checkClasses 149 = .ok (.iaload, 1) := dz_46 (bX3_checkClasses_9 5 _ rfl)
theorem dX3_checkClasses_150 : decode cX3_checkClasses 150 = .ok (.istore_n 2, 1) := dz_61 (bX3_checkClasses_9 6 _ rfl)
theorem dX3_checkClasses_151 : decode cX3_checkClasses 151 = .ok (.iconst 0, 1) := dz_3 (bX3_checkClasses_9 7 _ rfl)
theorem dX3_checkClasses_152 : decode cX3_checkClasses 152 = .ok (.istore_n 3, 1) := dz_62 (bX3_checkClasses_9 8 _ rfl)
theorem dX3_checkClasses_153 : decode cX3_checkClasses 153 = .ok (.iload_n 3, 1) := dz_29 (bX3_checkClasses_9 9 _ rfl)
theorem dX3_checkClasses_154 : decode cX3_checkClasses 154 = .ok (.aload_n 0, 1) := dz_42 (bX3_checkClasses_9 10 _ rfl)
theorem dX3_checkClasses_155 : decode cX3_checkClasses 155 = .ok (.getfield 397, 3) := dz_180 (bX3_checkClasses_9 11 _ rfl) (bX3_checkClasses_9 12 _ rfl) (bX3_checkClasses_9 13 _ rfl)
theorem dX3_checkClasses_158 : decode cX3_checkClasses 158 = .ok (.if_icmp .ge 25, 3) := dz_162 (bX3_checkClasses_9 14 _ rfl) (bX3_checkClasses_9 15 _ rfl) (bX3_checkClasses_10 0 _ rfl)
theorem dX3_checkClasses_161 : decode cX3_checkClasses 161 = .ok (.iload_n 2, 1) := dz_28 (bX3_checkClasses_10 1 _ rfl)
theorem dX3_checkClasses_162 : decode cX3_checkClasses 162 = .ok (.ifCond .lt 21, 3) := dz_155 (bX3_checkClasses_10 2 _ rfl) (bX3_checkClasses_10 3 _ rfl) (bX3_checkClasses_10 4 _ rfl)
theorem dX3_checkClasses_165 : decode cX3_checkClasses 165 = .ok (.iload_n 2, 1) := dz_28 (bX3_checkClasses_10 5 _ rfl)
theorem dX3_checkClasses_166 : decode cX3_checkClasses 166 = .ok (.iload_n 1, 1) := dz_27 (bX3_checkClasses_10 6 _ rfl)
theorem dX3_checkClasses_167 : decode cX3_checkClasses 167 = .ok (.if_icmp .eq 16, 3) := dz_159 (bX3_checkClasses_10 7 _ rfl) (bX3_checkClasses_10 8 _ rfl) (bX3_checkClasses_10 9 _ rfl)
theorem dX3_checkClasses_170 : decode cX3_checkClasses 170 = .ok (.aload_n 0, 1) := dz_42 (bX3_checkClasses_10 10 _ rfl)
theorem dX3_checkClasses_171 : decode cX3_checkClasses 171 = .ok (.getfield 88, 3) := dz_180 (bX3_checkClasses_10 11 _ rfl) (bX3_checkClasses_10 12 _ rfl) (bX3_checkClasses_10 13 _ rfl)
theorem dX3_checkClasses_174 : decode cX3_checkClasses 174 = .ok (.iload_n 2, 1) := dz_28 (bX3_checkClasses_10 14 _ rfl)
theorem dX3_checkClasses_175 : decode cX3_checkClasses 175 = .ok (.iaload, 1) := dz_46 (bX3_checkClasses_10 15 _ rfl)
theorem dX3_checkClasses_176 : decode cX3_checkClasses 176 = .ok (.istore_n 2, 1) := dz_61 (bX3_checkClasses_11 0 _ rfl)
theorem dX3_checkClasses_177 : decode cX3_checkClasses 177 = .ok (.iinc 3 1, 3) := dz_132 (bX3_checkClasses_11 1 _ rfl) (bX3_checkClasses_11 2 _ rfl) (bX3_checkClasses_11 3 _ rfl)
theorem dX3_checkClasses_180 : decode cX3_checkClasses 180 = .ok (.goto (-27), 3) := dz_167 (bX3_checkClasses_11 4 _ rfl) (bX3_checkClasses_11 5 _ rfl) (bX3_checkClasses_11 6 _ rfl)
theorem dX3_checkClasses_183 : decode cX3_checkClasses 183 = .ok (.iload_n 2, 1) := dz_28 (bX3_checkClasses_11 7 _ rfl)
theorem dX3_checkClasses_184 : decode cX3_checkClasses 184 = .ok (.iload_n 1, 1) := dz_27 (bX3_checkClasses_11 8 _ rfl)
theorem dX3_checkClasses_185 : decode cX3_checkClasses 185 = .ok (.if_icmp .ne 13, 3) := dz_160 (bX3_checkClasses_11 9 _ rfl) (bX3_checkClasses_11 10 _ rfl) (bX3_checkClasses_11 11 _ rfl)
theorem dX3_checkClasses_188 : decode cX3_checkClasses 188 = .ok (.aload_n 0, 1) := dz_42 (bX3_checkClasses_11 12 _ rfl)
theorem dX3_checkClasses_189 : decode cX3_checkClasses 189 = .ok (.aload_n 0, 1) := dz_42 (bX3_checkClasses_11 13 _ rfl)
theorem dX3_checkClasses_190 : decode cX3_checkClasses 190 = .ok (.getfield 82, 3) := dz_180 (bX3_checkClasses_11 14 _ rfl) (bX3_checkClasses_11 15 _ rfl) (bX3_checkClasses_12 0 _ rfl)
theorem dX3_checkClasses_193 : decode cX3_checkClasses 193 = .ok (.iload_n 1, 1) := dz_27 (bX3_checkClasses_12 1 _ rfl)
theorem dX3_checkClasses_194 : decode cX3_checkClasses 194 = .ok (.iaload, 1) := dz_46 (bX3_checkClasses_12 2 _ rfl)
theorem dX3_checkClasses_195 : decode cX3_checkClasses 195 = .ok (.invokevirtual 419, 3) := dz_182 (bX3_checkClasses_12 3 _ rfl) (bX3_checkClasses_12 4 _ rfl) (bX3_checkClasses_12 5 _ rfl)
theorem dX3_checkClasses_198 : decode cX3_checkClasses 198 = .ok (.iinc 1 1, 3) := dz_132 (bX3_checkClasses_12 6 _ rfl) (bX3_checkClasses_12 7 _ rfl) (bX3_checkClasses_12 8 _ rfl)
theorem dX3_checkClasses_201 : decode cX3_checkClasses 201 = .ok (.goto (-72), 3) := dz_167 (bX3_checkClasses_12 9 _ rfl) (bX3_checkClasses_12 10 _ rfl) (bX3_checkClasses_12 11 _ rfl)
theorem dX3_checkClasses_204 : decode cX3_checkClasses 204 = .ok (.return_, 1) := dz_177 (bX3_checkClasses_12 12 _ rfl)
def m_X3_checkClasses_183 (x1 : Int32) (x2 : Int32)  (σ : ch_S) : Option ((Int32 × ch_S) ⊕ (ch_S)) := if x2 = x1 then ((ch_ma σ fX3_classAt x1).bind fun v1 => (m_X3_isBad v1 σ).bind fun p2 => some (.inl (x1 + 1, p2))) else (some (.inl (x1 + 1, σ)))
theorem s_X3_checkClasses_183 {g : State} {m : Nat} {w : ch_W} {x1 : Int32} {x2 : Int32} {σ : ch_S} {res : (Int32 × ch_S) ⊕ (ch_S)} {Q : Outcome → ch_W → Prop} (h : m_X3_checkClasses_183 x1 x2 σ = some res) (hk : (ch_sm (fun s => ch_FT g false mX3_checkClasses 3 129 [some (va_rf (some m)), some (.int s.1), none, none] [] (ch_put m w s.2) Q) (fun r => ch_eV Q (ch_put m w r))) res) : ch_FT g false mX3_checkClasses 3 183 [some (va_rf (some m)), some (.int x1), some (.int x2), none] [] (ch_put m w σ) Q := by
  unfold m_X3_checkClasses_183 at h
  refine ch_iload_n 2 _ dX3_checkClasses_183 rfl (ch_iload_n 1 _ dX3_checkClasses_184 rfl (cp_icmp_ne _ _ (tgt := 198) dX3_checkClasses_185 rfl h (fun h => ?_) (fun h => ?_)))
  · refine ch_iinc 1 _ _ (x1 + 1) (ls1 := [some (va_rf (some m)), some (.int (x1 + 1)), some (.int x2), none]) dX3_checkClasses_198 rfl rfl (Nat.le_of_ble_eq_true rfl) rfl (ch_goto 129 dX3_checkClasses_201 rfl (ch_FT.wk (ch_wS (ch_wS (ch_wN (ch_wN ch_w0)))) ?_))
    obtain rfl := Option.some.inj h
    exact hk
  · refine ch_aload_n 0 (some m) dX3_checkClasses_188 rfl (ch_aload_n 0 (some m) dX3_checkClasses_189 rfl (mp_gA 39 dX3_checkClasses_190 fl_X3_82 rfl (ch_iload_n 1 _ dX3_checkClasses_193 rfl (mp_iald dX3_checkClasses_194 mk_39 h (fun v1 h => ?_)))))
    obtain ⟨p2, hp3, h⟩ := ch_bd h
    refine ch_iv yX3_isBad prog_14_method_42_code 2 none (ci := 3) (q := (RX3, TX3, 109)) (b := m) (d' := 2) (av := [.int v1]) (rest := []) rfl dX3_checkClasses_195 q2048 q2050 rfl qs141 q2051 can_X3_isBad (Nat.le_of_ble_eq_true rfl) (Nat.le_of_ble_eq_true rfl) ch_put_tag (cp_kV (w1 := ch_put m w p2) (fun Q' hq => s_X3_isBad hp3 hq) ?_)
    refine ch_iinc 1 _ _ (x1 + 1) (ls1 := [some (va_rf (some m)), some (.int (x1 + 1)), some (.int x2), none]) dX3_checkClasses_198 rfl rfl (Nat.le_of_ble_eq_true rfl) rfl (ch_goto 129 dX3_checkClasses_201 rfl (ch_FT.wk (ch_wS (ch_wS (ch_wN (ch_wN ch_w0)))) ?_))
    obtain rfl := Option.some.inj h
    exact hk

def m_X3_checkClasses_153 (x1 : Int32) (x2 : Int32) (x3 : Int32)  (σ : ch_S) : Option ((Int32 × Int32) ⊕ ((Int32 × ch_S) ⊕ (ch_S))) := if x3 < (σ.1 fX3_classes) then (if x2 < 0 then ((m_X3_checkClasses_183 x1 x2 σ).bind fun r => some (.inr (r))) else (if x2 = x1 then ((m_X3_checkClasses_183 x1 x2 σ).bind fun r => some (.inr (r))) else ((ch_ma σ fX3_parent x2).bind fun v1 => some (.inl (v1, x3 + 1))))) else ((m_X3_checkClasses_183 x1 x2 σ).bind fun r => some (.inr (r)))
theorem s_X3_checkClasses_153 {g : State} {m : Nat} {w : ch_W} {x1 : Int32} {x2 : Int32} {x3 : Int32} {σ : ch_S} {res : (Int32 × Int32) ⊕ ((Int32 × ch_S) ⊕ (ch_S))} {Q : Outcome → ch_W → Prop} (h : m_X3_checkClasses_153 x1 x2 x3 σ = some res) (hk : (ch_sm (fun s => ch_FT g false mX3_checkClasses 3 153 [some (va_rf (some m)), some (.int x1), some (.int s.1), some (.int s.2)] [] (ch_put m w σ) Q) (ch_sm (fun s => ch_FT g false mX3_checkClasses 3 129 [some (va_rf (some m)), some (.int s.1), none, none] [] (ch_put m w s.2) Q) (fun r => ch_eV Q (ch_put m w r)))) res) : ch_FT g false mX3_checkClasses 3 153 [some (va_rf (some m)), some (.int x1), some (.int x2), some (.int x3)] [] (ch_put m w σ) Q := by
  unfold m_X3_checkClasses_153 at h
  refine ch_iload_n 3 _ dX3_checkClasses_153 rfl (ch_aload_n 0 (some m) dX3_checkClasses_154 rfl (mp_gI 37 dX3_checkClasses_155 fl_X3_397 rfl (cp_icmp_ge _ _ (tgt := 183) dX3_checkClasses_158 rfl h (fun h => ?_) (fun h => ?_))))
  · obtain ⟨r, hr, h⟩ := ch_bd h
    obtain rfl := Option.some.inj h
    exact ch_FT.wk (ch_wS (ch_wS (ch_wS (ch_wN ch_w0)))) (s_X3_checkClasses_183  hr hk)
  · refine ch_iload_n 2 _ dX3_checkClasses_161 rfl (cp_if_lt _ (tgt := 183) dX3_checkClasses_162 rfl h (fun h => ?_) (fun h => ?_))
    · obtain ⟨r, hr, h⟩ := ch_bd h
      obtain rfl := Option.some.inj h
      exact ch_FT.wk (ch_wS (ch_wS (ch_wS (ch_wN ch_w0)))) (s_X3_checkClasses_183  hr hk)
    · refine ch_iload_n 2 _ dX3_checkClasses_165 rfl (ch_iload_n 1 _ dX3_checkClasses_166 rfl (cp_icmp_eq _ _ (tgt := 183) dX3_checkClasses_167 rfl h (fun h => ?_) (fun h => ?_)))
      · obtain ⟨r, hr, h⟩ := ch_bd h
        obtain rfl := Option.some.inj h
        exact ch_FT.wk (ch_wS (ch_wS (ch_wS (ch_wN ch_w0)))) (s_X3_checkClasses_183  hr hk)
      · refine ch_aload_n 0 (some m) dX3_checkClasses_170 rfl (mp_gA 41 dX3_checkClasses_171 fl_X3_88 rfl (ch_iload_n 2 _ dX3_checkClasses_174 rfl (mp_iald dX3_checkClasses_175 mk_41 h (fun v1 h => ?_))))
        refine ch_istore_n 2 _ (ls1 := [some (va_rf (some m)), some (.int x1), some (.int v1), some (.int x3)]) dX3_checkClasses_176 (Nat.le_of_ble_eq_true rfl) rfl (ch_iinc 3 _ _ (x3 + 1) (ls1 := [some (va_rf (some m)), some (.int x1), some (.int v1), some (.int (x3 + 1))]) dX3_checkClasses_177 rfl rfl (Nat.le_of_ble_eq_true rfl) rfl (ch_goto 153 dX3_checkClasses_180 rfl (ch_FT.wk (ch_wS (ch_wS (ch_wS (ch_wS ch_w0)))) ?_)))
        obtain rfl := Option.some.inj h
        exact hk
theorem sl_X3_checkClasses_153 {g : State} {m : Nat} {w : ch_W} {x1 : Int32} {σ : ch_S} {a : Int32 × Int32} {res : (Int32 × ch_S) ⊕ (ch_S)} {Q : Outcome → ch_W → Prop} (h : ch_loop (fun (s : Int32 × Int32) => m_X3_checkClasses_153 x1 s.1 s.2 σ) a = some res) (hk : (ch_sm (fun s => ch_FT g false mX3_checkClasses 3 129 [some (va_rf (some m)), some (.int s.1), none, none] [] (ch_put m w s.2) Q) (fun r => ch_eV Q (ch_put m w r))) res) : ch_FT g false mX3_checkClasses 3 153 [some (va_rf (some m)), some (.int x1), some (.int a.1), some (.int a.2)] [] (ch_put m w σ) Q := by
  refine ch_loop_ind (fun (a : Int32 × Int32) (r : (Int32 × ch_S) ⊕ (ch_S)) => (ch_sm (fun s => ch_FT g false mX3_checkClasses 3 129 [some (va_rf (some m)), some (.int s.1), none, none] [] (ch_put m w s.2) Q) (fun r => ch_eV Q (ch_put m w r))) r → ch_FT g false mX3_checkClasses 3 153 [some (va_rf (some m)), some (.int x1), some (.int a.1), some (.int a.2)] [] (ch_put m w σ) Q) ?_ ?_ a res h hk
  · intro a a2 b h1 ih hk
    exact s_X3_checkClasses_153  h1 (ih hk)
  · intro a b h1 hk
    exact s_X3_checkClasses_153  h1 hk

def m_X3_checkClasses_129 (x1 : Int32)  (σ : ch_S) : Option ((Int32 × ch_S) ⊕ (ch_S)) := if x1 < (σ.1 fX3_classes) then (if (σ.1 fX3_bad) < 0 then ((ch_ma σ fX3_parent x1).bind fun v1 => ch_loop (fun (s : Int32 × Int32) => m_X3_checkClasses_153 x1 s.1 s.2 σ) (v1, 0)) else (some (.inr (σ)))) else (some (.inr (σ)))
theorem s_X3_checkClasses_129 {g : State} {m : Nat} {w : ch_W} {x1 : Int32} {σ : ch_S} {res : (Int32 × ch_S) ⊕ (ch_S)} {Q : Outcome → ch_W → Prop} (h : m_X3_checkClasses_129 x1 σ = some res) (hk : (ch_sm (fun s => ch_FT g false mX3_checkClasses 3 129 [some (va_rf (some m)), some (.int s.1), none, none] [] (ch_put m w s.2) Q) (fun r => ch_eV Q (ch_put m w r))) res) : ch_FT g false mX3_checkClasses 3 129 [some (va_rf (some m)), some (.int x1), none, none] [] (ch_put m w σ) Q := by
  unfold m_X3_checkClasses_129 at h
  refine ch_iload_n 1 _ dX3_checkClasses_129 rfl (ch_aload_n 0 (some m) dX3_checkClasses_130 rfl (mp_gI 37 dX3_checkClasses_131 fl_X3_397 rfl (cp_icmp_ge _ _ (tgt := 204) dX3_checkClasses_134 rfl h (fun h => ?_) (fun h => ?_))))
  · obtain rfl := Option.some.inj h
    exact ch_return dX3_checkClasses_204 rfl hk
  · refine ch_aload_n 0 (some m) dX3_checkClasses_137 rfl (mp_gI 58 dX3_checkClasses_138 fl_X3_409 rfl (cp_if_ge _ (tgt := 204) dX3_checkClasses_141 rfl h (fun h => ?_) (fun h => ?_)))
    · obtain rfl := Option.some.inj h
      exact ch_return dX3_checkClasses_204 rfl hk
    · refine ch_aload_n 0 (some m) dX3_checkClasses_144 rfl (mp_gA 41 dX3_checkClasses_145 fl_X3_88 rfl (ch_iload_n 1 _ dX3_checkClasses_148 rfl (mp_iald dX3_checkClasses_149 mk_41 h (fun v1 h => ?_))))
      exact ch_istore_n 2 _ (ls1 := [some (va_rf (some m)), some (.int x1), some (.int v1), none]) dX3_checkClasses_150 (Nat.le_of_ble_eq_true rfl) rfl (ch_iconst _ 0 dX3_checkClasses_151 rfl (ch_istore_n 3 _ (ls1 := [some (va_rf (some m)), some (.int x1), some (.int v1), some (.int 0)]) dX3_checkClasses_152 (Nat.le_of_ble_eq_true rfl) rfl (ch_FT.wk (ch_wS (ch_wS (ch_wS (ch_wS ch_w0)))) (sl_X3_checkClasses_153  h hk))))
theorem sl_X3_checkClasses_129 {g : State} {m : Nat} {w : ch_W} {a : Int32 × ch_S} {res : ch_S} {Q : Outcome → ch_W → Prop} (h : ch_loop (fun (s : Int32 × ch_S) => m_X3_checkClasses_129 s.1 s.2) a = some res) (hk : (fun r => ch_eV Q (ch_put m w r)) res) : ch_FT g false mX3_checkClasses 3 129 [some (va_rf (some m)), some (.int a.1), none, none] [] (ch_put m w a.2) Q := by
  refine ch_loop_ind (fun (a : Int32 × ch_S) (r : ch_S) => (fun r => ch_eV Q (ch_put m w r)) r → ch_FT g false mX3_checkClasses 3 129 [some (va_rf (some m)), some (.int a.1), none, none] [] (ch_put m w a.2) Q) ?_ ?_ a res h hk
  · intro a a2 b h1 ih hk
    exact s_X3_checkClasses_129  h1 (ih hk)
  · intro a b h1 hk
    exact s_X3_checkClasses_129  h1 hk

def m_X3_checkClasses_92 (x1 : Int32) (y0 : Int32) (y1 : Int32) (σ : ch_S) : Option ((Int32 × ch_S) ⊕ (ch_S)) := (ch_mw σ fX3_parent y1 y0).bind fun σ1 => (ch_ma σ1 fX3_parentId x1).bind fun v2 => if v2 < 0 then (some (.inl (x1 + 1, σ1))) else ((ch_ma σ1 fX3_parent x1).bind fun v3 => if v3 < 0 then ((ch_ma σ1 fX3_classAt x1).bind fun v4 => (m_X3_isBad v4 σ1).bind fun p5 => some (.inl (x1 + 1, p5))) else (some (.inl (x1 + 1, σ1))))
theorem s_X3_checkClasses_92 {g : State} {m : Nat} {w : ch_W} {x1 : Int32} {y0 : Int32} {y1 : Int32} {σ : ch_S} {res : (Int32 × ch_S) ⊕ (ch_S)} {Q : Outcome → ch_W → Prop} (h : m_X3_checkClasses_92 x1 y0 y1 σ = some res) (hk : (ch_sm (fun s => ch_FT g false mX3_checkClasses 3 49 [some (va_rf (some m)), some (.int s.1), none, none] [] (ch_put m w s.2) Q) (fun r => ch_eV Q (ch_put m w r))) res) : ch_FT g false mX3_checkClasses 3 92 [some (va_rf (some m)), some (.int x1), none, none] [.int y0, .int y1, va_rf (ch_mr m fX3_parent)] (ch_put m w σ) Q := by
  unfold m_X3_checkClasses_92 at h
  refine mp_iast dX3_checkClasses_92 mk_41 rfl h (fun σ1 h => ?_)
  refine ch_aload_n 0 (some m) dX3_checkClasses_93 rfl (mp_gA 40 dX3_checkClasses_94 fl_X3_85 rfl (ch_iload_n 1 _ dX3_checkClasses_97 rfl (mp_iald dX3_checkClasses_98 mk_40 h (fun v2 h => ?_))))
  refine cp_if_lt _ (tgt := 121) dX3_checkClasses_99 rfl h (fun h => ?_) (fun h => ?_)
  · refine ch_iinc 1 _ _ (x1 + 1) (ls1 := [some (va_rf (some m)), some (.int (x1 + 1)), none, none]) dX3_checkClasses_121 rfl rfl (Nat.le_of_ble_eq_true rfl) rfl (ch_goto 49 dX3_checkClasses_124 rfl (ch_FT.wk (ch_wS (ch_wS (ch_wN (ch_wN ch_w0)))) ?_))
    obtain rfl := Option.some.inj h
    exact hk
  · refine ch_aload_n 0 (some m) dX3_checkClasses_102 rfl (mp_gA 41 dX3_checkClasses_103 fl_X3_88 rfl (ch_iload_n 1 _ dX3_checkClasses_106 rfl (mp_iald dX3_checkClasses_107 mk_41 h (fun v3 h => ?_))))
    refine cp_if_ge _ (tgt := 121) dX3_checkClasses_108 rfl h (fun h => ?_) (fun h => ?_)
    · refine ch_iinc 1 _ _ (x1 + 1) (ls1 := [some (va_rf (some m)), some (.int (x1 + 1)), none, none]) dX3_checkClasses_121 rfl rfl (Nat.le_of_ble_eq_true rfl) rfl (ch_goto 49 dX3_checkClasses_124 rfl (ch_FT.wk (ch_wS (ch_wS (ch_wN (ch_wN ch_w0)))) ?_))
      obtain rfl := Option.some.inj h
      exact hk
    · refine ch_aload_n 0 (some m) dX3_checkClasses_111 rfl (ch_aload_n 0 (some m) dX3_checkClasses_112 rfl (mp_gA 39 dX3_checkClasses_113 fl_X3_82 rfl (ch_iload_n 1 _ dX3_checkClasses_116 rfl (mp_iald dX3_checkClasses_117 mk_39 h (fun v4 h => ?_)))))
      obtain ⟨p5, hp6, h⟩ := ch_bd h
      refine ch_iv yX3_isBad prog_14_method_42_code 2 none (ci := 3) (q := (RX3, TX3, 109)) (b := m) (d' := 2) (av := [.int v4]) (rest := []) rfl dX3_checkClasses_118 q2048 q2050 rfl qs141 q2051 can_X3_isBad (Nat.le_of_ble_eq_true rfl) (Nat.le_of_ble_eq_true rfl) ch_put_tag (cp_kV (w1 := ch_put m w p5) (fun Q' hq => s_X3_isBad hp6 hq) ?_)
      refine ch_iinc 1 _ _ (x1 + 1) (ls1 := [some (va_rf (some m)), some (.int (x1 + 1)), none, none]) dX3_checkClasses_121 rfl rfl (Nat.le_of_ble_eq_true rfl) rfl (ch_goto 49 dX3_checkClasses_124 rfl (ch_FT.wk (ch_wS (ch_wS (ch_wN (ch_wN ch_w0)))) ?_))
      obtain rfl := Option.some.inj h
      exact hk

def m_X3_checkClasses_49 (x1 : Int32)  (σ : ch_S) : Option ((Int32 × ch_S) ⊕ (ch_S)) := if x1 < (σ.1 fX3_classes) then (if (σ.1 fX3_bad) < 0 then ((ch_ma σ fX3_parentId x1).bind fun v1 => if v1 < 0 then (m_X3_checkClasses_92 x1 (-1) x1 σ) else ((ch_ma σ fX3_parentId x1).bind fun v2 => (m_X3_classOf v2 σ).bind fun v3 => m_X3_checkClasses_92 x1 v3 x1 σ)) else ((ch_loop (fun (s : Int32 × ch_S) => m_X3_checkClasses_129 s.1 s.2) (5, σ)).bind fun r => some (.inr (r)))) else ((ch_loop (fun (s : Int32 × ch_S) => m_X3_checkClasses_129 s.1 s.2) (5, σ)).bind fun r => some (.inr (r)))
theorem s_X3_checkClasses_49 {g : State} {m : Nat} {w : ch_W} {x1 : Int32} {σ : ch_S} {res : (Int32 × ch_S) ⊕ (ch_S)} {Q : Outcome → ch_W → Prop} (h : m_X3_checkClasses_49 x1 σ = some res) (hk : (ch_sm (fun s => ch_FT g false mX3_checkClasses 3 49 [some (va_rf (some m)), some (.int s.1), none, none] [] (ch_put m w s.2) Q) (fun r => ch_eV Q (ch_put m w r))) res) : ch_FT g false mX3_checkClasses 3 49 [some (va_rf (some m)), some (.int x1), none, none] [] (ch_put m w σ) Q := by
  unfold m_X3_checkClasses_49 at h
  refine ch_iload_n 1 _ dX3_checkClasses_49 rfl (ch_aload_n 0 (some m) dX3_checkClasses_50 rfl (mp_gI 37 dX3_checkClasses_51 fl_X3_397 rfl (cp_icmp_ge _ _ (tgt := 127) dX3_checkClasses_54 rfl h (fun h => ?_) (fun h => ?_))))
  · obtain ⟨r, hr, h⟩ := ch_bd h
    obtain rfl := Option.some.inj h
    exact ch_iconst _ 5 dX3_checkClasses_127 rfl (ch_istore_n 1 _ (ls1 := [some (va_rf (some m)), some (.int 5), none, none]) dX3_checkClasses_128 (Nat.le_of_ble_eq_true rfl) rfl (ch_FT.wk (ch_wS (ch_wS (ch_wN (ch_wN ch_w0)))) (sl_X3_checkClasses_129  hr hk)))
  · refine ch_aload_n 0 (some m) dX3_checkClasses_57 rfl (mp_gI 58 dX3_checkClasses_58 fl_X3_409 rfl (cp_if_ge _ (tgt := 127) dX3_checkClasses_61 rfl h (fun h => ?_) (fun h => ?_)))
    · obtain ⟨r, hr, h⟩ := ch_bd h
      obtain rfl := Option.some.inj h
      exact ch_iconst _ 5 dX3_checkClasses_127 rfl (ch_istore_n 1 _ (ls1 := [some (va_rf (some m)), some (.int 5), none, none]) dX3_checkClasses_128 (Nat.le_of_ble_eq_true rfl) rfl (ch_FT.wk (ch_wS (ch_wS (ch_wN (ch_wN ch_w0)))) (sl_X3_checkClasses_129  hr hk)))
    · refine ch_aload_n 0 (some m) dX3_checkClasses_64 rfl (mp_gA 41 dX3_checkClasses_65 fl_X3_88 rfl (ch_iload_n 1 _ dX3_checkClasses_68 rfl (ch_aload_n 0 (some m) dX3_checkClasses_69 rfl (mp_gA 40 dX3_checkClasses_70 fl_X3_85 rfl (ch_iload_n 1 _ dX3_checkClasses_73 rfl (mp_iald dX3_checkClasses_74 mk_40 h (fun v1 h => ?_)))))))
      refine cp_if_ge _ (tgt := 82) dX3_checkClasses_75 rfl h (fun h => ?_) (fun h => ?_)
      · refine ch_aload_n 0 (some m) dX3_checkClasses_82 rfl (ch_aload_n 0 (some m) dX3_checkClasses_83 rfl (mp_gA 40 dX3_checkClasses_84 fl_X3_85 rfl (ch_iload_n 1 _ dX3_checkClasses_87 rfl (mp_iald dX3_checkClasses_88 mk_40 h (fun v2 h => ?_)))))
        obtain ⟨v3, hp4, h⟩ := ch_bd h
        refine ch_iv yX3_classOf prog_14_method_43_code 3 (some .int) (ci := 3) (q := (RX3, TX3, 109)) (b := m) (d' := 2) (av := [.int v2]) (rest := [.int x1, va_rf (ch_mr m fX3_parent)]) rfl dX3_checkClasses_89 q2044 q2046 rfl qs140 q2047 can_X3_classOf (Nat.le_of_ble_eq_true rfl) (ch_hw (Nat.le_of_ble_eq_true rfl)) ch_put_tag (cp_kI (v := v3) (w1 := ch_put m w σ) (fun Q' hq => s_X3_classOf hp4 hq) ?_)
        exact ch_FT.wk (ch_wS (ch_wS (ch_wN (ch_wN ch_w0)))) (s_X3_checkClasses_92  h hk)
      · exact ch_iconst _ (-1) dX3_checkClasses_78 rfl (ch_goto 92 dX3_checkClasses_79 rfl (ch_FT.wk (ch_wS (ch_wS (ch_wN (ch_wN ch_w0)))) (s_X3_checkClasses_92  h hk)))
theorem sl_X3_checkClasses_49 {g : State} {m : Nat} {w : ch_W} {a : Int32 × ch_S} {res : ch_S} {Q : Outcome → ch_W → Prop} (h : ch_loop (fun (s : Int32 × ch_S) => m_X3_checkClasses_49 s.1 s.2) a = some res) (hk : (fun r => ch_eV Q (ch_put m w r)) res) : ch_FT g false mX3_checkClasses 3 49 [some (va_rf (some m)), some (.int a.1), none, none] [] (ch_put m w a.2) Q := by
  refine ch_loop_ind (fun (a : Int32 × ch_S) (r : ch_S) => (fun r => ch_eV Q (ch_put m w r)) r → ch_FT g false mX3_checkClasses 3 49 [some (va_rf (some m)), some (.int a.1), none, none] [] (ch_put m w a.2) Q) ?_ ?_ a res h hk
  · intro a a2 b h1 ih hk
    exact s_X3_checkClasses_49  h1 (ih hk)
  · intro a b h1 hk
    exact s_X3_checkClasses_49  h1 hk

def m_X3_checkClasses_2 (x1 : Int32)  (σ : ch_S) : Option ((Int32 × ch_S) ⊕ (ch_S)) := if x1 < (σ.1 fX3_classes) then (if (σ.1 fX3_bad) < 0 then ((ch_ma σ fX3_classId x1).bind fun v1 => (m_X3_classOf v1 σ).bind fun v2 => if v2 = x1 then (some (.inl (x1 + 1, σ))) else ((ch_ma σ fX3_classAt x1).bind fun v4 => (m_X3_isBad v4 σ).bind fun p5 => some (.inl (x1 + 1, p5)))) else ((ch_loop (fun (s : Int32 × ch_S) => m_X3_checkClasses_49 s.1 s.2) (5, σ)).bind fun r => some (.inr (r)))) else ((ch_loop (fun (s : Int32 × ch_S) => m_X3_checkClasses_49 s.1 s.2) (5, σ)).bind fun r => some (.inr (r)))
theorem s_X3_checkClasses_2 {g : State} {m : Nat} {w : ch_W} {x1 : Int32} {σ : ch_S} {res : (Int32 × ch_S) ⊕ (ch_S)} {Q : Outcome → ch_W → Prop} (h : m_X3_checkClasses_2 x1 σ = some res) (hk : (ch_sm (fun s => ch_FT g false mX3_checkClasses 3 2 [some (va_rf (some m)), some (.int s.1), none, none] [] (ch_put m w s.2) Q) (fun r => ch_eV Q (ch_put m w r))) res) : ch_FT g false mX3_checkClasses 3 2 [some (va_rf (some m)), some (.int x1), none, none] [] (ch_put m w σ) Q := by
  unfold m_X3_checkClasses_2 at h
  refine ch_iload_n 1 _ dX3_checkClasses_2 rfl (ch_aload_n 0 (some m) dX3_checkClasses_3 rfl (mp_gI 37 dX3_checkClasses_4 fl_X3_397 rfl (cp_icmp_ge _ _ (tgt := 47) dX3_checkClasses_7 rfl h (fun h => ?_) (fun h => ?_))))
  · obtain ⟨r, hr, h⟩ := ch_bd h
    obtain rfl := Option.some.inj h
    exact ch_iconst _ 5 dX3_checkClasses_47 rfl (ch_istore_n 1 _ (ls1 := [some (va_rf (some m)), some (.int 5), none, none]) dX3_checkClasses_48 (Nat.le_of_ble_eq_true rfl) rfl (ch_FT.wk (ch_wS (ch_wS (ch_wN (ch_wN ch_w0)))) (sl_X3_checkClasses_49  hr hk)))
  · refine ch_aload_n 0 (some m) dX3_checkClasses_10 rfl (mp_gI 58 dX3_checkClasses_11 fl_X3_409 rfl (cp_if_ge _ (tgt := 47) dX3_checkClasses_14 rfl h (fun h => ?_) (fun h => ?_)))
    · obtain ⟨r, hr, h⟩ := ch_bd h
      obtain rfl := Option.some.inj h
      exact ch_iconst _ 5 dX3_checkClasses_47 rfl (ch_istore_n 1 _ (ls1 := [some (va_rf (some m)), some (.int 5), none, none]) dX3_checkClasses_48 (Nat.le_of_ble_eq_true rfl) rfl (ch_FT.wk (ch_wS (ch_wS (ch_wN (ch_wN ch_w0)))) (sl_X3_checkClasses_49  hr hk)))
    · refine ch_aload_n 0 (some m) dX3_checkClasses_17 rfl (ch_aload_n 0 (some m) dX3_checkClasses_18 rfl (mp_gA 38 dX3_checkClasses_19 fl_X3_79 rfl (ch_iload_n 1 _ dX3_checkClasses_22 rfl (mp_iald dX3_checkClasses_23 mk_38 h (fun v1 h => ?_)))))
      obtain ⟨v2, hp3, h⟩ := ch_bd h
      refine ch_iv yX3_classOf prog_14_method_43_code 3 (some .int) (ci := 3) (q := (RX3, TX3, 109)) (b := m) (d' := 2) (av := [.int v1]) (rest := []) rfl dX3_checkClasses_24 q2044 q2046 rfl qs140 q2047 can_X3_classOf (Nat.le_of_ble_eq_true rfl) (Nat.le_of_ble_eq_true rfl) ch_put_tag (cp_kI (v := v2) (w1 := ch_put m w σ) (fun Q' hq => s_X3_classOf hp3 hq) ?_)
      refine ch_iload_n 1 _ dX3_checkClasses_27 rfl (cp_icmp_eq _ _ (tgt := 41) dX3_checkClasses_28 rfl h (fun h => ?_) (fun h => ?_))
      · refine ch_iinc 1 _ _ (x1 + 1) (ls1 := [some (va_rf (some m)), some (.int (x1 + 1)), none, none]) dX3_checkClasses_41 rfl rfl (Nat.le_of_ble_eq_true rfl) rfl (ch_goto 2 dX3_checkClasses_44 rfl (ch_FT.wk (ch_wS (ch_wS (ch_wN (ch_wN ch_w0)))) ?_))
        obtain rfl := Option.some.inj h
        exact hk
      · refine ch_aload_n 0 (some m) dX3_checkClasses_31 rfl (ch_aload_n 0 (some m) dX3_checkClasses_32 rfl (mp_gA 39 dX3_checkClasses_33 fl_X3_82 rfl (ch_iload_n 1 _ dX3_checkClasses_36 rfl (mp_iald dX3_checkClasses_37 mk_39 h (fun v4 h => ?_)))))
        obtain ⟨p5, hp6, h⟩ := ch_bd h
        refine ch_iv yX3_isBad prog_14_method_42_code 2 none (ci := 3) (q := (RX3, TX3, 109)) (b := m) (d' := 2) (av := [.int v4]) (rest := []) rfl dX3_checkClasses_38 q2048 q2050 rfl qs141 q2051 can_X3_isBad (Nat.le_of_ble_eq_true rfl) (Nat.le_of_ble_eq_true rfl) ch_put_tag (cp_kV (w1 := ch_put m w p5) (fun Q' hq => s_X3_isBad hp6 hq) ?_)
        refine ch_iinc 1 _ _ (x1 + 1) (ls1 := [some (va_rf (some m)), some (.int (x1 + 1)), none, none]) dX3_checkClasses_41 rfl rfl (Nat.le_of_ble_eq_true rfl) rfl (ch_goto 2 dX3_checkClasses_44 rfl (ch_FT.wk (ch_wS (ch_wS (ch_wN (ch_wN ch_w0)))) ?_))
        obtain rfl := Option.some.inj h
        exact hk
theorem sl_X3_checkClasses_2 {g : State} {m : Nat} {w : ch_W} {a : Int32 × ch_S} {res : ch_S} {Q : Outcome → ch_W → Prop} (h : ch_loop (fun (s : Int32 × ch_S) => m_X3_checkClasses_2 s.1 s.2) a = some res) (hk : (fun r => ch_eV Q (ch_put m w r)) res) : ch_FT g false mX3_checkClasses 3 2 [some (va_rf (some m)), some (.int a.1), none, none] [] (ch_put m w a.2) Q := by
  refine ch_loop_ind (fun (a : Int32 × ch_S) (r : ch_S) => (fun r => ch_eV Q (ch_put m w r)) r → ch_FT g false mX3_checkClasses 3 2 [some (va_rf (some m)), some (.int a.1), none, none] [] (ch_put m w a.2) Q) ?_ ?_ a res h hk
  · intro a a2 b h1 ih hk
    exact s_X3_checkClasses_2  h1 (ih hk)
  · intro a b h1 hk
    exact s_X3_checkClasses_2  h1 hk

def m_X3_checkClasses  (σ : ch_S) : Option (ch_S) := ch_loop (fun (s : Int32 × ch_S) => m_X3_checkClasses_2 s.1 s.2) (5, σ)
theorem s_X3_checkClasses {g : State} {m : Nat} {w : ch_W} {σ : ch_S} {res : ch_S} {Q : Outcome → ch_W → Prop} (h : m_X3_checkClasses  σ = some res) (hk : (fun r => ch_eV Q (ch_put m w r)) res) : ch_CT g false yX3_checkClasses 3 [.ref m] (ch_put m w σ) Q := by
  unfold m_X3_checkClasses at h
  refine ch_ctL mX3_checkClasses (ls := [some (va_rf (some m)), none, none, none]) q2043 rfl (ch_lyr (r := some m) ch_ly0) (Nat.le_of_ble_eq_true rfl) rfl ?_
  exact ch_iconst _ 5 dX3_checkClasses_0 rfl (ch_istore_n 1 _ (ls1 := [some (va_rf (some m)), some (.int 5), none, none]) dX3_checkClasses_1 (Nat.le_of_ble_eq_true rfl) rfl (ch_FT.wk (ch_wS (ch_wS (ch_wN (ch_wN ch_w0)))) (sl_X3_checkClasses_2  h hk)))

theorem bX3_meant_0 : ch_ck cX3_meant 0 [27, 16, 10, 162, 0, 5, 27, 172, 42, 27, 16, 10, 100, 182, 1, 156] := ch_ckof (by decide +kernel)
theorem bX3_meant_1 : ch_ck cX3_meant 16 [61, 28, 156, 0, 7, 8, 167, 0, 7, 16, 10, 28, 96, 172] := ch_ckof (by decide +kernel)
theorem dX3_meant_0 : decode cX3_meant 0 = .ok (.iload_n 1, 1) := dz_27 (bX3_meant_0 0 _ rfl)
theorem dX3_meant_1 : decode cX3_meant 1 = .ok (.bipush 10, 2) := dz_16 (bX3_meant_0 1 _ rfl) (bX3_meant_0 2 _ rfl)
theorem dX3_meant_3 : decode cX3_meant 3 = .ok (.if_icmp .ge 5, 3) := dz_162 (bX3_meant_0 3 _ rfl) (bX3_meant_0 4 _ rfl) (bX3_meant_0 5 _ rfl)
theorem dX3_meant_6 : decode cX3_meant 6 = .ok (.iload_n 1, 1) := dz_27 (bX3_meant_0 6 _ rfl)
theorem dX3_meant_7 : decode cX3_meant 7 = .ok (.ireturn, 1) := dz_172 (bX3_meant_0 7 _ rfl)
theorem dX3_meant_8 : decode cX3_meant 8 = .ok (.aload_n 0, 1) := dz_42 (bX3_meant_0 8 _ rfl)
theorem dX3_meant_9 : decode cX3_meant 9 = .ok (.iload_n 1, 1) := dz_27 (bX3_meant_0 9 _ rfl)
theorem dX3_meant_10 : decode cX3_meant 10 = .ok (.bipush 10, 2) := dz_16 (bX3_meant_0 10 _ rfl) (bX3_meant_0 11 _ rfl)
theorem dX3_meant_12 : decode cX3_meant 12 = .ok (.isub, 1) := dz_100 (bX3_meant_0 12 _ rfl)
theorem dX3_meant_13 : decode cX3_meant 13 = .ok (.invokevirtual 412, 3) := dz_182 (bX3_meant_0 13 _ rfl) (bX3_meant_0 14 _ rfl) (bX3_meant_0 15 _ rfl)
theorem dX3_meant_16 : decode cX3_meant 16 = .ok (.istore_n 2, 1) := dz_61 (bX3_meant_1 0 _ rfl)
theorem dX3_meant_17 : decode cX3_meant 17 = .ok (.iload_n 2, 1) := dz_28 (bX3_meant_1 1 _ rfl)
theorem dX3_meant_18 : decode cX3_meant 18 = .ok (.ifCond .ge 7, 3) := dz_156 (bX3_meant_1 2 _ rfl) (bX3_meant_1 3 _ rfl) (bX3_meant_1 4 _ rfl)
theorem dX3_meant_21 : decode cX3_meant 21 = .ok (.iconst 5, 1) := dz_8 (bX3_meant_1 5 _ rfl)
theorem dX3_meant_22 : decode cX3_meant 22 = .ok (.goto 7, 3) := dz_167 (bX3_meant_1 6 _ rfl) (bX3_meant_1 7 _ rfl) (bX3_meant_1 8 _ rfl)
theorem dX3_meant_25 : decode cX3_meant 25 = .ok (.bipush 10, 2) := dz_16 (bX3_meant_1 9 _ rfl) (bX3_meant_1 10 _ rfl)
theorem dX3_meant_27 : decode cX3_meant 27 = .ok (.iload_n 2, 1) := dz_28 (bX3_meant_1 11 _ rfl)
theorem dX3_meant_28 : decode cX3_meant 28 = .ok (.iadd, 1) := dz_96 (bX3_meant_1 12 _ rfl)
theorem dX3_meant_29 : decode cX3_meant 29 = .ok (.ireturn, 1) := dz_172 (bX3_meant_1 13 _ rfl)
def m_X3_meant (x1 : Int32) (σ : ch_S) : Option (Int32) := if x1 < 10 then (some (x1)) else ((m_X3_classOf (x1 - 10) σ).bind fun v1 => if v1 < 0 then (some (5)) else (some (10 + v1)))
theorem s_X3_meant {g : State} {m : Nat} {w : ch_W} {x1 : Int32} {σ : ch_S} {res : Int32} {Q : Outcome → ch_W → Prop} (h : m_X3_meant x1 σ = some res) (hk : (fun r => ch_eI Q (r, ch_put m w σ)) res) : ch_CT g false yX3_meant 3 [.ref m, .int x1] (ch_put m w σ) Q := by
  unfold m_X3_meant at h
  refine ch_ctL mX3_meant (ls := [some (va_rf (some m)), some (.int x1), none]) q2059 rfl (ch_lyr (r := some m) (ch_lyi ch_ly0)) (Nat.le_of_ble_eq_true rfl) rfl ?_
  refine ch_iload_n 1 _ dX3_meant_0 rfl (ch_bipush _ 10 dX3_meant_1 rfl (cp_icmp_ge _ _ (tgt := 8) dX3_meant_3 rfl h (fun h => ?_) (fun h => ?_)))
  · obtain ⟨v1, hp2, h⟩ := ch_bd h
    refine ch_aload_n 0 (some m) dX3_meant_8 rfl (ch_iload_n 1 _ dX3_meant_9 rfl (ch_bipush _ 10 dX3_meant_10 rfl (ch_isub _ _ dX3_meant_12 (ch_iv yX3_classOf prog_14_method_43_code 3 (some .int) (ci := 3) (q := (RX3, TX3, 109)) (b := m) (d' := 2) (av := [.int (x1 - 10)]) (rest := []) rfl dX3_meant_13 q2044 q2046 rfl qs140 q2047 can_X3_classOf (Nat.le_of_ble_eq_true rfl) (Nat.le_of_ble_eq_true rfl) ch_put_tag (cp_kI (v := v1) (w1 := ch_put m w σ) (fun Q' hq => s_X3_classOf hp2 hq) ?_)))))
    refine ch_istore_n 2 _ (ls1 := [some (va_rf (some m)), some (.int x1), some (.int v1)]) dX3_meant_16 (Nat.le_of_ble_eq_true rfl) rfl (ch_iload_n 2 _ dX3_meant_17 rfl (cp_if_ge _ (tgt := 25) dX3_meant_18 rfl h (fun h => ?_) (fun h => ?_)))
    · obtain rfl := Option.some.inj h
      exact ch_bipush _ 10 dX3_meant_25 rfl (ch_iload_n 2 _ dX3_meant_27 rfl (ch_iadd _ _ dX3_meant_28 (ch_ireturn _ dX3_meant_29 rfl rfl hk)))
    · obtain rfl := Option.some.inj h
      exact ch_iconst _ 5 dX3_meant_21 rfl (ch_goto 29 dX3_meant_22 rfl (ch_ireturn _ dX3_meant_29 rfl rfl hk))
  · obtain rfl := Option.some.inj h
    exact ch_iload_n 1 _ dX3_meant_6 rfl (ch_ireturn _ dX3_meant_7 rfl rfl hk)

theorem bX3_memberOf_0 : ch_ck cX3_memberOf 0 [27, 54, 4, 21, 4, 155, 0, 69, 42, 180, 0, 94, 21, 4, 46, 54] := ch_ckof (by decide +kernel)
theorem bX3_memberOf_1 : ch_ck cX3_memberOf 16 [5, 21, 5, 42, 180, 0, 94, 21, 4, 4, 96, 46, 162, 0, 34, 42] := ch_ckof (by decide +kernel)
theorem bX3_memberOf_2 : ch_ck cX3_memberOf 32 [180, 0, 97, 21, 5, 46, 28, 160, 0, 17, 42, 180, 0, 106, 21, 5] := ch_ckof (by decide +kernel)
theorem bX3_memberOf_3 : ch_ck cX3_memberOf 48 [51, 29, 160, 0, 6, 21, 5, 172, 132, 5, 1, 167, 255, 214, 42, 180] := ch_ckof (by decide +kernel)
theorem bX3_memberOf_4 : ch_ck cX3_memberOf 64 [0, 88, 21, 4, 46, 54, 4, 167, 255, 188, 2, 172] := ch_ckof (by decide +kernel)
theorem dX3_memberOf_0 : decode cX3_memberOf 0 = .ok (.iload_n 1, 1) := dz_27 (bX3_memberOf_0 0 _ rfl)
theorem dX3_memberOf_1 : decode cX3_memberOf 1 = .ok (.istore 4, 2) := dz_54 (bX3_memberOf_0 1 _ rfl) (bX3_memberOf_0 2 _ rfl)
theorem dX3_memberOf_3 : decode cX3_memberOf 3 = .ok (.iload 4, 2) := dz_21 (bX3_memberOf_0 3 _ rfl) (bX3_memberOf_0 4 _ rfl)
theorem dX3_memberOf_5 : decode cX3_memberOf 5 = .ok (.ifCond .lt 69, 3) := dz_155 (bX3_memberOf_0 5 _ rfl) (bX3_memberOf_0 6 _ rfl) (bX3_memberOf_0 7 _ rfl)
theorem dX3_memberOf_8 : decode cX3_memberOf 8 = .ok (.aload_n 0, 1) := dz_42 (bX3_memberOf_0 8 _ rfl)
theorem dX3_memberOf_9 : decode cX3_memberOf 9 = .ok (.getfield 94, 3) := dz_180 (bX3_memberOf_0 9 _ rfl) (bX3_memberOf_0 10 _ rfl) (bX3_memberOf_0 11 _ rfl)
theorem dX3_memberOf_12 : decode cX3_memberOf 12 = .ok (.iload 4, 2) := dz_21 (bX3_memberOf_0 12 _ rfl) (bX3_memberOf_0 13 _ rfl)
theorem dX3_memberOf_14 : decode cX3_memberOf 14 = .ok (.iaload, 1) := dz_46 (bX3_memberOf_0 14 _ rfl)
theorem dX3_memberOf_15 : decode cX3_memberOf 15 = .ok (.istore 5, 2) := dz_54 (bX3_memberOf_0 15 _ rfl) (bX3_memberOf_1 0 _ rfl)
theorem dX3_memberOf_17 : decode cX3_memberOf 17 = .ok (.iload 5, 2) := dz_21 (bX3_memberOf_1 1 _ rfl) (bX3_memberOf_1 2 _ rfl)
theorem dX3_memberOf_19 : decode cX3_memberOf 19 = .ok (.aload_n 0, 1) := dz_42 (bX3_memberOf_1 3 _ rfl)
theorem dX3_memberOf_20 : decode cX3_memberOf 20 = .ok (.getfield 94, 3) := dz_180 (bX3_memberOf_1 4 _ rfl) (bX3_memberOf_1 5 _ rfl) (bX3_memberOf_1 6 _ rfl)
theorem dX3_memberOf_23 : decode cX3_memberOf 23 = .ok (.iload 4, 2) := dz_21 (bX3_memberOf_1 7 _ rfl) (bX3_memberOf_1 8 _ rfl)
theorem dX3_memberOf_25 : decode cX3_memberOf 25 = .ok (.iconst 1, 1) := dz_4 (bX3_memberOf_1 9 _ rfl)
theorem dX3_memberOf_26 : decode cX3_memberOf 26 = .ok (.iadd, 1) := dz_96 (bX3_memberOf_1 10 _ rfl)
theorem dX3_memberOf_27 : decode cX3_memberOf 27 = .ok (.iaload, 1) := dz_46 (bX3_memberOf_1 11 _ rfl)
theorem dX3_memberOf_28 : decode cX3_memberOf 28 = .ok (.if_icmp .ge 34, 3) := dz_162 (bX3_memberOf_1 12 _ rfl) (bX3_memberOf_1 13 _ rfl) (bX3_memberOf_1 14 _ rfl)
theorem dX3_memberOf_31 : decode cX3_memberOf 31 = .ok (.aload_n 0, 1) := dz_42 (bX3_memberOf_1 15 _ rfl)
theorem dX3_memberOf_32 : decode cX3_memberOf 32 = .ok (.getfield 97, 3) := dz_180 (bX3_memberOf_2 0 _ rfl) (bX3_memberOf_2 1 _ rfl) (bX3_memberOf_2 2 _ rfl)
theorem dX3_memberOf_35 : decode cX3_memberOf 35 = .ok (.iload 5, 2) := dz_21 (bX3_memberOf_2 3 _ rfl) (bX3_memberOf_2 4 _ rfl)
theorem dX3_memberOf_37 : decode cX3_memberOf 37 = .ok (.iaload, 1) := dz_46 (bX3_memberOf_2 5 _ rfl)
theorem dX3_memberOf_38 : decode cX3_memberOf 38 = .ok (.iload_n 2, 1) := dz_28 (bX3_memberOf_2 6 _ rfl)
theorem dX3_memberOf_39 : decode cX3_memberOf 39 = .ok (.if_icmp .ne 17, 3) := dz_160 (bX3_memberOf_2 7 _ rfl) (bX3_memberOf_2 8 _ rfl) (bX3_memberOf_2 9 _ rfl)
theorem dX3_memberOf_42 : decode cX3_memberOf 42 = .ok (.aload_n 0, 1) := dz_42 (bX3_memberOf_2 10 _ rfl)
theorem dX3_memberOf_43 : decode cX3_memberOf 43 = .ok (.getfield 106, 3) := dz_180 (bX3_memberOf_2 11 _ rfl) (bX3_memberOf_2 12 _ rfl) (bX3_memberOf_2 13 _ rfl)
theorem dX3_memberOf_46 : decode cX3_memberOf 46 = .ok (.iload 5, 2) := dz_21 (bX3_memberOf_2 14 _ rfl) (bX3_memberOf_2 15 _ rfl)
theorem dX3_memberOf_48 : decode cX3_memberOf 48 = .ok (.baload, 1) := dz_51 (bX3_memberOf_3 0 _ rfl)
theorem dX3_memberOf_49 : decode cX3_memberOf 49 = .ok (.iload_n 3, 1) := dz_29 (bX3_memberOf_3 1 _ rfl)
theorem dX3_memberOf_50 : decode cX3_memberOf 50 = .ok (.if_icmp .ne 6, 3) := dz_160 (bX3_memberOf_3 2 _ rfl) (bX3_memberOf_3 3 _ rfl) (bX3_memberOf_3 4 _ rfl)
theorem dX3_memberOf_53 : decode cX3_memberOf 53 = .ok (.iload 5, 2) := dz_21 (bX3_memberOf_3 5 _ rfl) (bX3_memberOf_3 6 _ rfl)
theorem dX3_memberOf_55 : decode cX3_memberOf 55 = .ok (.ireturn, 1) := dz_172 (bX3_memberOf_3 7 _ rfl)
theorem dX3_memberOf_56 : decode cX3_memberOf 56 = .ok (.iinc 5 1, 3) := dz_132 (bX3_memberOf_3 8 _ rfl) (bX3_memberOf_3 9 _ rfl) (bX3_memberOf_3 10 _ rfl)
theorem dX3_memberOf_59 : decode cX3_memberOf 59 = .ok (.goto (-42), 3) := dz_167 (bX3_memberOf_3 11 _ rfl) (bX3_memberOf_3 12 _ rfl) (bX3_memberOf_3 13 _ rfl)
theorem dX3_memberOf_62 : decode cX3_memberOf 62 = .ok (.aload_n 0, 1) := dz_42 (bX3_memberOf_3 14 _ rfl)
theorem dX3_memberOf_63 : decode cX3_memberOf 63 = .ok (.getfield 88, 3) := dz_180 (bX3_memberOf_3 15 _ rfl) (bX3_memberOf_4 0 _ rfl) (bX3_memberOf_4 1 _ rfl)
theorem dX3_memberOf_66 : decode cX3_memberOf 66 = .ok (.iload 4, 2) := dz_21 (bX3_memberOf_4 2 _ rfl) (bX3_memberOf_4 3 _ rfl)
theorem dX3_memberOf_68 : decode cX3_memberOf 68 = .ok (.iaload, 1) := dz_46 (bX3_memberOf_4 4 _ rfl)
theorem dX3_memberOf_69 : decode cX3_memberOf 69 = .ok (.istore 4, 2) := dz_54 (bX3_memberOf_4 5 _ rfl) (bX3_memberOf_4 6 _ rfl)
theorem dX3_memberOf_71 : decode cX3_memberOf 71 = .ok (.goto (-68), 3) := dz_167 (bX3_memberOf_4 7 _ rfl) (bX3_memberOf_4 8 _ rfl) (bX3_memberOf_4 9 _ rfl)
theorem dX3_memberOf_74 : decode cX3_memberOf 74 = .ok (.iconst (-1), 1) := dz_2 (bX3_memberOf_4 10 _ rfl)
theorem dX3_memberOf_75 : decode cX3_memberOf 75 = .ok (.ireturn, 1) := dz_172 (bX3_memberOf_4 11 _ rfl)
def m_X3_memberOf_17 (x2 : Int32) (x3 : Int32) (x4 : Int32) (x5 : Int32)  (σ : ch_S) : Option (Int32 ⊕ (Int32 ⊕ (Int32))) := (ch_ma σ fX3_memberFrom (x4 + 1)).bind fun v1 => if x5 < v1 then ((ch_ma σ fX3_memberId x5).bind fun v3 => if v3 = x2 then ((ch_ma σ fX3_isMethod x5).bind fun v4 => if v4 = x3 then (some (.inr (.inr (x5)))) else (some (.inl (x5 + 1)))) else (some (.inl (x5 + 1)))) else ((ch_ma σ fX3_parent x4).bind fun v2 => some (.inr (.inl (v2))))
theorem s_X3_memberOf_17 {g : State} {m : Nat} {w : ch_W} {x2 : Int32} {x3 : Int32} {x4 : Int32} {x5 : Int32} {σ : ch_S} {res : Int32 ⊕ (Int32 ⊕ (Int32))} {Q : Outcome → ch_W → Prop} (h : m_X3_memberOf_17 x2 x3 x4 x5 σ = some res) (hk : (ch_sm (fun s => ch_FT g false mX3_memberOf 2 17 [some (va_rf (some m)), none, some (.int x2), some (.int x3), some (.int x4), some (.int s)] [] (ch_put m w σ) Q) (ch_sm (fun s => ch_FT g false mX3_memberOf 2 3 [some (va_rf (some m)), none, some (.int x2), some (.int x3), some (.int s), none] [] (ch_put m w σ) Q) (fun r => ch_eI Q (r, ch_put m w σ)))) res) : ch_FT g false mX3_memberOf 2 17 [some (va_rf (some m)), none, some (.int x2), some (.int x3), some (.int x4), some (.int x5)] [] (ch_put m w σ) Q := by
  unfold m_X3_memberOf_17 at h
  refine ch_iload 5 _ dX3_memberOf_17 rfl (ch_aload_n 0 (some m) dX3_memberOf_19 rfl (mp_gA 43 dX3_memberOf_20 fl_X3_94 rfl (ch_iload 4 _ dX3_memberOf_23 rfl (ch_iconst _ 1 dX3_memberOf_25 rfl (ch_iadd _ _ dX3_memberOf_26 (mp_iald dX3_memberOf_27 mk_43 h (fun v1 h => ?_)))))))
  refine cp_icmp_ge _ _ (tgt := 62) dX3_memberOf_28 rfl h (fun h => ?_) (fun h => ?_)
  · refine ch_aload_n 0 (some m) dX3_memberOf_62 rfl (mp_gA 41 dX3_memberOf_63 fl_X3_88 rfl (ch_iload 4 _ dX3_memberOf_66 rfl (mp_iald dX3_memberOf_68 mk_41 h (fun v2 h => ?_))))
    refine ch_istore 4 _ (ls1 := [some (va_rf (some m)), none, some (.int x2), some (.int x3), some (.int v2), some (.int x5)]) dX3_memberOf_69 (Nat.le_of_ble_eq_true rfl) rfl (ch_goto 3 dX3_memberOf_71 rfl (ch_FT.wk (ch_wS (ch_wN (ch_wS (ch_wS (ch_wS (ch_wN ch_w0)))))) ?_))
    obtain rfl := Option.some.inj h
    exact hk
  · refine ch_aload_n 0 (some m) dX3_memberOf_31 rfl (mp_gA 45 dX3_memberOf_32 fl_X3_97 rfl (ch_iload 5 _ dX3_memberOf_35 rfl (mp_iald dX3_memberOf_37 mk_45 h (fun v3 h => ?_))))
    refine ch_iload_n 2 _ dX3_memberOf_38 rfl (cp_icmp_ne _ _ (tgt := 56) dX3_memberOf_39 rfl h (fun h => ?_) (fun h => ?_))
    · refine ch_iinc 5 _ _ (x5 + 1) (ls1 := [some (va_rf (some m)), none, some (.int x2), some (.int x3), some (.int x4), some (.int (x5 + 1))]) dX3_memberOf_56 rfl rfl (Nat.le_of_ble_eq_true rfl) rfl (ch_goto 17 dX3_memberOf_59 rfl (ch_FT.wk (ch_wS (ch_wN (ch_wS (ch_wS (ch_wS (ch_wS ch_w0)))))) ?_))
      obtain rfl := Option.some.inj h
      exact hk
    · refine ch_aload_n 0 (some m) dX3_memberOf_42 rfl (mp_gA 48 dX3_memberOf_43 fl_X3_106 rfl (ch_iload 5 _ dX3_memberOf_46 rfl (mp_zald dX3_memberOf_48 mk_48 h (fun v4 h => ?_))))
      refine ch_iload_n 3 _ dX3_memberOf_49 rfl (cp_icmp_ne _ _ (tgt := 56) dX3_memberOf_50 rfl h (fun h => ?_) (fun h => ?_))
      · refine ch_iinc 5 _ _ (x5 + 1) (ls1 := [some (va_rf (some m)), none, some (.int x2), some (.int x3), some (.int x4), some (.int (x5 + 1))]) dX3_memberOf_56 rfl rfl (Nat.le_of_ble_eq_true rfl) rfl (ch_goto 17 dX3_memberOf_59 rfl (ch_FT.wk (ch_wS (ch_wN (ch_wS (ch_wS (ch_wS (ch_wS ch_w0)))))) ?_))
        obtain rfl := Option.some.inj h
        exact hk
      · obtain rfl := Option.some.inj h
        exact ch_iload 5 _ dX3_memberOf_53 rfl (ch_ireturn _ dX3_memberOf_55 rfl rfl hk)
theorem sl_X3_memberOf_17 {g : State} {m : Nat} {w : ch_W} {x2 : Int32} {x3 : Int32} {x4 : Int32} {σ : ch_S} {a : Int32} {res : Int32 ⊕ (Int32)} {Q : Outcome → ch_W → Prop} (h : ch_loop (fun (s : Int32) => m_X3_memberOf_17 x2 x3 x4 s σ) a = some res) (hk : (ch_sm (fun s => ch_FT g false mX3_memberOf 2 3 [some (va_rf (some m)), none, some (.int x2), some (.int x3), some (.int s), none] [] (ch_put m w σ) Q) (fun r => ch_eI Q (r, ch_put m w σ))) res) : ch_FT g false mX3_memberOf 2 17 [some (va_rf (some m)), none, some (.int x2), some (.int x3), some (.int x4), some (.int a)] [] (ch_put m w σ) Q := by
  refine ch_loop_ind (fun (a : Int32) (r : Int32 ⊕ (Int32)) => (ch_sm (fun s => ch_FT g false mX3_memberOf 2 3 [some (va_rf (some m)), none, some (.int x2), some (.int x3), some (.int s), none] [] (ch_put m w σ) Q) (fun r => ch_eI Q (r, ch_put m w σ))) r → ch_FT g false mX3_memberOf 2 17 [some (va_rf (some m)), none, some (.int x2), some (.int x3), some (.int x4), some (.int a)] [] (ch_put m w σ) Q) ?_ ?_ a res h hk
  · intro a a2 b h1 ih hk
    exact s_X3_memberOf_17  h1 (ih hk)
  · intro a b h1 hk
    exact s_X3_memberOf_17  h1 hk

def m_X3_memberOf_3 (x2 : Int32) (x3 : Int32) (x4 : Int32)  (σ : ch_S) : Option (Int32 ⊕ (Int32)) := if x4 < 0 then (some (.inr ((-1)))) else ((ch_ma σ fX3_memberFrom x4).bind fun v1 => ch_loop (fun (s : Int32) => m_X3_memberOf_17 x2 x3 x4 s σ) (v1))
theorem s_X3_memberOf_3 {g : State} {m : Nat} {w : ch_W} {x2 : Int32} {x3 : Int32} {x4 : Int32} {σ : ch_S} {res : Int32 ⊕ (Int32)} {Q : Outcome → ch_W → Prop} (h : m_X3_memberOf_3 x2 x3 x4 σ = some res) (hk : (ch_sm (fun s => ch_FT g false mX3_memberOf 2 3 [some (va_rf (some m)), none, some (.int x2), some (.int x3), some (.int s), none] [] (ch_put m w σ) Q) (fun r => ch_eI Q (r, ch_put m w σ))) res) : ch_FT g false mX3_memberOf 2 3 [some (va_rf (some m)), none, some (.int x2), some (.int x3), some (.int x4), none] [] (ch_put m w σ) Q := by
  unfold m_X3_memberOf_3 at h
  refine ch_iload 4 _ dX3_memberOf_3 rfl (cp_if_lt _ (tgt := 74) dX3_memberOf_5 rfl h (fun h => ?_) (fun h => ?_))
  · obtain rfl := Option.some.inj h
    exact ch_iconst _ (-1) dX3_memberOf_74 rfl (ch_ireturn _ dX3_memberOf_75 rfl rfl hk)
  · refine ch_aload_n 0 (some m) dX3_memberOf_8 rfl (mp_gA 43 dX3_memberOf_9 fl_X3_94 rfl (ch_iload 4 _ dX3_memberOf_12 rfl (mp_iald dX3_memberOf_14 mk_43 h (fun v1 h => ?_))))
    exact ch_istore 5 _ (ls1 := [some (va_rf (some m)), none, some (.int x2), some (.int x3), some (.int x4), some (.int v1)]) dX3_memberOf_15 (Nat.le_of_ble_eq_true rfl) rfl (ch_FT.wk (ch_wS (ch_wN (ch_wS (ch_wS (ch_wS (ch_wS ch_w0)))))) (sl_X3_memberOf_17  h hk))
theorem sl_X3_memberOf_3 {g : State} {m : Nat} {w : ch_W} {x2 : Int32} {x3 : Int32} {σ : ch_S} {a : Int32} {res : Int32} {Q : Outcome → ch_W → Prop} (h : ch_loop (fun (s : Int32) => m_X3_memberOf_3 x2 x3 s σ) a = some res) (hk : (fun r => ch_eI Q (r, ch_put m w σ)) res) : ch_FT g false mX3_memberOf 2 3 [some (va_rf (some m)), none, some (.int x2), some (.int x3), some (.int a), none] [] (ch_put m w σ) Q := by
  refine ch_loop_ind (fun (a : Int32) (r : Int32) => (fun r => ch_eI Q (r, ch_put m w σ)) r → ch_FT g false mX3_memberOf 2 3 [some (va_rf (some m)), none, some (.int x2), some (.int x3), some (.int a), none] [] (ch_put m w σ) Q) ?_ ?_ a res h hk
  · intro a a2 b h1 ih hk
    exact s_X3_memberOf_3  h1 (ih hk)
  · intro a b h1 hk
    exact s_X3_memberOf_3  h1 hk

def m_X3_memberOf (x1 : Int32) (x2 : Int32) (x3 : Int32) (σ : ch_S) : Option (Int32) := ch_loop (fun (s : Int32) => m_X3_memberOf_3 x2 x3 s σ) (x1)
theorem s_X3_memberOf {g : State} {m : Nat} {w : ch_W} {x1 : Int32} {x2 : Int32} {x3 : Int32} {σ : ch_S} {res : Int32} {Q : Outcome → ch_W → Prop} (h : m_X3_memberOf x1 x2 x3 σ = some res) (hk : (fun r => ch_eI Q (r, ch_put m w σ)) res) : ch_CT g false yX3_memberOf 2 [.ref m, .int x1, .int x2, .int x3] (ch_put m w σ) Q := by
  unfold m_X3_memberOf at h
  refine ch_ctL mX3_memberOf (ls := [some (va_rf (some m)), some (.int x1), some (.int x2), some (.int x3), none, none]) q2067 rfl (ch_lyr (r := some m) (ch_lyi (ch_lyi (ch_lyi ch_ly0)))) (Nat.le_of_ble_eq_true rfl) rfl ?_
  exact ch_iload_n 1 _ dX3_memberOf_0 rfl (ch_istore 4 _ (ls1 := [some (va_rf (some m)), some (.int x1), some (.int x2), some (.int x3), some (.int x1), none]) dX3_memberOf_1 (Nat.le_of_ble_eq_true rfl) rfl (ch_FT.wk (ch_wS (ch_wN (ch_wS (ch_wS (ch_wS (ch_wN ch_w0)))))) (sl_X3_memberOf_3  h hk)))

theorem bX3_isRightMethod_0 : ch_ck cX3_isRightMethod 0 [42, 180, 0, 94, 27, 46, 62, 29, 28, 162, 0, 35, 42, 180, 0, 106] := ch_ckof (by decide +kernel)
theorem bX3_isRightMethod_1 : ch_ck cX3_isRightMethod 16 [29, 51, 153, 0, 20, 42, 180, 0, 97, 29, 46, 42, 180, 0, 97, 28] := ch_ckof (by decide +kernel)
theorem bX3_isRightMethod_2 : ch_ck cX3_isRightMethod 32 [46, 160, 0, 5, 3, 172, 132, 3, 1, 167, 255, 222, 42, 180, 0, 110] := ch_ckof (by decide +kernel)
theorem bX3_isRightMethod_3 : ch_ck cX3_isRightMethod 48 [28, 46, 62, 29, 42, 180, 0, 110, 28, 4, 96, 46, 162, 0, 59, 42] := ch_ckof (by decide +kernel)
theorem bX3_isRightMethod_4 : ch_ck cX3_isRightMethod 64 [180, 0, 122, 29, 46, 8, 160, 0, 5, 3, 172, 42, 180, 0, 110, 28] := ch_ckof (by decide +kernel)
theorem bX3_isRightMethod_5 : ch_ck cX3_isRightMethod 80 [46, 54, 4, 21, 4, 29, 162, 0, 27, 42, 180, 0, 125, 21, 4, 46] := ch_ckof (by decide +kernel)
theorem bX3_isRightMethod_6 : ch_ck cX3_isRightMethod 96 [42, 180, 0, 125, 29, 46, 160, 0, 5, 3, 172, 132, 4, 1, 167, 255] := ch_ckof (by decide +kernel)
theorem bX3_isRightMethod_7 : ch_ck cX3_isRightMethod 112 [229, 132, 3, 1, 167, 255, 191, 42, 180, 0, 88, 27, 46, 156, 0, 7] := ch_ckof (by decide +kernel)
theorem bX3_isRightMethod_8 : ch_ck cX3_isRightMethod 128 [2, 167, 0, 20, 42, 42, 180, 0, 88, 27, 46, 42, 180, 0, 97, 28] := ch_ckof (by decide +kernel)
theorem bX3_isRightMethod_9 : ch_ck cX3_isRightMethod 144 [46, 4, 182, 1, 166, 62, 29, 156, 0, 5, 4, 172, 42, 180, 0, 110] := ch_ckof (by decide +kernel)
theorem bX3_isRightMethod_10 : ch_ck cX3_isRightMethod 160 [28, 4, 96, 46, 42, 180, 0, 110, 28, 46, 100, 54, 4, 42, 180, 0] := ch_ckof (by decide +kernel)
theorem bX3_isRightMethod_11 : ch_ck cX3_isRightMethod 176 [103, 29, 46, 42, 180, 0, 103, 28, 46, 160, 0, 27, 42, 180, 0, 110] := ch_ckof (by decide +kernel)
theorem bX3_isRightMethod_12 : ch_ck cX3_isRightMethod 192 [29, 4, 96, 46, 42, 180, 0, 110, 29, 46, 100, 21, 4, 160, 0, 7] := ch_ckof (by decide +kernel)
theorem bX3_isRightMethod_13 : ch_ck cX3_isRightMethod 208 [4, 167, 0, 4, 3, 54, 5, 3, 54, 6, 21, 6, 21, 4, 162, 0] := ch_ckof (by decide +kernel)
theorem bX3_isRightMethod_14 : ch_ck cX3_isRightMethod 224 [52, 21, 5, 153, 0, 47, 42, 180, 0, 122, 42, 180, 0, 110, 29, 46] := ch_ckof (by decide +kernel)
theorem bX3_isRightMethod_15 : ch_ck cX3_isRightMethod 240 [21, 6, 96, 46, 42, 180, 0, 122, 42, 180, 0, 110, 28, 46, 21, 6] := ch_ckof (by decide +kernel)
theorem bX3_isRightMethod_16 : ch_ck cX3_isRightMethod 256 [96, 46, 160, 0, 7, 4, 167, 0, 4, 3, 54, 5, 132, 6, 1, 167] := ch_ckof (by decide +kernel)
theorem bX3_isRightMethod_17 : ch_ck cX3_isRightMethod 272 [255, 203, 21, 5, 172] := ch_ckof (by decide +kernel)
theorem dX3_isRightMethod_0 : decode cX3_isRightMethod 0 = .ok (.aload_n 0, 1) := dz_42 (bX3_isRightMethod_0 0 _ rfl)
theorem dX3_isRightMethod_1 : decode cX3_isRightMethod 1 = .ok (.getfield 94, 3) := dz_180 (bX3_isRightMethod_0 1 _ rfl) (bX3_isRightMethod_0 2 _ rfl) (bX3_isRightMethod_0 3 _ rfl)
theorem dX3_isRightMethod_4 : decode cX3_isRightMethod 4 = .ok (.iload_n 1, 1) := dz_27 (bX3_isRightMethod_0 4 _ rfl)
theorem dX3_isRightMethod_5 : decode cX3_isRightMethod 5 = .ok (.iaload, 1) := dz_46 (bX3_isRightMethod_0 5 _ rfl)
theorem dX3_isRightMethod_6 : decode cX3_isRightMethod 6 = .ok (.istore_n 3, 1) := dz_62 (bX3_isRightMethod_0 6 _ rfl)
theorem dX3_isRightMethod_7 : decode cX3_isRightMethod 7 = .ok (.iload_n 3, 1) := dz_29 (bX3_isRightMethod_0 7 _ rfl)
theorem dX3_isRightMethod_8 : decode cX3_isRightMethod 8 = .ok (.iload_n 2, 1) := dz_28 (bX3_isRightMethod_0 8 _ rfl)
theorem dX3_isRightMethod_9 : decode cX3_isRightMethod 9 = .ok (.if_icmp .ge 35, 3) := dz_162 (bX3_isRightMethod_0 9 _ rfl) (bX3_isRightMethod_0 10 _ rfl) (bX3_isRightMethod_0 11 _ rfl)
theorem dX3_isRightMethod_12 : decode cX3_isRightMethod 12 = .ok (.aload_n 0, 1) := dz_42 (bX3_isRightMethod_0 12 _ rfl)
theorem dX3_isRightMethod_13 : decode cX3_isRightMethod 13 = .ok (.getfield 106, 3) := dz_180 (bX3_isRightMethod_0 13 _ rfl) (bX3_isRightMethod_0 14 _ rfl) (bX3_isRightMethod_0 15 _ rfl)
theorem dX3_isRightMethod_16 : decode cX3_isRightMethod 16 = .ok (.iload_n 3, 1) := dz_29 (bX3_isRightMethod_1 0 _ rfl)
theorem dX3_isRightMethod_17 : decode cX3_isRightMethod 17 = .ok (.baload, 1) := dz_51 (bX3_isRightMethod_1 1 _ rfl)
theorem dX3_isRightMethod_18 : decode cX3_isRightMethod 18 = .ok (.ifCond .eq 20, 3) := dz_153 (bX3_isRightMethod_1 2 _ rfl) (bX3_isRightMethod_1 3 _ rfl) (bX3_isRightMethod_1 4 _ rfl)
theorem dX3_isRightMethod_21 : decode cX3_isRightMethod 21 = .ok (.aload_n 0, 1) := dz_42 (bX3_isRightMethod_1 5 _ rfl)
theorem dX3_isRightMethod_22 : decode cX3_isRightMethod 22 = .ok (.getfield 97, 3) := dz_180 (bX3_isRightMethod_1 6 _ rfl) (bX3_isRightMethod_1 7 _ rfl) (bX3_isRightMethod_1 8 _ rfl)
theorem dX3_isRightMethod_25 : decode cX3_isRightMethod 25 = .ok (.iload_n 3, 1) := dz_29 (bX3_isRightMethod_1 9 _ rfl)
theorem dX3_isRightMethod_26 : decode cX3_isRightMethod 26 = .ok (.iaload, 1) := dz_46 (bX3_isRightMethod_1 10 _ rfl)
theorem dX3_isRightMethod_27 : decode cX3_isRightMethod 27 = .ok (.aload_n 0, 1) := dz_42 (bX3_isRightMethod_1 11 _ rfl)
theorem dX3_isRightMethod_28 : decode cX3_isRightMethod 28 = .ok (.getfield 97, 3) := dz_180 (bX3_isRightMethod_1 12 _ rfl) (bX3_isRightMethod_1 13 _ rfl) (bX3_isRightMethod_1 14 _ rfl)
theorem dX3_isRightMethod_31 : decode cX3_isRightMethod 31 = .ok (.iload_n 2, 1) := dz_28 (bX3_isRightMethod_1 15 _ rfl)
theorem dX3_isRightMethod_32 : decode cX3_isRightMethod 32 = .ok (.iaload, 1) := dz_46 (bX3_isRightMethod_2 0 _ rfl)
theorem dX3_isRightMethod_33 : decode cX3_isRightMethod 33 = .ok (.if_icmp .ne 5, 3) := dz_160 (bX3_isRightMethod_2 1 _ rfl) (bX3_isRightMethod_2 2 _ rfl) (bX3_isRightMethod_2 3 _ rfl)
theorem dX3_isRightMethod_36 : decode cX3_isRightMethod 36 = .ok (.iconst 0, 1) := dz_3 (bX3_isRightMethod_2 4 _ rfl)
theorem dX3_isRightMethod_37 : decode cX3_isRightMethod 37 = .ok (.ireturn, 1) := dz_172 (bX3_isRightMethod_2 5 _ rfl)
theorem dX3_isRightMethod_38 : decode cX3_isRightMethod 38 = .ok (.iinc 3 1, 3) := dz_132 (bX3_isRightMethod_2 6 _ rfl) (bX3_isRightMethod_2 7 _ rfl) (bX3_isRightMethod_2 8 _ rfl)
theorem dX3_isRightMethod_41 : decode cX3_isRightMethod 41 = .ok (.goto (-34), 3) := dz_167 (bX3_isRightMethod_2 9 _ rfl) (bX3_isRightMethod_2 10 _ rfl) (bX3_isRightMethod_2 11 _ rfl)
theorem dX3_isRightMethod_44 : decode cX3_isRightMethod 44 = .ok (.aload_n 0, 1) := dz_42 (bX3_isRightMethod_2 12 _ rfl)
theorem dX3_isRightMethod_45 : decode cX3_isRightMethod 45 = .ok (.getfield 110, 3) := dz_180 (bX3_isRightMethod_2 13 _ rfl) (bX3_isRightMethod_2 14 _ rfl) (bX3_isRightMethod_2 15 _ rfl)
theorem dX3_isRightMethod_48 : decode cX3_isRightMethod 48 = .ok (.iload_n 2, 1) := dz_28 (bX3_isRightMethod_3 0 _ rfl)
theorem dX3_isRightMethod_49 : decode cX3_isRightMethod 49 = .ok (.iaload, 1) := dz_46 (bX3_isRightMethod_3 1 _ rfl)
theorem dX3_isRightMethod_50 : decode cX3_isRightMethod 50 = .ok (.istore_n 3, 1) := dz_62 (bX3_isRightMethod_3 2 _ rfl)
theorem dX3_isRightMethod_51 : decode cX3_isRightMethod 51 = .ok (.iload_n 3, 1) := dz_29 (bX3_isRightMethod_3 3 _ rfl)
theorem dX3_isRightMethod_52 : decode cX3_isRightMethod 52 = .ok (.aload_n 0, 1) := dz_42 (bX3_isRightMethod_3 4 _ rfl)
theorem dX3_isRightMethod_53 : decode cX3_isRightMethod 53 = .ok (.getfield 110, 3) := dz_180 (bX3_isRightMethod_3 5 _ rfl) (bX3_isRightMethod_3 6 _ rfl) (bX3_isRightMethod_3 7 _ rfl)
theorem dX3_isRightMethod_56 : decode cX3_isRightMethod 56 = .ok (.iload_n 2, 1) := dz_28 (bX3_isRightMethod_3 8 _ rfl)
theorem dX3_isRightMethod_57 : decode cX3_isRightMethod 57 = .ok (.iconst 1, 1) := dz_4 (bX3_isRightMethod_3 9 _ rfl)
theorem dX3_isRightMethod_58 : decode cX3_isRightMethod 58 = .ok (.iadd, 1) := dz_96 (bX3_isRightMethod_3 10 _ rfl)
theorem dX3_isRightMethod_59 : decode cX3_isRightMethod 59 = .ok (.iaload, 1) := dz_46 (bX3_isRightMethod_3 11 _ rfl)
theorem dX3_isRightMethod_60 : decode cX3_isRightMethod 60 = .ok (.if_icmp .ge 59, 3) := dz_162 (bX3_isRightMethod_3 12 _ rfl) (bX3_isRightMethod_3 13 _ rfl) (bX3_isRightMethod_3 14 _ rfl)
theorem dX3_isRightMethod_63 : decode cX3_isRightMethod 63 = .ok (.aload_n 0, 1) := dz_42 (bX3_isRightMethod_3 15 _ rfl)
theorem dX3_isRightMethod_64 : decode cX3_isRightMethod 64 = .ok (.getfield 122, 3) := dz_180 (bX3_isRightMethod_4 0 _ rfl) (bX3_isRightMethod_4 1 _ rfl) (bX3_isRightMethod_4 2 _ rfl)
theorem dX3_isRightMethod_67 : decode cX3_isRightMethod 67 = .ok (.iload_n 3, 1) := dz_29 (bX3_isRightMethod_4 3 _ rfl)
theorem dX3_isRightMethod_68 : decode cX3_isRightMethod 68 = .ok (.iaload, 1) := dz_46 (bX3_isRightMethod_4 4 _ rfl)
theorem dX3_isRightMethod_69 : decode cX3_isRightMethod 69 = .ok (.iconst 5, 1) := dz_8 (bX3_isRightMethod_4 5 _ rfl)
theorem dX3_isRightMethod_70 : decode cX3_isRightMethod 70 = .ok (.if_icmp .ne 5, 3) := dz_160 (bX3_isRightMethod_4 6 _ rfl) (bX3_isRightMethod_4 7 _ rfl) (bX3_isRightMethod_4 8 _ rfl)
theorem dX3_isRightMethod_73 : decode cX3_isRightMethod 73 = .ok (.iconst 0, 1) := dz_3 (bX3_isRightMethod_4 9 _ rfl)
theorem dX3_isRightMethod_74 : decode cX3_isRightMethod 74 = .ok (.ireturn, 1) := dz_172 (bX3_isRightMethod_4 10 _ rfl)
theorem dX3_isRightMethod_75 : decode cX3_isRightMethod 75 = .ok (.aload_n 0, 1) := dz_42 (bX3_isRightMethod_4 11 _ rfl)
theorem dX3_isRightMethod_76 : decode cX3_isRightMethod 76 = .ok (.getfield 110, 3) := dz_180 (bX3_isRightMethod_4 12 _ rfl) (bX3_isRightMethod_4 13 _ rfl) (bX3_isRightMethod_4 14 _ rfl)
theorem dX3_isRightMethod_79 : decode cX3_isRightMethod 79 = .ok (.iload_n 2, 1) := dz_28 (bX3_isRightMethod_4 15 _ rfl)
theorem dX3_isRightMethod_80 : decode cX3_isRightMethod 80 = .ok (.iaload, 1) := dz_46 (bX3_isRightMethod_5 0 _ rfl)
theorem dX3_isRightMethod_81 : decode cX3_isRightMethod 81 = .ok (.istore 4, 2) := dz_54 (bX3_isRightMethod_5 1 _ rfl) (bX3_isRightMethod_5 2 _ rfl)
theorem dX3_isRightMethod_83 : decode cX3_isRightMethod 83 = .ok (.iload 4, 2) := dz_21 (bX3_isRightMethod_5 3 _ rfl) (bX3_isRightMethod_5 4 _ rfl)
theorem dX3_isRightMethod_85 : decode cX3_isRightMethod 85 = .ok (.iload_n 3, 1) := dz_29 (bX3_isRightMethod_5 5 _ rfl)
theorem dX3_isRightMethod_86 : decode cX3_isRightMethod 86 = .ok (.if_icmp .ge 27, 3) := dz_162 (bX3_isRightMethod_5 6 _ rfl) (bX3_isRightMethod_5 7 _ rfl) (bX3_isRightMethod_5 8 _ rfl)
theorem dX3_isRightMethod_89 : decode cX3_isRightMethod 89 = .ok (.aload_n 0, 1) := dz_42 (bX3_isRightMethod_5 9 _ rfl)
theorem dX3_isRightMethod_90 : decode cX3_isRightMethod 90 = .ok (.getfield 125, 3) := dz_180 (bX3_isRightMethod_5 10 _ rfl) (bX3_isRightMethod_5 11 _ rfl) (bX3_isRightMethod_5 12 _ rfl)
theorem dX3_isRightMethod_93 : decode cX3_isRightMethod 93 = .ok (.iload 4, 2) := dz_21 (bX3_isRightMethod_5 13 _ rfl) (bX3_isRightMethod_5 14 _ rfl)
theorem dX3_isRightMethod_95 : decode cX3_isRightMethod 95 = .ok (.iaload, 1) := dz_46 (bX3_isRightMethod_5 15 _ rfl)
theorem dX3_isRightMethod_96 : decode cX3_isRightMethod 96 = .ok (.aload_n 0, 1) := dz_42 (bX3_isRightMethod_6 0 _ rfl)
theorem dX3_isRightMethod_97 : decode cX3_isRightMethod 97 = .ok (.getfield 125, 3) := dz_180 (bX3_isRightMethod_6 1 _ rfl) (bX3_isRightMethod_6 2 _ rfl) (bX3_isRightMethod_6 3 _ rfl)
theorem dX3_isRightMethod_100 : decode cX3_isRightMethod 100 = .ok (.iload_n 3, 1) := dz_29 (bX3_isRightMethod_6 4 _ rfl)
theorem dX3_isRightMethod_101 : decode cX3_isRightMethod 101 = .ok (.iaload, 1) := dz_46 (bX3_isRightMethod_6 5 _ rfl)
theorem dX3_isRightMethod_102 : decode cX3_isRightMethod 102 = .ok (.if_icmp .ne 5, 3) := dz_160 (bX3_isRightMethod_6 6 _ rfl) (bX3_isRightMethod_6 7 _ rfl) (bX3_isRightMethod_6 8 _ rfl)
theorem dX3_isRightMethod_105 : decode cX3_isRightMethod 105 = .ok (.iconst 0, 1) := dz_3 (bX3_isRightMethod_6 9 _ rfl)
theorem dX3_isRightMethod_106 : decode cX3_isRightMethod 106 = .ok (.ireturn, 1) := dz_172 (bX3_isRightMethod_6 10 _ rfl)
theorem dX3_isRightMethod_107 : decode cX3_isRightMethod 107 = .ok (.iinc 4 1, 3) := dz_132 (bX3_isRightMethod_6 11 _ rfl) (bX3_isRightMethod_6 12 _ rfl) (bX3_isRightMethod_6 13 _ rfl)
theorem dX3_isRightMethod_110 : decode cX3_isRightMethod 110 = .ok (.goto (-27), 3) := dz_167 (bX3_isRightMethod_6 14 _ rfl) (bX3_isRightMethod_6 15 _ rfl) (bX3_isRightMethod_7 0 _ rfl)
theorem dX3_isRightMethod_113 : decode cX3_isRightMethod 113 = .ok (.iinc 3 1, 3) := dz_132 (bX3_isRightMethod_7 1 _ rfl) (bX3_isRightMethod_7 2 _ rfl) (bX3_isRightMethod_7 3 _ rfl)
theorem dX3_isRightMethod_116 : decode cX3_isRightMethod 116 = .ok (.goto (-65), 3) := dz_167 (bX3_isRightMethod_7 4 _ rfl) (bX3_isRightMethod_7 5 _ rfl) (bX3_isRightMethod_7 6 _ rfl)
theorem dX3_isRightMethod_119 : decode cX3_isRightMethod 119 = .ok (.aload_n 0, 1) := dz_42 (bX3_isRightMethod_7 7 _ rfl)
theorem dX3_isRightMethod_120 : decode cX3_isRightMethod 120 = .ok (.getfield 88, 3) := dz_180 (bX3_isRightMethod_7 8 _ rfl) (bX3_isRightMethod_7 9 _ rfl) (bX3_isRightMethod_7 10 _ rfl)
theorem dX3_isRightMethod_123 : decode cX3_isRightMethod 123 = .ok (.iload_n 1, 1) := dz_27 (bX3_isRightMethod_7 11 _ rfl)
theorem dX3_isRightMethod_124 : decode cX3_isRightMethod 124 = .ok (.iaload, 1) := dz_46 (bX3_isRightMethod_7 12 _ rfl)
theorem dX3_isRightMethod_125 : decode cX3_isRightMethod 125 = .ok (.ifCond .ge 7, 3) := dz_156 (bX3_isRightMethod_7 13 _ rfl) (bX3_isRightMethod_7 14 _ rfl) (bX3_isRightMethod_7 15 _ rfl)
theorem dX3_isRightMethod_128 : decode cX3_isRightMethod 128 = .ok (.iconst (-1), 1) := dz_2 (bX3_isRightMethod_8 0 _ rfl)
theorem dX3_isRightMethod_129 : decode cX3_isRightMethod 129 = .ok (.goto 20, 3) := dz_167 (bX3_isRightMethod_8 1 _ rfl) (bX3_isRightMethod_8 2 _ rfl) (bX3_isRightMethod_8 3 _ rfl)
theorem dX3_isRightMethod_132 : decode cX3_isRightMethod 132 = .ok (.aload_n 0, 1) := dz_42 (bX3_isRightMethod_8 4 _ rfl)
theorem dX3_isRightMethod_133 : decode cX3_isRightMethod 133 = .ok (.aload_n 0, 1) := dz_42 (bX3_isRightMethod_8 5 _ rfl)
theorem dX3_isRightMethod_134 : decode cX3_isRightMethod 134 = .ok (.getfield 88, 3) := dz_180 (bX3_isRightMethod_8 6 _ rfl) (bX3_isRightMethod_8 7 _ rfl) (bX3_isRightMethod_8 8 _ rfl)
theorem dX3_isRightMethod_137 : decode cX3_isRightMethod 137 = .ok (.iload_n 1, 1) := dz_27 (bX3_isRightMethod_8 9 _ rfl)
theorem dX3_isRightMethod_138 : decode cX3_isRightMethod 138 = .ok (.iaload, 1) := dz_46 (bX3_isRightMethod_8 10 _ rfl)
theorem dX3_isRightMethod_139 : decode cX3_isRightMethod 139 = .ok (.aload_n 0, 1) := dz_42 (bX3_isRightMethod_8 11 _ rfl)
theorem dX3_isRightMethod_140 : decode cX3_isRightMethod 140 = .ok (.getfield 97, 3) := dz_180 (bX3_isRightMethod_8 12 _ rfl) (bX3_isRightMethod_8 13 _ rfl) (bX3_isRightMethod_8 14 _ rfl)
theorem dX3_isRightMethod_143 : decode cX3_isRightMethod 143 = .ok (.iload_n 2, 1) := dz_28 (bX3_isRightMethod_8 15 _ rfl)
theorem dX3_isRightMethod_144 : decode cX3_isRightMethod 144 = .ok (.iaload, 1) := dz_46 (bX3_isRightMethod_9 0 _ rfl)
theorem dX3_isRightMethod_145 : decode cX3_isRightMethod 145 = .ok (.iconst 1, 1) := dz_4 (bX3_isRightMethod_9 1 _ rfl)
theorem dX3_isRightMethod_146 : decode cX3_isRightMethod 146 = .ok (.invokevirtual 422, 3) := dz_182 (bX3_isRightMethod_9 2 _ rfl) (bX3_isRightMethod_9 3 _ rfl) (bX3_isRightMethod_9 4 _ rfl)
theorem dX3_isRightMethod_149 : decode cX3_isRightMethod 149 = .ok (.istore_n 3, 1) := dz_62 (bX3_isRightMethod_9 5 _ rfl)
theorem dX3_isRightMethod_150 : decode cX3_isRightMethod 150 = .ok (.iload_n 3, 1) := dz_29 (bX3_isRightMethod_9 6 _ rfl)
theorem dX3_isRightMethod_151 : decode cX3_isRightMethod 151 = .ok (.ifCond .ge 5, 3) := dz_156 (bX3_isRightMethod_9 7 _ rfl) (bX3_isRightMethod_9 8 _ rfl) (bX3_isRightMethod_9 9 _ rfl)
theorem dX3_isRightMethod_154 : decode cX3_isRightMethod 154 = .ok (.iconst 1, 1) := dz_4 (bX3_isRightMethod_9 10 _ rfl)
theorem dX3_isRightMethod_155 : decode cX3_isRightMethod 155 = .ok (.ireturn, 1) := dz_172 (bX3_isRightMethod_9 11 _ rfl)
theorem dX3_isRightMethod_156 : decode cX3_isRightMethod 156 = .ok (.aload_n 0, 1) := dz_42 (bX3_isRightMethod_9 12 _ rfl)
theorem dX3_isRightMethod_157 : decode cX3_isRightMethod 157 = .ok (.getfield 110, 3) := dz_180 (bX3_isRightMethod_9 13 _ rfl) (bX3_isRightMethod_9 14 _ rfl) (bX3_isRightMethod_9 15 _ rfl)
theorem dX3_isRightMethod_160 : decode cX3_isRightMethod 160 = .ok (.iload_n 2, 1) := dz_28 (bX3_isRightMethod_10 0 _ rfl)
theorem dX3_isRightMethod_161 : decode cX3_isRightMethod 161 = .ok (.iconst 1, 1) := dz_4 (bX3_isRightMethod_10 1 _ rfl)
theorem dX3_isRightMethod_162 : decode cX3_isRightMethod 162 = .ok (.iadd, 1) := dz_96 (bX3_isRightMethod_10 2 _ rfl)
theorem dX3_isRightMethod_163 : decode cX3_isRightMethod 163 = .ok (.iaload, 1) := dz_46 (bX3_isRightMethod_10 3 _ rfl)
theorem dX3_isRightMethod_164 : decode cX3_isRightMethod 164 = .ok (.aload_n 0, 1) := dz_42 (bX3_isRightMethod_10 4 _ rfl)
theorem dX3_isRightMethod_165 : decode cX3_isRightMethod 165 = .ok (.getfield 110, 3) := dz_180 (bX3_isRightMethod_10 5 _ rfl) (bX3_isRightMethod_10 6 _ rfl) (bX3_isRightMethod_10 7 _ rfl)
theorem dX3_isRightMethod_168 : decode cX3_isRightMethod 168 = .ok (.iload_n 2, 1) := dz_28 (bX3_isRightMethod_10 8 _ rfl)
theorem dX3_isRightMethod_169 : decode cX3_isRightMethod 169 = .ok (.iaload, 1) := dz_46 (bX3_isRightMethod_10 9 _ rfl)
theorem dX3_isRightMethod_170 : decode cX3_isRightMethod 170 = .ok (.isub, 1) := dz_100 (bX3_isRightMethod_10 10 _ rfl)
theorem dX3_isRightMethod_171 : decode cX3_isRightMethod 171 = .ok (.istore 4, 2) := dz_54 (bX3_isRightMethod_10 11 _ rfl) (bX3_isRightMethod_10 12 _ rfl)
theorem dX3_isRightMethod_173 : decode cX3_isRightMethod 173 = .ok (.aload_n 0, 1) := dz_42 (bX3_isRightMethod_10 13 _ rfl)
theorem dX3_isRightMethod_174 : decode cX3_isRightMethod 174 = .ok (.getfield 103, 3) := dz_180 (bX3_isRightMethod_10 14 _ rfl) (bX3_isRightMethod_10 15 _ rfl) (bX3_isRightMethod_11 0 _ rfl)
theorem dX3_isRightMethod_177 : decode cX3_isRightMethod 177 = .ok (.iload_n 3, 1) := dz_29 (bX3_isRightMethod_11 1 _ rfl)
theorem dX3_isRightMethod_178 : decode cX3_isRightMethod 178 = .ok (.iaload, 1) := dz_46 (bX3_isRightMethod_11 2 _ rfl)
theorem dX3_isRightMethod_179 : decode cX3_isRightMethod 179 = .ok (.aload_n 0, 1) := dz_42 (bX3_isRightMethod_11 3 _ rfl)
theorem dX3_isRightMethod_180 : decode cX3_isRightMethod 180 = .ok (.getfield 103, 3) := dz_180 (bX3_isRightMethod_11 4 _ rfl) (bX3_isRightMethod_11 5 _ rfl) (bX3_isRightMethod_11 6 _ rfl)
theorem dX3_isRightMethod_183 : decode cX3_isRightMethod 183 = .ok (.iload_n 2, 1) := dz_28 (bX3_isRightMethod_11 7 _ rfl)
theorem dX3_isRightMethod_184 : decode cX3_isRightMethod 184 = .ok (.iaload, 1) := dz_46 (bX3_isRightMethod_11 8 _ rfl)
theorem dX3_isRightMethod_185 : decode cX3_isRightMethod 185 = .ok (.if_icmp .ne 27, 3) := dz_160 (bX3_isRightMethod_11 9 _ rfl) (bX3_isRightMethod_11 10 _ rfl) (bX3_isRightMethod_11 11 _ rfl)
theorem dX3_isRightMethod_188 : decode cX3_isRightMethod 188 = .ok (.aload_n 0, 1) := dz_42 (bX3_isRightMethod_11 12 _ rfl)
theorem dX3_isRightMethod_189 : decode cX3_isRightMethod 189 = .ok (.getfield 110, 3) := dz_180 (bX3_isRightMethod_11 13 _ rfl) (bX3_isRightMethod_11 14 _ rfl) (bX3_isRightMethod_11 15 _ rfl)
theorem dX3_isRightMethod_192 : decode cX3_isRightMethod 192 = .ok (.iload_n 3, 1) := dz_29 (bX3_isRightMethod_12 0 _ rfl)
theorem dX3_isRightMethod_193 : decode cX3_isRightMethod 193 = .ok (.iconst 1, 1) := dz_4 (bX3_isRightMethod_12 1 _ rfl)
theorem dX3_isRightMethod_194 : decode cX3_isRightMethod 194 = .ok (.iadd, 1) := dz_96 (bX3_isRightMethod_12 2 _ rfl)
theorem dX3_isRightMethod_195 : decode cX3_isRightMethod 195 = .ok (.iaload, 1) := dz_46 (bX3_isRightMethod_12 3 _ rfl)
theorem dX3_isRightMethod_196 : decode cX3_isRightMethod 196 = .ok (.aload_n 0, 1) := dz_42 (bX3_isRightMethod_12 4 _ rfl)
theorem dX3_isRightMethod_197 : decode cX3_isRightMethod 197 = .ok (.getfield 110, 3) := dz_180 (bX3_isRightMethod_12 5 _ rfl) (bX3_isRightMethod_12 6 _ rfl) (bX3_isRightMethod_12 7 _ rfl)
theorem dX3_isRightMethod_200 : decode cX3_isRightMethod 200 = .ok (.iload_n 3, 1) := dz_29 (bX3_isRightMethod_12 8 _ rfl)
theorem dX3_isRightMethod_201 : decode cX3_isRightMethod 201 = .ok (.iaload, 1) := dz_46 (bX3_isRightMethod_12 9 _ rfl)
theorem dX3_isRightMethod_202 : decode cX3_isRightMethod 202 = .ok (.isub, 1) := dz_100 (bX3_isRightMethod_12 10 _ rfl)
theorem dX3_isRightMethod_203 : decode cX3_isRightMethod 203 = .ok (.iload 4, 2) := dz_21 (bX3_isRightMethod_12 11 _ rfl) (bX3_isRightMethod_12 12 _ rfl)
theorem dX3_isRightMethod_205 : decode cX3_isRightMethod 205 = .ok (.if_icmp .ne 7, 3) := dz_160 (bX3_isRightMethod_12 13 _ rfl) (bX3_isRightMethod_12 14 _ rfl) (bX3_isRightMethod_12 15 _ rfl)
theorem dX3_isRightMethod_208 : decode cX3_isRightMethod 208 = .ok (.iconst 1, 1) := dz_4 (bX3_isRightMethod_13 0 _ rfl)
theorem dX3_isRightMethod_209 : decode cX3_isRightMethod 209 = .ok (.goto 4, 3) := dz_167 (bX3_isRightMethod_13 1 _ rfl) (bX3_isRightMethod_13 2 _ rfl) (bX3_isRightMethod_13 3 _ rfl)
theorem dX3_isRightMethod_212 : decode cX3_isRightMethod 212 = .ok (.iconst 0, 1) := dz_3 (bX3_isRightMethod_13 4 _ rfl)
theorem dX3_isRightMethod_213 : decode cX3_isRightMethod 213 = .ok (.istore 5, 2) := dz_54 (bX3_isRightMethod_13 5 _ rfl) (bX3_isRightMethod_13 6 _ rfl)
theorem dX3_isRightMethod_215 : decode cX3_isRightMethod 215 = .ok (.iconst 0, 1) := dz_3 (bX3_isRightMethod_13 7 _ rfl)
theorem dX3_isRightMethod_216 : decode cX3_isRightMethod 216 = .ok (.istore 6, 2) := dz_54 (bX3_isRightMethod_13 8 _ rfl) (bX3_isRightMethod_13 9 _ rfl)
theorem dX3_isRightMethod_218 : decode cX3_isRightMethod 218 = .ok (.iload 6, 2) := dz_21 (bX3_isRightMethod_13 10 _ rfl) (bX3_isRightMethod_13 11 _ rfl)
theorem dX3_isRightMethod_220 : decode cX3_isRightMethod 220 = .ok (.iload 4, 2) := dz_21 (bX3_isRightMethod_13 12 _ rfl) (bX3_isRightMethod_13 13 _ rfl)
theorem dX3_isRightMethod_222 : decode cX3_isRightMethod 222 = .ok (.if_icmp .ge 52, 3) := dz_162 (bX3_isRightMethod_13 14 _ rfl) (bX3_isRightMethod_13 15 _ rfl) (bX3_isRightMethod_14 0 _ rfl)
theorem dX3_isRightMethod_225 : decode cX3_isRightMethod 225 = .ok (.iload 5, 2) := dz_21 (bX3_isRightMethod_14 1 _ rfl) (bX3_isRightMethod_14 2 _ rfl)
theorem dX3_isRightMethod_227 : decode cX3_isRightMethod 227 = .ok (.ifCond .eq 47, 3) := dz_153 (bX3_isRightMethod_14 3 _ rfl) (bX3_isRightMethod_14 4 _ rfl) (bX3_isRightMethod_14 5 _ rfl)
theorem dX3_isRightMethod_230 : decode cX3_isRightMethod 230 = .ok (.aload_n 0, 1) := dz_42 (bX3_isRightMethod_14 6 _ rfl)
theorem dX3_isRightMethod_231 : decode cX3_isRightMethod 231 = .ok (.getfield 122, 3) := dz_180 (bX3_isRightMethod_14 7 _ rfl) (bX3_isRightMethod_14 8 _ rfl) (bX3_isRightMethod_14 9 _ rfl)
theorem dX3_isRightMethod_234 : decode cX3_isRightMethod 234 = .ok (.aload_n 0, 1) := dz_42 (bX3_isRightMethod_14 10 _ rfl)
theorem dX3_isRightMethod_235 : decode cX3_isRightMethod 235 = .ok (.getfield 110, 3) := dz_180 (bX3_isRightMethod_14 11 _ rfl) (bX3_isRightMethod_14 12 _ rfl) (bX3_isRightMethod_14 13 _ rfl)
theorem dX3_isRightMethod_238 : decode cX3_isRightMethod 238 = .ok (.iload_n 3, 1) := dz_29 (bX3_isRightMethod_14 14 _ rfl)
theorem dX3_isRightMethod_239 : decode cX3_isRightMethod 239 = .ok (.iaload, 1) := dz_46 (bX3_isRightMethod_14 15 _ rfl)
theorem dX3_isRightMethod_240 : decode cX3_isRightMethod 240 = .ok (.iload 6, 2) := dz_21 (bX3_isRightMethod_15 0 _ rfl) (bX3_isRightMethod_15 1 _ rfl)
theorem dX3_isRightMethod_242 : decode cX3_isRightMethod 242 = .ok (.iadd, 1) := dz_96 (bX3_isRightMethod_15 2 _ rfl)
theorem dX3_isRightMethod_243 : decode cX3_isRightMethod 243 = .ok (.iaload, 1) := dz_46 (bX3_isRightMethod_15 3 _ rfl)
theorem dX3_isRightMethod_244 : decode cX3_isRightMethod 244 = .ok (.aload_n 0, 1) := dz_42 (bX3_isRightMethod_15 4 _ rfl)
theorem dX3_isRightMethod_245 : decode cX3_isRightMethod 245 = .ok (.getfield 122, 3) := dz_180 (bX3_isRightMethod_15 5 _ rfl) (bX3_isRightMethod_15 6 _ rfl) (bX3_isRightMethod_15 7 _ rfl)
theorem dX3_isRightMethod_248 : decode cX3_isRightMethod 248 = .ok (.aload_n 0, 1) := dz_42 (bX3_isRightMethod_15 8 _ rfl)
theorem dX3_isRightMethod_249 : decode cX3_isRightMethod 249 = .ok (.getfield 110, 3) := dz_180 (bX3_isRightMethod_15 9 _ rfl) (bX3_isRightMethod_15 10 _ rfl) (bX3_isRightMethod_15 11 _ rfl)
theorem dX3_isRightMethod_252 : decode cX3_isRightMethod 252 = .ok (.iload_n 2, 1) := dz_28 (bX3_isRightMethod_15 12 _ rfl)
theorem dX3_isRightMethod_253 : decode cX3_isRightMethod 253 = .ok (.iaload, 1) := dz_46 (bX3_isRightMethod_15 13 _ rfl)
theorem dX3_isRightMethod_254 : decode cX3_isRightMethod 254 = .ok (.iload 6, 2) := dz_21 (bX3_isRightMethod_15 14 _ rfl) (bX3_isRightMethod_15 15 _ rfl)
theorem dX3_isRightMethod_256 : decode cX3_isRightMethod 256 = .ok (.iadd, 1) := dz_96 (bX3_isRightMethod_16 0 _ rfl)
theorem dX3_isRightMethod_257 : decode cX3_isRightMethod 257 = .ok (.iaload, 1) := dz_46 (bX3_isRightMethod_16 1 _ rfl)
theorem dX3_isRightMethod_258 : decode cX3_isRightMethod 258 = .ok (.if_icmp .ne 7, 3) := dz_160 (bX3_isRightMethod_16 2 _ rfl) (bX3_isRightMethod_16 3 _ rfl) (bX3_isRightMethod_16 4 _ rfl)
theorem dX3_isRightMethod_261 : decode cX3_isRightMethod 261 = .ok (.iconst 1, 1) := dz_4 (bX3_isRightMethod_16 5 _ rfl)
theorem dX3_isRightMethod_262 : decode cX3_isRightMethod 262 = .ok (.goto 4, 3) := dz_167 (bX3_isRightMethod_16 6 _ rfl) (bX3_isRightMethod_16 7 _ rfl) (bX3_isRightMethod_16 8 _ rfl)
theorem dX3_isRightMethod_265 : decode cX3_isRightMethod 265 = .ok (.iconst 0, 1) := dz_3 (bX3_isRightMethod_16 9 _ rfl)
theorem dX3_isRightMethod_266 : decode cX3_isRightMethod 266 = .ok (.istore 5, 2) := dz_54 (bX3_isRightMethod_16 10 _ rfl) (bX3_isRightMethod_16 11 _ rfl)
theorem dX3_isRightMethod_268 : decode cX3_isRightMethod 268 = .ok (.iinc 6 1, 3) := dz_132 (bX3_isRightMethod_16 12 _ rfl) (bX3_isRightMethod_16 13 _ rfl) (bX3_isRightMethod_16 14 _ rfl)
theorem dX3_isRightMethod_271 : decode cX3_isRightMethod 271 = .ok (.goto (-53), 3) := dz_167 (bX3_isRightMethod_16 15 _ rfl) (bX3_isRightMethod_17 0 _ rfl) (bX3_isRightMethod_17 1 _ rfl)
theorem dX3_isRightMethod_274 : decode cX3_isRightMethod 274 = .ok (.iload 5, 2) := dz_21 (bX3_isRightMethod_17 2 _ rfl) (bX3_isRightMethod_17 3 _ rfl)
theorem dX3_isRightMethod_276 : decode cX3_isRightMethod 276 = .ok (.ireturn, 1) := dz_172 (bX3_isRightMethod_17 4 _ rfl)
def m_X3_isRightMethod_218 (x2 : Int32) (x3 : Int32) (x4 : Int32) (x5 : Int32) (x6 : Int32)  (σ : ch_S) : Option ((Int32 × Int32) ⊕ (Int32)) := if x6 < x4 then (if x5 = 0 then ((ch_bit x5).bind fun v => some (.inr (v))) else ((ch_ma σ fX3_parameterFrom x3).bind fun v1 => (ch_ma σ fX3_parameterType (v1 + x6)).bind fun v2 => (ch_ma σ fX3_parameterFrom x2).bind fun v3 => (ch_ma σ fX3_parameterType (v3 + x6)).bind fun v4 => if v2 = v4 then (some (.inl (1, x6 + 1))) else (some (.inl (0, x6 + 1))))) else ((ch_bit x5).bind fun v => some (.inr (v)))
theorem s_X3_isRightMethod_218 {g : State} {m : Nat} {w : ch_W} {x2 : Int32} {x3 : Int32} {x4 : Int32} {x5 : Int32} {x6 : Int32} {σ : ch_S} {res : (Int32 × Int32) ⊕ (Int32)} {Q : Outcome → ch_W → Prop} (h : m_X3_isRightMethod_218 x2 x3 x4 x5 x6 σ = some res) (hk : (ch_sm (fun s => ch_FT g false mX3_isRightMethod 3 218 [some (va_rf (some m)), none, some (.int x2), some (.int x3), some (.int x4), some (.int s.1), some (.int s.2)] [] (ch_put m w σ) Q) (fun r => ch_eI Q (r, ch_put m w σ))) res) : ch_FT g false mX3_isRightMethod 3 218 [some (va_rf (some m)), none, some (.int x2), some (.int x3), some (.int x4), some (.int x5), some (.int x6)] [] (ch_put m w σ) Q := by
  unfold m_X3_isRightMethod_218 at h
  refine ch_iload 6 _ dX3_isRightMethod_218 rfl (ch_iload 4 _ dX3_isRightMethod_220 rfl (cp_icmp_ge _ _ (tgt := 274) dX3_isRightMethod_222 rfl h (fun h => ?_) (fun h => ?_)))
  · refine ch_iload 5 _ dX3_isRightMethod_274 rfl (cp_zret _ dX3_isRightMethod_276 rfl h (fun h => ?_))
    obtain rfl := Option.some.inj h
    exact hk
  · refine ch_iload 5 _ dX3_isRightMethod_225 rfl (cp_if_eq _ (tgt := 274) dX3_isRightMethod_227 rfl h (fun h => ?_) (fun h => ?_))
    · refine ch_iload 5 _ dX3_isRightMethod_274 rfl (cp_zret _ dX3_isRightMethod_276 rfl h (fun h => ?_))
      obtain rfl := Option.some.inj h
      exact hk
    · refine ch_aload_n 0 (some m) dX3_isRightMethod_230 rfl (mp_gA 54 dX3_isRightMethod_231 fl_X3_122 rfl (ch_aload_n 0 (some m) dX3_isRightMethod_234 rfl (mp_gA 49 dX3_isRightMethod_235 fl_X3_110 rfl (ch_iload_n 3 _ dX3_isRightMethod_238 rfl (mp_iald dX3_isRightMethod_239 mk_49 h (fun v1 h => ?_))))))
      refine ch_iload 6 _ dX3_isRightMethod_240 rfl (ch_iadd _ _ dX3_isRightMethod_242 (mp_iald dX3_isRightMethod_243 mk_54 h (fun v2 h => ?_)))
      refine ch_aload_n 0 (some m) dX3_isRightMethod_244 rfl (mp_gA 54 dX3_isRightMethod_245 fl_X3_122 rfl (ch_aload_n 0 (some m) dX3_isRightMethod_248 rfl (mp_gA 49 dX3_isRightMethod_249 fl_X3_110 rfl (ch_iload_n 2 _ dX3_isRightMethod_252 rfl (mp_iald dX3_isRightMethod_253 mk_49 h (fun v3 h => ?_))))))
      refine ch_iload 6 _ dX3_isRightMethod_254 rfl (ch_iadd _ _ dX3_isRightMethod_256 (mp_iald dX3_isRightMethod_257 mk_54 h (fun v4 h => ?_)))
      refine cp_icmp_ne _ _ (tgt := 265) dX3_isRightMethod_258 rfl h (fun h => ?_) (fun h => ?_)
      · refine ch_iconst _ 0 dX3_isRightMethod_265 rfl (ch_istore 5 _ (ls1 := [some (va_rf (some m)), none, some (.int x2), some (.int x3), some (.int x4), some (.int 0), some (.int x6)]) dX3_isRightMethod_266 (Nat.le_of_ble_eq_true rfl) rfl (ch_iinc 6 _ _ (x6 + 1) (ls1 := [some (va_rf (some m)), none, some (.int x2), some (.int x3), some (.int x4), some (.int 0), some (.int (x6 + 1))]) dX3_isRightMethod_268 rfl rfl (Nat.le_of_ble_eq_true rfl) rfl (ch_goto 218 dX3_isRightMethod_271 rfl (ch_FT.wk (ch_wS (ch_wN (ch_wS (ch_wS (ch_wS (ch_wS (ch_wS ch_w0))))))) ?_))))
        obtain rfl := Option.some.inj h
        exact hk
      · refine ch_iconst _ 1 dX3_isRightMethod_261 rfl (ch_goto 266 dX3_isRightMethod_262 rfl (ch_istore 5 _ (ls1 := [some (va_rf (some m)), none, some (.int x2), some (.int x3), some (.int x4), some (.int 1), some (.int x6)]) dX3_isRightMethod_266 (Nat.le_of_ble_eq_true rfl) rfl (ch_iinc 6 _ _ (x6 + 1) (ls1 := [some (va_rf (some m)), none, some (.int x2), some (.int x3), some (.int x4), some (.int 1), some (.int (x6 + 1))]) dX3_isRightMethod_268 rfl rfl (Nat.le_of_ble_eq_true rfl) rfl (ch_goto 218 dX3_isRightMethod_271 rfl (ch_FT.wk (ch_wS (ch_wN (ch_wS (ch_wS (ch_wS (ch_wS (ch_wS ch_w0))))))) ?_)))))
        obtain rfl := Option.some.inj h
        exact hk
theorem sl_X3_isRightMethod_218 {g : State} {m : Nat} {w : ch_W} {x2 : Int32} {x3 : Int32} {x4 : Int32} {σ : ch_S} {a : Int32 × Int32} {res : Int32} {Q : Outcome → ch_W → Prop} (h : ch_loop (fun (s : Int32 × Int32) => m_X3_isRightMethod_218 x2 x3 x4 s.1 s.2 σ) a = some res) (hk : (fun r => ch_eI Q (r, ch_put m w σ)) res) : ch_FT g false mX3_isRightMethod 3 218 [some (va_rf (some m)), none, some (.int x2), some (.int x3), some (.int x4), some (.int a.1), some (.int a.2)] [] (ch_put m w σ) Q := by
  refine ch_loop_ind (fun (a : Int32 × Int32) (r : Int32) => (fun r => ch_eI Q (r, ch_put m w σ)) r → ch_FT g false mX3_isRightMethod 3 218 [some (va_rf (some m)), none, some (.int x2), some (.int x3), some (.int x4), some (.int a.1), some (.int a.2)] [] (ch_put m w σ) Q) ?_ ?_ a res h hk
  · intro a a2 b h1 ih hk
    exact s_X3_isRightMethod_218  h1 (ih hk)
  · intro a b h1 hk
    exact s_X3_isRightMethod_218  h1 hk

def m_X3_isRightMethod_149 (x2 : Int32) (y0 : Int32) (σ : ch_S) : Option (Int32) := if y0 < 0 then (some (1)) else ((ch_ma σ fX3_parameterFrom (x2 + 1)).bind fun v1 => (ch_ma σ fX3_parameterFrom x2).bind fun v2 => (ch_ma σ fX3_memberType y0).bind fun v3 => (ch_ma σ fX3_memberType x2).bind fun v4 => if v3 = v4 then ((ch_ma σ fX3_parameterFrom (y0 + 1)).bind fun v5 => (ch_ma σ fX3_parameterFrom y0).bind fun v6 => if (v5 - v6) = (v1 - v2) then (ch_loop (fun (s : Int32 × Int32) => m_X3_isRightMethod_218 x2 y0 (v1 - v2) s.1 s.2 σ) (1, 0)) else (ch_loop (fun (s : Int32 × Int32) => m_X3_isRightMethod_218 x2 y0 (v1 - v2) s.1 s.2 σ) (0, 0))) else (ch_loop (fun (s : Int32 × Int32) => m_X3_isRightMethod_218 x2 y0 (v1 - v2) s.1 s.2 σ) (0, 0)))
theorem s_X3_isRightMethod_149 {g : State} {m : Nat} {w : ch_W} {x2 : Int32} {y0 : Int32} {σ : ch_S} {res : Int32} {Q : Outcome → ch_W → Prop} (h : m_X3_isRightMethod_149 x2 y0 σ = some res) (hk : (fun r => ch_eI Q (r, ch_put m w σ)) res) : ch_FT g false mX3_isRightMethod 3 149 [some (va_rf (some m)), none, some (.int x2), none, none, none, none] [.int y0] (ch_put m w σ) Q := by
  unfold m_X3_isRightMethod_149 at h
  refine ch_istore_n 3 _ (ls1 := [some (va_rf (some m)), none, some (.int x2), some (.int y0), none, none, none]) dX3_isRightMethod_149 (Nat.le_of_ble_eq_true rfl) rfl (ch_iload_n 3 _ dX3_isRightMethod_150 rfl (cp_if_ge _ (tgt := 156) dX3_isRightMethod_151 rfl h (fun h => ?_) (fun h => ?_)))
  · refine ch_aload_n 0 (some m) dX3_isRightMethod_156 rfl (mp_gA 49 dX3_isRightMethod_157 fl_X3_110 rfl (ch_iload_n 2 _ dX3_isRightMethod_160 rfl (ch_iconst _ 1 dX3_isRightMethod_161 rfl (ch_iadd _ _ dX3_isRightMethod_162 (mp_iald dX3_isRightMethod_163 mk_49 h (fun v1 h => ?_))))))
    refine ch_aload_n 0 (some m) dX3_isRightMethod_164 rfl (mp_gA 49 dX3_isRightMethod_165 fl_X3_110 rfl (ch_iload_n 2 _ dX3_isRightMethod_168 rfl (mp_iald dX3_isRightMethod_169 mk_49 h (fun v2 h => ?_))))
    refine ch_isub _ _ dX3_isRightMethod_170 (ch_istore 4 _ (ls1 := [some (va_rf (some m)), none, some (.int x2), some (.int y0), some (.int (v1 - v2)), none, none]) dX3_isRightMethod_171 (Nat.le_of_ble_eq_true rfl) rfl (ch_aload_n 0 (some m) dX3_isRightMethod_173 rfl (mp_gA 47 dX3_isRightMethod_174 fl_X3_103 rfl (ch_iload_n 3 _ dX3_isRightMethod_177 rfl (mp_iald dX3_isRightMethod_178 mk_47 h (fun v3 h => ?_))))))
    refine ch_aload_n 0 (some m) dX3_isRightMethod_179 rfl (mp_gA 47 dX3_isRightMethod_180 fl_X3_103 rfl (ch_iload_n 2 _ dX3_isRightMethod_183 rfl (mp_iald dX3_isRightMethod_184 mk_47 h (fun v4 h => ?_))))
    refine cp_icmp_ne _ _ (tgt := 212) dX3_isRightMethod_185 rfl h (fun h => ?_) (fun h => ?_)
    · exact ch_iconst _ 0 dX3_isRightMethod_212 rfl (ch_istore 5 _ (ls1 := [some (va_rf (some m)), none, some (.int x2), some (.int y0), some (.int (v1 - v2)), some (.int 0), none]) dX3_isRightMethod_213 (Nat.le_of_ble_eq_true rfl) rfl (ch_iconst _ 0 dX3_isRightMethod_215 rfl (ch_istore 6 _ (ls1 := [some (va_rf (some m)), none, some (.int x2), some (.int y0), some (.int (v1 - v2)), some (.int 0), some (.int 0)]) dX3_isRightMethod_216 (Nat.le_of_ble_eq_true rfl) rfl (ch_FT.wk (ch_wS (ch_wN (ch_wS (ch_wS (ch_wS (ch_wS (ch_wS ch_w0))))))) (sl_X3_isRightMethod_218  h hk)))))
    · refine ch_aload_n 0 (some m) dX3_isRightMethod_188 rfl (mp_gA 49 dX3_isRightMethod_189 fl_X3_110 rfl (ch_iload_n 3 _ dX3_isRightMethod_192 rfl (ch_iconst _ 1 dX3_isRightMethod_193 rfl (ch_iadd _ _ dX3_isRightMethod_194 (mp_iald dX3_isRightMethod_195 mk_49 h (fun v5 h => ?_))))))
      refine ch_aload_n 0 (some m) dX3_isRightMethod_196 rfl (mp_gA 49 dX3_isRightMethod_197 fl_X3_110 rfl (ch_iload_n 3 _ dX3_isRightMethod_200 rfl (mp_iald dX3_isRightMethod_201 mk_49 h (fun v6 h => ?_))))
      refine ch_isub _ _ dX3_isRightMethod_202 (ch_iload 4 _ dX3_isRightMethod_203 rfl (cp_icmp_ne _ _ (tgt := 212) dX3_isRightMethod_205 rfl h (fun h => ?_) (fun h => ?_)))
      · exact ch_iconst _ 0 dX3_isRightMethod_212 rfl (ch_istore 5 _ (ls1 := [some (va_rf (some m)), none, some (.int x2), some (.int y0), some (.int (v1 - v2)), some (.int 0), none]) dX3_isRightMethod_213 (Nat.le_of_ble_eq_true rfl) rfl (ch_iconst _ 0 dX3_isRightMethod_215 rfl (ch_istore 6 _ (ls1 := [some (va_rf (some m)), none, some (.int x2), some (.int y0), some (.int (v1 - v2)), some (.int 0), some (.int 0)]) dX3_isRightMethod_216 (Nat.le_of_ble_eq_true rfl) rfl (ch_FT.wk (ch_wS (ch_wN (ch_wS (ch_wS (ch_wS (ch_wS (ch_wS ch_w0))))))) (sl_X3_isRightMethod_218  h hk)))))
      · exact ch_iconst _ 1 dX3_isRightMethod_208 rfl (ch_goto 213 dX3_isRightMethod_209 rfl (ch_istore 5 _ (ls1 := [some (va_rf (some m)), none, some (.int x2), some (.int y0), some (.int (v1 - v2)), some (.int 1), none]) dX3_isRightMethod_213 (Nat.le_of_ble_eq_true rfl) rfl (ch_iconst _ 0 dX3_isRightMethod_215 rfl (ch_istore 6 _ (ls1 := [some (va_rf (some m)), none, some (.int x2), some (.int y0), some (.int (v1 - v2)), some (.int 1), some (.int 0)]) dX3_isRightMethod_216 (Nat.le_of_ble_eq_true rfl) rfl (ch_FT.wk (ch_wS (ch_wN (ch_wS (ch_wS (ch_wS (ch_wS (ch_wS ch_w0))))))) (sl_X3_isRightMethod_218  h hk))))))
  · obtain rfl := Option.some.inj h
    exact ch_iconst _ 1 dX3_isRightMethod_154 rfl (ch_ireturn _ dX3_isRightMethod_155 rfl rfl hk)

def m_X3_isRightMethod_83 (x1 : Int32) (x2 : Int32) (x3 : Int32) (x4 : Int32)  (σ : ch_S) : Option (Int32 ⊕ (Int32 ⊕ (Int32))) := if x4 < x3 then ((ch_ma σ fX3_parameterId x4).bind fun v1 => (ch_ma σ fX3_parameterId x3).bind fun v2 => if v1 = v2 then (some (.inr (.inr (0)))) else (some (.inl (x4 + 1)))) else (some (.inr (.inl (x3 + 1))))
theorem s_X3_isRightMethod_83 {g : State} {m : Nat} {w : ch_W} {x1 : Int32} {x2 : Int32} {x3 : Int32} {x4 : Int32} {σ : ch_S} {res : Int32 ⊕ (Int32 ⊕ (Int32))} {Q : Outcome → ch_W → Prop} (h : m_X3_isRightMethod_83 x1 x2 x3 x4 σ = some res) (hk : (ch_sm (fun s => ch_FT g false mX3_isRightMethod 3 83 [some (va_rf (some m)), some (.int x1), some (.int x2), some (.int x3), some (.int s), none, none] [] (ch_put m w σ) Q) (ch_sm (fun s => ch_FT g false mX3_isRightMethod 3 51 [some (va_rf (some m)), some (.int x1), some (.int x2), some (.int s), none, none, none] [] (ch_put m w σ) Q) (fun r => ch_eI Q (r, ch_put m w σ)))) res) : ch_FT g false mX3_isRightMethod 3 83 [some (va_rf (some m)), some (.int x1), some (.int x2), some (.int x3), some (.int x4), none, none] [] (ch_put m w σ) Q := by
  unfold m_X3_isRightMethod_83 at h
  refine ch_iload 4 _ dX3_isRightMethod_83 rfl (ch_iload_n 3 _ dX3_isRightMethod_85 rfl (cp_icmp_ge _ _ (tgt := 113) dX3_isRightMethod_86 rfl h (fun h => ?_) (fun h => ?_)))
  · refine ch_iinc 3 _ _ (x3 + 1) (ls1 := [some (va_rf (some m)), some (.int x1), some (.int x2), some (.int (x3 + 1)), some (.int x4), none, none]) dX3_isRightMethod_113 rfl rfl (Nat.le_of_ble_eq_true rfl) rfl (ch_goto 51 dX3_isRightMethod_116 rfl (ch_FT.wk (ch_wS (ch_wS (ch_wS (ch_wS (ch_wN (ch_wN (ch_wN ch_w0))))))) ?_))
    obtain rfl := Option.some.inj h
    exact hk
  · refine ch_aload_n 0 (some m) dX3_isRightMethod_89 rfl (mp_gA 55 dX3_isRightMethod_90 fl_X3_125 rfl (ch_iload 4 _ dX3_isRightMethod_93 rfl (mp_iald dX3_isRightMethod_95 mk_55 h (fun v1 h => ?_))))
    refine ch_aload_n 0 (some m) dX3_isRightMethod_96 rfl (mp_gA 55 dX3_isRightMethod_97 fl_X3_125 rfl (ch_iload_n 3 _ dX3_isRightMethod_100 rfl (mp_iald dX3_isRightMethod_101 mk_55 h (fun v2 h => ?_))))
    refine cp_icmp_ne _ _ (tgt := 107) dX3_isRightMethod_102 rfl h (fun h => ?_) (fun h => ?_)
    · refine ch_iinc 4 _ _ (x4 + 1) (ls1 := [some (va_rf (some m)), some (.int x1), some (.int x2), some (.int x3), some (.int (x4 + 1)), none, none]) dX3_isRightMethod_107 rfl rfl (Nat.le_of_ble_eq_true rfl) rfl (ch_goto 83 dX3_isRightMethod_110 rfl (ch_FT.wk (ch_wS (ch_wS (ch_wS (ch_wS (ch_wS (ch_wN (ch_wN ch_w0))))))) ?_))
      obtain rfl := Option.some.inj h
      exact hk
    · obtain rfl := Option.some.inj h
      exact ch_iconst _ 0 dX3_isRightMethod_105 rfl (ch_ireturn _ dX3_isRightMethod_106 rfl rfl hk)
theorem sl_X3_isRightMethod_83 {g : State} {m : Nat} {w : ch_W} {x1 : Int32} {x2 : Int32} {x3 : Int32} {σ : ch_S} {a : Int32} {res : Int32 ⊕ (Int32)} {Q : Outcome → ch_W → Prop} (h : ch_loop (fun (s : Int32) => m_X3_isRightMethod_83 x1 x2 x3 s σ) a = some res) (hk : (ch_sm (fun s => ch_FT g false mX3_isRightMethod 3 51 [some (va_rf (some m)), some (.int x1), some (.int x2), some (.int s), none, none, none] [] (ch_put m w σ) Q) (fun r => ch_eI Q (r, ch_put m w σ))) res) : ch_FT g false mX3_isRightMethod 3 83 [some (va_rf (some m)), some (.int x1), some (.int x2), some (.int x3), some (.int a), none, none] [] (ch_put m w σ) Q := by
  refine ch_loop_ind (fun (a : Int32) (r : Int32 ⊕ (Int32)) => (ch_sm (fun s => ch_FT g false mX3_isRightMethod 3 51 [some (va_rf (some m)), some (.int x1), some (.int x2), some (.int s), none, none, none] [] (ch_put m w σ) Q) (fun r => ch_eI Q (r, ch_put m w σ))) r → ch_FT g false mX3_isRightMethod 3 83 [some (va_rf (some m)), some (.int x1), some (.int x2), some (.int x3), some (.int a), none, none] [] (ch_put m w σ) Q) ?_ ?_ a res h hk
  · intro a a2 b h1 ih hk
    exact s_X3_isRightMethod_83  h1 (ih hk)
  · intro a b h1 hk
    exact s_X3_isRightMethod_83  h1 hk

def m_X3_isRightMethod_51 (x1 : Int32) (x2 : Int32) (x3 : Int32)  (σ : ch_S) : Option (Int32 ⊕ (Int32)) := (ch_ma σ fX3_parameterFrom (x2 + 1)).bind fun v1 => if x3 < v1 then ((ch_ma σ fX3_parameterType x3).bind fun v7 => if v7 = 5 then (some (.inr (0))) else ((ch_ma σ fX3_parameterFrom x2).bind fun v8 => ch_loop (fun (s : Int32) => m_X3_isRightMethod_83 x1 x2 x3 s σ) (v8))) else ((ch_ma σ fX3_parent x1).bind fun v2 => if v2 < 0 then ((m_X3_isRightMethod_149 x2 (-1) σ).bind fun r => some (.inr (r))) else ((ch_ma σ fX3_parent x1).bind fun v3 => (ch_ma σ fX3_memberId x2).bind fun v4 => (m_X3_memberOf v3 v4 1 σ).bind fun v5 => (m_X3_isRightMethod_149 x2 v5 σ).bind fun r => some (.inr (r))))
theorem s_X3_isRightMethod_51 {g : State} {m : Nat} {w : ch_W} {x1 : Int32} {x2 : Int32} {x3 : Int32} {σ : ch_S} {res : Int32 ⊕ (Int32)} {Q : Outcome → ch_W → Prop} (h : m_X3_isRightMethod_51 x1 x2 x3 σ = some res) (hk : (ch_sm (fun s => ch_FT g false mX3_isRightMethod 3 51 [some (va_rf (some m)), some (.int x1), some (.int x2), some (.int s), none, none, none] [] (ch_put m w σ) Q) (fun r => ch_eI Q (r, ch_put m w σ))) res) : ch_FT g false mX3_isRightMethod 3 51 [some (va_rf (some m)), some (.int x1), some (.int x2), some (.int x3), none, none, none] [] (ch_put m w σ) Q := by
  unfold m_X3_isRightMethod_51 at h
  refine ch_iload_n 3 _ dX3_isRightMethod_51 rfl (ch_aload_n 0 (some m) dX3_isRightMethod_52 rfl (mp_gA 49 dX3_isRightMethod_53 fl_X3_110 rfl (ch_iload_n 2 _ dX3_isRightMethod_56 rfl (ch_iconst _ 1 dX3_isRightMethod_57 rfl (ch_iadd _ _ dX3_isRightMethod_58 (mp_iald dX3_isRightMethod_59 mk_49 h (fun v1 h => ?_)))))))
  refine cp_icmp_ge _ _ (tgt := 119) dX3_isRightMethod_60 rfl h (fun h => ?_) (fun h => ?_)
  · refine ch_aload_n 0 (some m) dX3_isRightMethod_119 rfl (mp_gA 41 dX3_isRightMethod_120 fl_X3_88 rfl (ch_iload_n 1 _ dX3_isRightMethod_123 rfl (mp_iald dX3_isRightMethod_124 mk_41 h (fun v2 h => ?_))))
    refine cp_if_ge _ (tgt := 132) dX3_isRightMethod_125 rfl h (fun h => ?_) (fun h => ?_)
    · refine ch_aload_n 0 (some m) dX3_isRightMethod_132 rfl (ch_aload_n 0 (some m) dX3_isRightMethod_133 rfl (mp_gA 41 dX3_isRightMethod_134 fl_X3_88 rfl (ch_iload_n 1 _ dX3_isRightMethod_137 rfl (mp_iald dX3_isRightMethod_138 mk_41 h (fun v3 h => ?_)))))
      refine ch_aload_n 0 (some m) dX3_isRightMethod_139 rfl (mp_gA 45 dX3_isRightMethod_140 fl_X3_97 rfl (ch_iload_n 2 _ dX3_isRightMethod_143 rfl (mp_iald dX3_isRightMethod_144 mk_45 h (fun v4 h => ?_))))
      obtain ⟨v5, hp6, h⟩ := ch_bd h
      refine ch_iconst _ 1 dX3_isRightMethod_145 rfl (ch_iv yX3_memberOf prog_14_method_47_code 6 (some .int) (ci := 3) (q := (RX3, TX3, 109)) (b := m) (d' := 2) (av := [.int v3, .int v4, .int 1]) (rest := []) rfl dX3_isRightMethod_146 q2064 q2066 rfl qs145 q2067 can_X3_memberOf (Nat.le_of_ble_eq_true rfl) (Nat.le_of_ble_eq_true rfl) ch_put_tag (cp_kI (v := v5) (w1 := ch_put m w σ) (fun Q' hq => s_X3_memberOf hp6 hq) ?_))
      obtain ⟨r, hr, h⟩ := ch_bd h
      obtain rfl := Option.some.inj h
      exact ch_FT.wk (ch_wS (ch_wN (ch_wS (ch_wN (ch_wN (ch_wN (ch_wN ch_w0))))))) (s_X3_isRightMethod_149  hr hk)
    · obtain ⟨r, hr, h⟩ := ch_bd h
      obtain rfl := Option.some.inj h
      exact ch_iconst _ (-1) dX3_isRightMethod_128 rfl (ch_goto 149 dX3_isRightMethod_129 rfl (ch_FT.wk (ch_wS (ch_wN (ch_wS (ch_wN (ch_wN (ch_wN (ch_wN ch_w0))))))) (s_X3_isRightMethod_149  hr hk)))
  · refine ch_aload_n 0 (some m) dX3_isRightMethod_63 rfl (mp_gA 54 dX3_isRightMethod_64 fl_X3_122 rfl (ch_iload_n 3 _ dX3_isRightMethod_67 rfl (mp_iald dX3_isRightMethod_68 mk_54 h (fun v7 h => ?_))))
    refine ch_iconst _ 5 dX3_isRightMethod_69 rfl (cp_icmp_ne _ _ (tgt := 75) dX3_isRightMethod_70 rfl h (fun h => ?_) (fun h => ?_))
    · refine ch_aload_n 0 (some m) dX3_isRightMethod_75 rfl (mp_gA 49 dX3_isRightMethod_76 fl_X3_110 rfl (ch_iload_n 2 _ dX3_isRightMethod_79 rfl (mp_iald dX3_isRightMethod_80 mk_49 h (fun v8 h => ?_))))
      exact ch_istore 4 _ (ls1 := [some (va_rf (some m)), some (.int x1), some (.int x2), some (.int x3), some (.int v8), none, none]) dX3_isRightMethod_81 (Nat.le_of_ble_eq_true rfl) rfl (ch_FT.wk (ch_wS (ch_wS (ch_wS (ch_wS (ch_wS (ch_wN (ch_wN ch_w0))))))) (sl_X3_isRightMethod_83  h hk))
    · obtain rfl := Option.some.inj h
      exact ch_iconst _ 0 dX3_isRightMethod_73 rfl (ch_ireturn _ dX3_isRightMethod_74 rfl rfl hk)
theorem sl_X3_isRightMethod_51 {g : State} {m : Nat} {w : ch_W} {x1 : Int32} {x2 : Int32} {σ : ch_S} {a : Int32} {res : Int32} {Q : Outcome → ch_W → Prop} (h : ch_loop (fun (s : Int32) => m_X3_isRightMethod_51 x1 x2 s σ) a = some res) (hk : (fun r => ch_eI Q (r, ch_put m w σ)) res) : ch_FT g false mX3_isRightMethod 3 51 [some (va_rf (some m)), some (.int x1), some (.int x2), some (.int a), none, none, none] [] (ch_put m w σ) Q := by
  refine ch_loop_ind (fun (a : Int32) (r : Int32) => (fun r => ch_eI Q (r, ch_put m w σ)) r → ch_FT g false mX3_isRightMethod 3 51 [some (va_rf (some m)), some (.int x1), some (.int x2), some (.int a), none, none, none] [] (ch_put m w σ) Q) ?_ ?_ a res h hk
  · intro a a2 b h1 ih hk
    exact s_X3_isRightMethod_51  h1 (ih hk)
  · intro a b h1 hk
    exact s_X3_isRightMethod_51  h1 hk

def m_X3_isRightMethod_7 (x1 : Int32) (x2 : Int32) (x3 : Int32)  (σ : ch_S) : Option (Int32 ⊕ (Int32)) := if x3 < x2 then ((ch_ma σ fX3_isMethod x3).bind fun v2 => if v2 = 0 then (some (.inl (x3 + 1))) else ((ch_ma σ fX3_memberId x3).bind fun v3 => (ch_ma σ fX3_memberId x2).bind fun v4 => if v3 = v4 then (some (.inr (0))) else (some (.inl (x3 + 1))))) else ((ch_ma σ fX3_parameterFrom x2).bind fun v1 => (ch_loop (fun (s : Int32) => m_X3_isRightMethod_51 x1 x2 s σ) (v1)).bind fun r => some (.inr (r)))
theorem s_X3_isRightMethod_7 {g : State} {m : Nat} {w : ch_W} {x1 : Int32} {x2 : Int32} {x3 : Int32} {σ : ch_S} {res : Int32 ⊕ (Int32)} {Q : Outcome → ch_W → Prop} (h : m_X3_isRightMethod_7 x1 x2 x3 σ = some res) (hk : (ch_sm (fun s => ch_FT g false mX3_isRightMethod 3 7 [some (va_rf (some m)), some (.int x1), some (.int x2), some (.int s), none, none, none] [] (ch_put m w σ) Q) (fun r => ch_eI Q (r, ch_put m w σ))) res) : ch_FT g false mX3_isRightMethod 3 7 [some (va_rf (some m)), some (.int x1), some (.int x2), some (.int x3), none, none, none] [] (ch_put m w σ) Q := by
  unfold m_X3_isRightMethod_7 at h
  refine ch_iload_n 3 _ dX3_isRightMethod_7 rfl (ch_iload_n 2 _ dX3_isRightMethod_8 rfl (cp_icmp_ge _ _ (tgt := 44) dX3_isRightMethod_9 rfl h (fun h => ?_) (fun h => ?_)))
  · refine ch_aload_n 0 (some m) dX3_isRightMethod_44 rfl (mp_gA 49 dX3_isRightMethod_45 fl_X3_110 rfl (ch_iload_n 2 _ dX3_isRightMethod_48 rfl (mp_iald dX3_isRightMethod_49 mk_49 h (fun v1 h => ?_))))
    obtain ⟨r, hr, h⟩ := ch_bd h
    obtain rfl := Option.some.inj h
    exact ch_istore_n 3 _ (ls1 := [some (va_rf (some m)), some (.int x1), some (.int x2), some (.int v1), none, none, none]) dX3_isRightMethod_50 (Nat.le_of_ble_eq_true rfl) rfl (ch_FT.wk (ch_wS (ch_wS (ch_wS (ch_wS (ch_wN (ch_wN (ch_wN ch_w0))))))) (sl_X3_isRightMethod_51  hr hk))
  · refine ch_aload_n 0 (some m) dX3_isRightMethod_12 rfl (mp_gA 48 dX3_isRightMethod_13 fl_X3_106 rfl (ch_iload_n 3 _ dX3_isRightMethod_16 rfl (mp_zald dX3_isRightMethod_17 mk_48 h (fun v2 h => ?_))))
    refine cp_if_eq _ (tgt := 38) dX3_isRightMethod_18 rfl h (fun h => ?_) (fun h => ?_)
    · refine ch_iinc 3 _ _ (x3 + 1) (ls1 := [some (va_rf (some m)), some (.int x1), some (.int x2), some (.int (x3 + 1)), none, none, none]) dX3_isRightMethod_38 rfl rfl (Nat.le_of_ble_eq_true rfl) rfl (ch_goto 7 dX3_isRightMethod_41 rfl (ch_FT.wk (ch_wS (ch_wS (ch_wS (ch_wS (ch_wN (ch_wN (ch_wN ch_w0))))))) ?_))
      obtain rfl := Option.some.inj h
      exact hk
    · refine ch_aload_n 0 (some m) dX3_isRightMethod_21 rfl (mp_gA 45 dX3_isRightMethod_22 fl_X3_97 rfl (ch_iload_n 3 _ dX3_isRightMethod_25 rfl (mp_iald dX3_isRightMethod_26 mk_45 h (fun v3 h => ?_))))
      refine ch_aload_n 0 (some m) dX3_isRightMethod_27 rfl (mp_gA 45 dX3_isRightMethod_28 fl_X3_97 rfl (ch_iload_n 2 _ dX3_isRightMethod_31 rfl (mp_iald dX3_isRightMethod_32 mk_45 h (fun v4 h => ?_))))
      refine cp_icmp_ne _ _ (tgt := 38) dX3_isRightMethod_33 rfl h (fun h => ?_) (fun h => ?_)
      · refine ch_iinc 3 _ _ (x3 + 1) (ls1 := [some (va_rf (some m)), some (.int x1), some (.int x2), some (.int (x3 + 1)), none, none, none]) dX3_isRightMethod_38 rfl rfl (Nat.le_of_ble_eq_true rfl) rfl (ch_goto 7 dX3_isRightMethod_41 rfl (ch_FT.wk (ch_wS (ch_wS (ch_wS (ch_wS (ch_wN (ch_wN (ch_wN ch_w0))))))) ?_))
        obtain rfl := Option.some.inj h
        exact hk
      · obtain rfl := Option.some.inj h
        exact ch_iconst _ 0 dX3_isRightMethod_36 rfl (ch_ireturn _ dX3_isRightMethod_37 rfl rfl hk)
theorem sl_X3_isRightMethod_7 {g : State} {m : Nat} {w : ch_W} {x1 : Int32} {x2 : Int32} {σ : ch_S} {a : Int32} {res : Int32} {Q : Outcome → ch_W → Prop} (h : ch_loop (fun (s : Int32) => m_X3_isRightMethod_7 x1 x2 s σ) a = some res) (hk : (fun r => ch_eI Q (r, ch_put m w σ)) res) : ch_FT g false mX3_isRightMethod 3 7 [some (va_rf (some m)), some (.int x1), some (.int x2), some (.int a), none, none, none] [] (ch_put m w σ) Q := by
  refine ch_loop_ind (fun (a : Int32) (r : Int32) => (fun r => ch_eI Q (r, ch_put m w σ)) r → ch_FT g false mX3_isRightMethod 3 7 [some (va_rf (some m)), some (.int x1), some (.int x2), some (.int a), none, none, none] [] (ch_put m w σ) Q) ?_ ?_ a res h hk
  · intro a a2 b h1 ih hk
    exact s_X3_isRightMethod_7  h1 (ih hk)
  · intro a b h1 hk
    exact s_X3_isRightMethod_7  h1 hk

def m_X3_isRightMethod (x1 : Int32) (x2 : Int32) (σ : ch_S) : Option (Int32) := (ch_ma σ fX3_memberFrom x1).bind fun v1 => ch_loop (fun (s : Int32) => m_X3_isRightMethod_7 x1 x2 s σ) (v1)
theorem s_X3_isRightMethod {g : State} {m : Nat} {w : ch_W} {x1 : Int32} {x2 : Int32} {σ : ch_S} {res : Int32} {Q : Outcome → ch_W → Prop} (h : m_X3_isRightMethod x1 x2 σ = some res) (hk : (fun r => ch_eI Q (r, ch_put m w σ)) res) : ch_CT g false yX3_isRightMethod 3 [.ref m, .int x1, .int x2] (ch_put m w σ) Q := by
  unfold m_X3_isRightMethod at h
  refine ch_ctL mX3_isRightMethod (ls := [some (va_rf (some m)), some (.int x1), some (.int x2), none, none, none, none]) q2063 rfl (ch_lyr (r := some m) (ch_lyi (ch_lyi ch_ly0))) (Nat.le_of_ble_eq_true rfl) rfl ?_
  refine ch_aload_n 0 (some m) dX3_isRightMethod_0 rfl (mp_gA 43 dX3_isRightMethod_1 fl_X3_94 rfl (ch_iload_n 1 _ dX3_isRightMethod_4 rfl (mp_iald dX3_isRightMethod_5 mk_43 h (fun v1 h => ?_))))
  exact ch_istore_n 3 _ (ls1 := [some (va_rf (some m)), some (.int x1), some (.int x2), some (.int v1), none, none, none]) dX3_isRightMethod_6 (Nat.le_of_ble_eq_true rfl) rfl (ch_FT.wk (ch_wS (ch_wS (ch_wS (ch_wS (ch_wN (ch_wN (ch_wN ch_w0))))))) (sl_X3_isRightMethod_7  h hk))

theorem bX3_isField_0 : ch_ck cX3_isField 0 [42, 180, 0, 94, 27, 46, 62, 29, 28, 162, 0, 35, 42, 180, 0, 106] := ch_ckof (by decide +kernel)
theorem bX3_isField_1 : ch_ck cX3_isField 16 [29, 51, 154, 0, 20, 42, 180, 0, 97, 29, 46, 42, 180, 0, 97, 28] := ch_ckof (by decide +kernel)
theorem bX3_isField_2 : ch_ck cX3_isField 32 [46, 160, 0, 5, 4, 172, 132, 3, 1, 167, 255, 222, 42, 180, 0, 88] := ch_ckof (by decide +kernel)
theorem bX3_isField_3 : ch_ck cX3_isField 48 [27, 46, 155, 0, 27, 42, 42, 180, 0, 88, 27, 46, 42, 180, 0, 97] := ch_ckof (by decide +kernel)
theorem bX3_isField_4 : ch_ck cX3_isField 64 [28, 46, 3, 182, 1, 166, 155, 0, 7, 4, 167, 0, 4, 3, 172] := ch_ckof (by decide +kernel)
theorem dX3_isField_0 : decode cX3_isField 0 = .ok (.aload_n 0, 1) := dz_42 (bX3_isField_0 0 _ rfl)
theorem dX3_isField_1 : decode cX3_isField 1 = .ok (.getfield 94, 3) := dz_180 (bX3_isField_0 1 _ rfl) (bX3_isField_0 2 _ rfl) (bX3_isField_0 3 _ rfl)
theorem dX3_isField_4 : decode cX3_isField 4 = .ok (.iload_n 1, 1) := dz_27 (bX3_isField_0 4 _ rfl)
theorem dX3_isField_5 : decode cX3_isField 5 = .ok (.iaload, 1) := dz_46 (bX3_isField_0 5 _ rfl)
theorem dX3_isField_6 : decode cX3_isField 6 = .ok (.istore_n 3, 1) := dz_62 (bX3_isField_0 6 _ rfl)
theorem dX3_isField_7 : decode cX3_isField 7 = .ok (.iload_n 3, 1) := dz_29 (bX3_isField_0 7 _ rfl)
theorem dX3_isField_8 : decode cX3_isField 8 = .ok (.iload_n 2, 1) := dz_28 (bX3_isField_0 8 _ rfl)
theorem dX3_isField_9 : decode cX3_isField 9 = .ok (.if_icmp .ge 35, 3) := dz_162 (bX3_isField_0 9 _ rfl) (bX3_isField_0 10 _ rfl) (bX3_isField_0 11 _ rfl)
theorem dX3_isField_12 : decode cX3_isField 12 = .ok (.aload_n 0, 1) := dz_42 (bX3_isField_0 12 _ rfl)
theorem dX3_isField_13 : decode cX3_isField 13 = .ok (.getfield 106, 3) := dz_180 (bX3_isField_0 13 _ rfl) (bX3_isField_0 14 _ rfl) (bX3_isField_0 15 _ rfl)
theorem dX3_isField_16 : decode cX3_isField 16 = .ok (.iload_n 3, 1) := dz_29 (bX3_isField_1 0 _ rfl)
theorem dX3_isField_17 : decode cX3_isField 17 = .ok (.baload, 1) := dz_51 (bX3_isField_1 1 _ rfl)
theorem dX3_isField_18 : decode cX3_isField 18 = .ok (.ifCond .ne 20, 3) := dz_154 (bX3_isField_1 2 _ rfl) (bX3_isField_1 3 _ rfl) (bX3_isField_1 4 _ rfl)
theorem dX3_isField_21 : decode cX3_isField 21 = .ok (.aload_n 0, 1) := dz_42 (bX3_isField_1 5 _ rfl)
theorem dX3_isField_22 : decode cX3_isField 22 = .ok (.getfield 97, 3) := dz_180 (bX3_isField_1 6 _ rfl) (bX3_isField_1 7 _ rfl) (bX3_isField_1 8 _ rfl)
theorem dX3_isField_25 : decode cX3_isField 25 = .ok (.iload_n 3, 1) := dz_29 (bX3_isField_1 9 _ rfl)
theorem dX3_isField_26 : decode cX3_isField 26 = .ok (.iaload, 1) := dz_46 (bX3_isField_1 10 _ rfl)
theorem dX3_isField_27 : decode cX3_isField 27 = .ok (.aload_n 0, 1) := dz_42 (bX3_isField_1 11 _ rfl)
theorem dX3_isField_28 : decode cX3_isField 28 = .ok (.getfield 97, 3) := dz_180 (bX3_isField_1 12 _ rfl) (bX3_isField_1 13 _ rfl) (bX3_isField_1 14 _ rfl)
theorem dX3_isField_31 : decode cX3_isField 31 = .ok (.iload_n 2, 1) := dz_28 (bX3_isField_1 15 _ rfl)
theorem dX3_isField_32 : decode cX3_isField 32 = .ok (.iaload, 1) := dz_46 (bX3_isField_2 0 _ rfl)
theorem dX3_isField_33 : decode cX3_isField 33 = .ok (.if_icmp .ne 5, 3) := dz_160 (bX3_isField_2 1 _ rfl) (bX3_isField_2 2 _ rfl) (bX3_isField_2 3 _ rfl)
theorem dX3_isField_36 : decode cX3_isField 36 = .ok (.iconst 1, 1) := dz_4 (bX3_isField_2 4 _ rfl)
theorem dX3_isField_37 : decode cX3_isField 37 = .ok (.ireturn, 1) := dz_172 (bX3_isField_2 5 _ rfl)
theorem dX3_isField_38 : decode cX3_isField 38 = .ok (.iinc 3 1, 3) := dz_132 (bX3_isField_2 6 _ rfl) (bX3_isField_2 7 _ rfl) (bX3_isField_2 8 _ rfl)
theorem dX3_isField_41 : decode cX3_isField 41 = .ok (.goto (-34), 3) := dz_167 (bX3_isField_2 9 _ rfl) (bX3_isField_2 10 _ rfl) (bX3_isField_2 11 _ rfl)
theorem dX3_isField_44 : decode cX3_isField 44 = .ok (.aload_n 0, 1) := dz_42 (bX3_isField_2 12 _ rfl)
theorem dX3_isField_45 : decode cX3_isField 45 = .ok (.getfield 88, 3) := dz_180 (bX3_isField_2 13 _ rfl) (bX3_isField_2 14 _ rfl) (bX3_isField_2 15 _ rfl)
theorem dX3_isField_48 : decode cX3_isField 48 = .ok (.iload_n 1, 1) := dz_27 (bX3_isField_3 0 _ rfl)
theorem dX3_isField_49 : decode cX3_isField 49 = .ok (.iaload, 1) := dz_46 (bX3_isField_3 1 _ rfl)
theorem dX3_isField_50 : decode cX3_isField 50 = .ok (.ifCond .lt 27, 3) := dz_155 (bX3_isField_3 2 _ rfl) (bX3_isField_3 3 _ rfl) (bX3_isField_3 4 _ rfl)
theorem dX3_isField_53 : decode cX3_isField 53 = .ok (.aload_n 0, 1) := dz_42 (bX3_isField_3 5 _ rfl)
theorem dX3_isField_54 : decode cX3_isField 54 = .ok (.aload_n 0, 1) := dz_42 (bX3_isField_3 6 _ rfl)
theorem dX3_isField_55 : decode cX3_isField 55 = .ok (.getfield 88, 3) := dz_180 (bX3_isField_3 7 _ rfl) (bX3_isField_3 8 _ rfl) (bX3_isField_3 9 _ rfl)
theorem dX3_isField_58 : decode cX3_isField 58 = .ok (.iload_n 1, 1) := dz_27 (bX3_isField_3 10 _ rfl)
theorem dX3_isField_59 : decode cX3_isField 59 = .ok (.iaload, 1) := dz_46 (bX3_isField_3 11 _ rfl)
theorem dX3_isField_60 : decode cX3_isField 60 = .ok (.aload_n 0, 1) := dz_42 (bX3_isField_3 12 _ rfl)
theorem dX3_isField_61 : decode cX3_isField 61 = .ok (.getfield 97, 3) := dz_180 (bX3_isField_3 13 _ rfl) (bX3_isField_3 14 _ rfl) (bX3_isField_3 15 _ rfl)
theorem dX3_isField_64 : decode cX3_isField 64 = .ok (.iload_n 2, 1) := dz_28 (bX3_isField_4 0 _ rfl)
theorem dX3_isField_65 : decode cX3_isField 65 = .ok (.iaload, 1) := dz_46 (bX3_isField_4 1 _ rfl)
theorem dX3_isField_66 : decode cX3_isField 66 = .ok (.iconst 0, 1) := dz_3 (bX3_isField_4 2 _ rfl)
theorem dX3_isField_67 : decode cX3_isField 67 = .ok (.invokevirtual 422, 3) := dz_182 (bX3_isField_4 3 _ rfl) (bX3_isField_4 4 _ rfl) (bX3_isField_4 5 _ rfl)
theorem dX3_isField_70 : decode cX3_isField 70 = .ok (.ifCond .lt 7, 3) := dz_155 (bX3_isField_4 6 _ rfl) (bX3_isField_4 7 _ rfl) (bX3_isField_4 8 _ rfl)
theorem dX3_isField_73 : decode cX3_isField 73 = .ok (.iconst 1, 1) := dz_4 (bX3_isField_4 9 _ rfl)
theorem dX3_isField_74 : decode cX3_isField 74 = .ok (.goto 4, 3) := dz_167 (bX3_isField_4 10 _ rfl) (bX3_isField_4 11 _ rfl) (bX3_isField_4 12 _ rfl)
theorem dX3_isField_77 : decode cX3_isField 77 = .ok (.iconst 0, 1) := dz_3 (bX3_isField_4 13 _ rfl)
theorem dX3_isField_78 : decode cX3_isField 78 = .ok (.ireturn, 1) := dz_172 (bX3_isField_4 14 _ rfl)
def m_X3_isField_7 (x1 : Int32) (x2 : Int32) (x3 : Int32)  (σ : ch_S) : Option (Int32 ⊕ (Int32)) := if x3 < x2 then ((ch_ma σ fX3_isMethod x3).bind fun v6 => if v6 = 0 then ((ch_ma σ fX3_memberId x3).bind fun v7 => (ch_ma σ fX3_memberId x2).bind fun v8 => if v7 = v8 then (some (.inr (1))) else (some (.inl (x3 + 1)))) else (some (.inl (x3 + 1)))) else ((ch_ma σ fX3_parent x1).bind fun v1 => if v1 < 0 then (some (.inr (0))) else ((ch_ma σ fX3_parent x1).bind fun v2 => (ch_ma σ fX3_memberId x2).bind fun v3 => (m_X3_memberOf v2 v3 0 σ).bind fun v4 => if v4 < 0 then (some (.inr (0))) else (some (.inr (1)))))
theorem s_X3_isField_7 {g : State} {m : Nat} {w : ch_W} {x1 : Int32} {x2 : Int32} {x3 : Int32} {σ : ch_S} {res : Int32 ⊕ (Int32)} {Q : Outcome → ch_W → Prop} (h : m_X3_isField_7 x1 x2 x3 σ = some res) (hk : (ch_sm (fun s => ch_FT g false mX3_isField 3 7 [some (va_rf (some m)), some (.int x1), some (.int x2), some (.int s)] [] (ch_put m w σ) Q) (fun r => ch_eI Q (r, ch_put m w σ))) res) : ch_FT g false mX3_isField 3 7 [some (va_rf (some m)), some (.int x1), some (.int x2), some (.int x3)] [] (ch_put m w σ) Q := by
  unfold m_X3_isField_7 at h
  refine ch_iload_n 3 _ dX3_isField_7 rfl (ch_iload_n 2 _ dX3_isField_8 rfl (cp_icmp_ge _ _ (tgt := 44) dX3_isField_9 rfl h (fun h => ?_) (fun h => ?_)))
  · refine ch_aload_n 0 (some m) dX3_isField_44 rfl (mp_gA 41 dX3_isField_45 fl_X3_88 rfl (ch_iload_n 1 _ dX3_isField_48 rfl (mp_iald dX3_isField_49 mk_41 h (fun v1 h => ?_))))
    refine cp_if_lt _ (tgt := 77) dX3_isField_50 rfl h (fun h => ?_) (fun h => ?_)
    · obtain rfl := Option.some.inj h
      exact ch_iconst _ 0 dX3_isField_77 rfl (ch_ireturn _ dX3_isField_78 rfl rfl hk)
    · refine ch_aload_n 0 (some m) dX3_isField_53 rfl (ch_aload_n 0 (some m) dX3_isField_54 rfl (mp_gA 41 dX3_isField_55 fl_X3_88 rfl (ch_iload_n 1 _ dX3_isField_58 rfl (mp_iald dX3_isField_59 mk_41 h (fun v2 h => ?_)))))
      refine ch_aload_n 0 (some m) dX3_isField_60 rfl (mp_gA 45 dX3_isField_61 fl_X3_97 rfl (ch_iload_n 2 _ dX3_isField_64 rfl (mp_iald dX3_isField_65 mk_45 h (fun v3 h => ?_))))
      obtain ⟨v4, hp5, h⟩ := ch_bd h
      refine ch_iconst _ 0 dX3_isField_66 rfl (ch_iv yX3_memberOf prog_14_method_47_code 6 (some .int) (ci := 3) (q := (RX3, TX3, 109)) (b := m) (d' := 2) (av := [.int v2, .int v3, .int 0]) (rest := []) rfl dX3_isField_67 q2064 q2066 rfl qs145 q2067 can_X3_memberOf (Nat.le_of_ble_eq_true rfl) (Nat.le_of_ble_eq_true rfl) ch_put_tag (cp_kI (v := v4) (w1 := ch_put m w σ) (fun Q' hq => s_X3_memberOf hp5 hq) ?_))
      refine cp_if_lt _ (tgt := 77) dX3_isField_70 rfl h (fun h => ?_) (fun h => ?_)
      · obtain rfl := Option.some.inj h
        exact ch_iconst _ 0 dX3_isField_77 rfl (ch_ireturn _ dX3_isField_78 rfl rfl hk)
      · obtain rfl := Option.some.inj h
        exact ch_iconst _ 1 dX3_isField_73 rfl (ch_goto 78 dX3_isField_74 rfl (ch_ireturn _ dX3_isField_78 rfl rfl hk))
  · refine ch_aload_n 0 (some m) dX3_isField_12 rfl (mp_gA 48 dX3_isField_13 fl_X3_106 rfl (ch_iload_n 3 _ dX3_isField_16 rfl (mp_zald dX3_isField_17 mk_48 h (fun v6 h => ?_))))
    refine cp_if_ne _ (tgt := 38) dX3_isField_18 rfl h (fun h => ?_) (fun h => ?_)
    · refine ch_iinc 3 _ _ (x3 + 1) (ls1 := [some (va_rf (some m)), some (.int x1), some (.int x2), some (.int (x3 + 1))]) dX3_isField_38 rfl rfl (Nat.le_of_ble_eq_true rfl) rfl (ch_goto 7 dX3_isField_41 rfl (ch_FT.wk (ch_wS (ch_wS (ch_wS (ch_wS ch_w0)))) ?_))
      obtain rfl := Option.some.inj h
      exact hk
    · refine ch_aload_n 0 (some m) dX3_isField_21 rfl (mp_gA 45 dX3_isField_22 fl_X3_97 rfl (ch_iload_n 3 _ dX3_isField_25 rfl (mp_iald dX3_isField_26 mk_45 h (fun v7 h => ?_))))
      refine ch_aload_n 0 (some m) dX3_isField_27 rfl (mp_gA 45 dX3_isField_28 fl_X3_97 rfl (ch_iload_n 2 _ dX3_isField_31 rfl (mp_iald dX3_isField_32 mk_45 h (fun v8 h => ?_))))
      refine cp_icmp_ne _ _ (tgt := 38) dX3_isField_33 rfl h (fun h => ?_) (fun h => ?_)
      · refine ch_iinc 3 _ _ (x3 + 1) (ls1 := [some (va_rf (some m)), some (.int x1), some (.int x2), some (.int (x3 + 1))]) dX3_isField_38 rfl rfl (Nat.le_of_ble_eq_true rfl) rfl (ch_goto 7 dX3_isField_41 rfl (ch_FT.wk (ch_wS (ch_wS (ch_wS (ch_wS ch_w0)))) ?_))
        obtain rfl := Option.some.inj h
        exact hk
      · obtain rfl := Option.some.inj h
        exact ch_iconst _ 1 dX3_isField_36 rfl (ch_ireturn _ dX3_isField_37 rfl rfl hk)
theorem sl_X3_isField_7 {g : State} {m : Nat} {w : ch_W} {x1 : Int32} {x2 : Int32} {σ : ch_S} {a : Int32} {res : Int32} {Q : Outcome → ch_W → Prop} (h : ch_loop (fun (s : Int32) => m_X3_isField_7 x1 x2 s σ) a = some res) (hk : (fun r => ch_eI Q (r, ch_put m w σ)) res) : ch_FT g false mX3_isField 3 7 [some (va_rf (some m)), some (.int x1), some (.int x2), some (.int a)] [] (ch_put m w σ) Q := by
  refine ch_loop_ind (fun (a : Int32) (r : Int32) => (fun r => ch_eI Q (r, ch_put m w σ)) r → ch_FT g false mX3_isField 3 7 [some (va_rf (some m)), some (.int x1), some (.int x2), some (.int a)] [] (ch_put m w σ) Q) ?_ ?_ a res h hk
  · intro a a2 b h1 ih hk
    exact s_X3_isField_7  h1 (ih hk)
  · intro a b h1 hk
    exact s_X3_isField_7  h1 hk

def m_X3_isField (x1 : Int32) (x2 : Int32) (σ : ch_S) : Option (Int32) := (ch_ma σ fX3_memberFrom x1).bind fun v1 => ch_loop (fun (s : Int32) => m_X3_isField_7 x1 x2 s σ) (v1)
theorem s_X3_isField {g : State} {m : Nat} {w : ch_W} {x1 : Int32} {x2 : Int32} {σ : ch_S} {res : Int32} {Q : Outcome → ch_W → Prop} (h : m_X3_isField x1 x2 σ = some res) (hk : (fun r => ch_eI Q (r, ch_put m w σ)) res) : ch_CT g false yX3_isField 3 [.ref m, .int x1, .int x2] (ch_put m w σ) Q := by
  unfold m_X3_isField at h
  refine ch_ctL mX3_isField (ls := [some (va_rf (some m)), some (.int x1), some (.int x2), none]) q2071 rfl (ch_lyr (r := some m) (ch_lyi (ch_lyi ch_ly0))) (Nat.le_of_ble_eq_true rfl) rfl ?_
  refine ch_aload_n 0 (some m) dX3_isField_0 rfl (mp_gA 43 dX3_isField_1 fl_X3_94 rfl (ch_iload_n 1 _ dX3_isField_4 rfl (mp_iald dX3_isField_5 mk_43 h (fun v1 h => ?_))))
  exact ch_istore_n 3 _ (ls1 := [some (va_rf (some m)), some (.int x1), some (.int x2), some (.int v1)]) dX3_isField_6 (Nat.le_of_ble_eq_true rfl) rfl (ch_FT.wk (ch_wS (ch_wS (ch_wS (ch_wS ch_w0)))) (sl_X3_isField_7  h hk))

theorem bX3_checkMembers_0 : ch_ck cX3_checkMembers 0 [3, 60, 27, 42, 180, 1, 147, 162, 0, 36, 42, 180, 0, 103, 27, 46] := ch_ckof (by decide +kernel)
theorem bX3_checkMembers_1 : ch_ck cX3_checkMembers 16 [16, 10, 161, 0, 19, 42, 180, 0, 103, 27, 42, 42, 180, 0, 103, 27] := ch_ckof (by decide +kernel)
theorem bX3_checkMembers_2 : ch_ck cX3_checkMembers 32 [46, 182, 1, 170, 79, 132, 1, 1, 167, 255, 218, 3, 60, 27, 42, 180] := ch_ckof (by decide +kernel)
theorem bX3_checkMembers_3 : ch_ck cX3_checkMembers 48 [1, 150, 162, 0, 25, 42, 180, 0, 122, 27, 42, 42, 180, 0, 122, 27] := ch_ckof (by decide +kernel)
theorem bX3_checkMembers_4 : ch_ck cX3_checkMembers 64 [46, 182, 1, 170, 79, 132, 1, 1, 167, 255, 229, 8, 60, 27, 42, 180] := ch_ckof (by decide +kernel)
theorem bX3_checkMembers_5 : ch_ck cX3_checkMembers 80 [1, 141, 162, 0, 101, 42, 180, 0, 94, 27, 46, 61, 28, 42, 180, 0] := ch_ckof (by decide +kernel)
theorem bX3_checkMembers_6 : ch_ck cX3_checkMembers 96 [94, 27, 4, 96, 46, 162, 0, 76, 42, 180, 1, 153, 156, 0, 69, 42] := ch_ckof (by decide +kernel)
theorem bX3_checkMembers_7 : ch_ck cX3_checkMembers 112 [180, 0, 103, 28, 46, 8, 159, 0, 37, 42, 180, 0, 106, 28, 51, 153] := ch_ckof (by decide +kernel)
theorem bX3_checkMembers_8 : ch_ck cX3_checkMembers 128 [0, 15, 42, 27, 28, 182, 1, 173, 153, 0, 19, 167, 0, 12, 42, 27] := ch_ckof (by decide +kernel)
theorem bX3_checkMembers_9 : ch_ck cX3_checkMembers 144 [28, 182, 1, 176, 154, 0, 7, 4, 167, 0, 4, 3, 62, 29, 154, 0] := ch_ckof (by decide +kernel)
theorem bX3_checkMembers_10 : ch_ck cX3_checkMembers 160 [13, 42, 42, 180, 0, 100, 28, 46, 182, 1, 163, 132, 2, 1, 167, 255] := ch_ckof (by decide +kernel)
theorem bX3_checkMembers_11 : ch_ck cX3_checkMembers 176 [174, 132, 1, 1, 167, 255, 153, 177] := ch_ckof (by decide +kernel)
theorem dX3_checkMembers_0 : decode cX3_checkMembers 0 = .ok (.iconst 0, 1) := dz_3 (bX3_checkMembers_0 0 _ rfl)
theorem dX3_checkMembers_1 : decode cX3_checkMembers 1 = .ok (.istore_n 1, 1) := dz_60 (bX3_checkMembers_0 1 _ rfl)
theorem dX3_checkMembers_2 : decode cX3_checkMembers 2 = .ok (.iload_n 1, 1) := dz_27 (bX3_checkMembers_0 2 _ rfl)
theorem dX3_checkMembers_3 : decode cX3_checkMembers 3 = .ok (.aload_n 0, 1) := dz_42 (bX3_checkMembers_0 3 _ rfl)
theorem dX3_checkMembers_4 : decode cX3_checkMembers 4 = .ok (.getfield 403, 3) := dz_180 (bX3_checkMembers_0 4 _ rfl) (bX3_checkMembers_0 5 _ rfl) (bX3_checkMembers_0 6 _ rfl)
theorem dX3_checkMembers_7 : decode cX3_checkMembers 7 = .ok (.if_icmp .ge 36, 3) := dz_162 (bX3_checkMembers_0 7 _ rfl) (bX3_checkMembers_0 8 _ rfl) (bX3_checkMembers_0 9 _ rfl)
theorem dX3_checkMembers_10 : decode cX3_checkMembers 10 = .ok (.aload_n 0, 1) := dz_42 (bX3_checkMembers_0 10 _ rfl)
theorem dX3_checkMembers_11 : decode cX3_checkMembers 11 = .ok (.getfield 103, 3) := dz_180 (bX3_checkMembers_0 11 _ rfl) (bX3_checkMembers_0 12 _ rfl) (bX3_checkMembers_0 13 _ rfl)
theorem dX3_checkMembers_14 : decode cX3_checkMembers 14 = .ok (.iload_n 1, 1) := dz_27 (bX3_checkMembers_0 14 _ rfl)
theorem dX3_checkMembers_15 : decode cX3_checkMembers 15 = .ok (.iaload, 1) := dz_46 (bX3_checkMembers_0 15 _ rfl)
theorem dX3_checkMembers_16 : decode cX3_checkMembers 16 = .ok (.bipush 10, 2) := dz_16 (bX3_checkMembers_1 0 _ rfl) (bX3_checkMembers_1 1 _ rfl)
theorem dX3_checkMembers_18 : decode cX3_checkMembers 18 = .ok (.if_icmp .lt 19, 3) := dz_161 (bX3_checkMembers_1 2 _ rfl) (bX3_checkMembers_1 3 _ rfl) (bX3_checkMembers_1 4 _ rfl)
theorem dX3_checkMembers_21 : decode cX3_checkMembers 21 = .ok (.aload_n 0, 1) := dz_42 (bX3_checkMembers_1 5 _ rfl)
theorem dX3_checkMembers_22 : decode cX3_checkMembers 22 = .ok (.getfield 103, 3) := dz_180 (bX3_checkMembers_1 6 _ rfl) (bX3_checkMembers_1 7 _ rfl) (bX3_checkMembers_1 8 _ rfl)
theorem dX3_checkMembers_25 : decode cX3_checkMembers 25 = .ok (.iload_n 1, 1) := dz_27 (bX3_checkMembers_1 9 _ rfl)
theorem dX3_checkMembers_26 : decode cX3_checkMembers 26 = .ok (.aload_n 0, 1) := dz_42 (bX3_checkMembers_1 10 _ rfl)
theorem dX3_checkMembers_27 : decode cX3_checkMembers 27 = .ok (.aload_n 0, 1) := dz_42 (bX3_checkMembers_1 11 _ rfl)
theorem dX3_checkMembers_28 : decode cX3_checkMembers 28 = .ok (.getfield 103, 3) := dz_180 (bX3_checkMembers_1 12 _ rfl) (bX3_checkMembers_1 13 _ rfl) (bX3_checkMembers_1 14 _ rfl)
theorem dX3_checkMembers_31 : decode cX3_checkMembers 31 = .ok (.iload_n 1, 1) := dz_27 (bX3_checkMembers_1 15 _ rfl)
theorem dX3_checkMembers_32 : decode cX3_checkMembers 32 = .ok (.iaload, 1) := dz_46 (bX3_checkMembers_2 0 _ rfl)
theorem dX3_checkMembers_33 : decode cX3_checkMembers 33 = .ok (.invokevirtual 426, 3) := dz_182 (bX3_checkMembers_2 1 _ rfl) (bX3_checkMembers_2 2 _ rfl) (bX3_checkMembers_2 3 _ rfl)
theorem dX3_checkMembers_36 : decode cX3_checkMembers 36 = .ok (.iastore, 1) := dz_79 (bX3_checkMembers_2 4 _ rfl)
theorem dX3_checkMembers_37 : decode cX3_checkMembers 37 = .ok (.iinc 1 1, 3) := dz_132 (bX3_checkMembers_2 5 _ rfl) (bX3_checkMembers_2 6 _ rfl) (bX3_checkMembers_2 7 _ rfl)
theorem dX3_checkMembers_40 : decode cX3_checkMembers 40 = .ok (.goto (-38), 3) := dz_167 (bX3_checkMembers_2 8 _ rfl) (bX3_checkMembers_2 9 _ rfl) (bX3_checkMembers_2 10 _ rfl)
theorem dX3_checkMembers_43 : decode cX3_checkMembers 43 = .ok (.iconst 0, 1) := dz_3 (bX3_checkMembers_2 11 _ rfl)
theorem dX3_checkMembers_44 : decode cX3_checkMembers 44 = .ok (.istore_n 1, 1) := dz_60 (bX3_checkMembers_2 12 _ rfl)
theorem dX3_checkMembers_45 : decode cX3_checkMembers 45 = .ok (.iload_n 1, 1) := dz_27 (bX3_checkMembers_2 13 _ rfl)
theorem dX3_checkMembers_46 : decode cX3_checkMembers 46 = .ok (.aload_n 0, 1) := dz_42 (bX3_checkMembers_2 14 _ rfl)
theorem dX3_checkMembers_47 : decode cX3_checkMembers 47 = .ok (.getfield 406, 3) := dz_180 (bX3_checkMembers_2 15 _ rfl) (bX3_checkMembers_3 0 _ rfl) (bX3_checkMembers_3 1 _ rfl)
theorem dX3_checkMembers_50 : decode cX3_checkMembers 50 = .ok (.if_icmp .ge 25, 3) := dz_162 (bX3_checkMembers_3 2 _ rfl) (bX3_checkMembers_3 3 _ rfl) (bX3_checkMembers_3 4 _ rfl)
theorem dX3_checkMembers_53 : decode cX3_checkMembers 53 = .ok (.aload_n 0, 1) := dz_42 (bX3_checkMembers_3 5 _ rfl)
theorem dX3_checkMembers_54 : decode cX3_checkMembers 54 = .ok (.getfield 122, 3) := dz_180 (bX3_checkMembers_3 6 _ rfl) (bX3_checkMembers_3 7 _ rfl) (bX3_checkMembers_3 8 _ rfl)
theorem dX3_checkMembers_57 : decode cX3_checkMembers 57 = .ok (.iload_n 1, 1) := dz_27 (bX3_checkMembers_3 9 _ rfl)
theorem dX3_checkMembers_58 : decode cX3_checkMembers 58 = .ok (.aload_n 0, 1) := dz_42 (bX3_checkMembers_3 10 _ rfl)
theorem dX3_checkMembers_59 : decode cX3_checkMembers 59 = .ok (.aload_n 0, 1) := dz_42 (bX3_checkMembers_3 11 _ rfl)
theorem dX3_checkMembers_60 : decode cX3_checkMembers 60 = .ok (.getfield 122, 3) := dz_180 (bX3_checkMembers_3 12 _ rfl) (bX3_checkMembers_3 13 _ rfl) (bX3_checkMembers_3 14 _ rfl)
theorem dX3_checkMembers_63 : decode cX3_checkMembers 63 = .ok (.iload_n 1, 1) := dz_27 (bX3_checkMembers_3 15 _ rfl)
theorem dX3_checkMembers_64 : decode cX3_checkMembers 64 = .ok (.iaload, 1) := dz_46 (bX3_checkMembers_4 0 _ rfl)
theorem dX3_checkMembers_65 : decode cX3_checkMembers 65 = .ok (.invokevirtual 426, 3) := dz_182 (bX3_checkMembers_4 1 _ rfl) (bX3_checkMembers_4 2 _ rfl) (bX3_checkMembers_4 3 _ rfl)
theorem dX3_checkMembers_68 : decode cX3_checkMembers 68 = .ok (.iastore, 1) := dz_79 (bX3_checkMembers_4 4 _ rfl)
theorem dX3_checkMembers_69 : decode cX3_checkMembers 69 = .ok (.iinc 1 1, 3) := dz_132 (bX3_checkMembers_4 5 _ rfl) (bX3_checkMembers_4 6 _ rfl) (bX3_checkMembers_4 7 _ rfl)
theorem dX3_checkMembers_72 : decode cX3_checkMembers 72 = .ok (.goto (-27), 3) := dz_167 (bX3_checkMembers_4 8 _ rfl) (bX3_checkMembers_4 9 _ rfl) (bX3_checkMembers_4 10 _ rfl)
theorem dX3_checkMembers_75 : decode cX3_checkMembers 75 = .ok (.iconst 5, 1) := dz_8 (bX3_checkMembers_4 11 _ rfl)
theorem dX3_checkMembers_76 : decode cX3_checkMembers 76 = .ok (.istore_n 1, 1) := dz_60 (bX3_checkMembers_4 12 _ rfl)
theorem dX3_checkMembers_77 : decode cX3_checkMembers 77 = .ok (.iload_n 1, 1) := dz_27 (bX3_checkMembers_4 13 _ rfl)
theorem dX3_checkMembers_78 : decode cX3_checkMembers 78 = .ok (.aload_n 0, 1) := dz_42 (bX3_checkMembers_4 14 _ rfl)
theorem dX3_checkMembers_79 : decode cX3_checkMembers 79 = .ok (.getfield 397, 3) := dz_180 (bX3_checkMembers_4 15 _ rfl) (bX3_checkMembers_5 0 _ rfl) (bX3_checkMembers_5 1 _ rfl)
theorem dX3_checkMembers_82 : decode cX3_checkMembers 82 = .ok (.if_icmp .ge 101, 3) := dz_162 (bX3_checkMembers_5 2 _ rfl) (bX3_checkMembers_5 3 _ rfl) (bX3_checkMembers_5 4 _ rfl)
theorem dX3_checkMembers_85 : decode cX3_checkMembers 85 = .ok (.aload_n 0, 1) := dz_42 (bX3_checkMembers_5 5 _ rfl)
theorem dX3_checkMembers_86 : decode cX3_checkMembers 86 = .ok (.getfield 94, 3) := dz_180 (bX3_checkMembers_5 6 _ rfl) (bX3_checkMembers_5 7 _ rfl) (bX3_checkMembers_5 8 _ rfl)
theorem dX3_checkMembers_89 : decode cX3_checkMembers 89 = .ok (.iload_n 1, 1) := dz_27 (bX3_checkMembers_5 9 _ rfl)
theorem dX3_checkMembers_90 : decode cX3_checkMembers 90 = .ok (.iaload, 1) := dz_46 (bX3_checkMembers_5 10 _ rfl)
theorem dX3_checkMembers_91 : decode cX3_checkMembers 91 = .ok (.istore_n 2, 1) := dz_61 (bX3_checkMembers_5 11 _ rfl)
theorem dX3_checkMembers_92 : decode cX3_checkMembers 92 = .ok (.iload_n 2, 1) := dz_28 (bX3_checkMembers_5 12 _ rfl)
theorem dX3_checkMembers_93 : decode cX3_checkMembers 93 = .ok (.aload_n 0, 1) := dz_42 (bX3_checkMembers_5 13 _ rfl)
theorem dX3_checkMembers_94 : decode cX3_checkMembers 94 = .ok (.getfield 94, 3) := dz_180 (bX3_checkMembers_5 14 _ rfl) (bX3_checkMembers_5 15 _ rfl) (bX3_checkMembers_6 0 _ rfl)
theorem dX3_checkMembers_97 : decode cX3_checkMembers 97 = .ok (.iload_n 1, 1) := dz_27 (bX3_checkMembers_6 1 _ rfl)
theorem dX3_checkMembers_98 : decode cX3_checkMembers 98 = .ok (.iconst 1, 1) := dz_4 (bX3_checkMembers_6 2 _ rfl)
theorem dX3_checkMembers_99 : decode cX3_checkMembers 99 = .ok (.iadd, 1) := dz_96 (bX3_checkMembers_6 3 _ rfl)
theorem dX3_checkMembers_100 : decode cX3_checkMembers 100 = .ok (.iaload, 1) := dz_46 (bX3_checkMembers_6 4 _ rfl)
theorem dX3_checkMembers_101 : decode cX3_checkMembers 101 = .ok (.if_icmp .ge 76, 3) := dz_162 (bX3_checkMembers_6 5 _ rfl) (bX3_checkMembers_6 6 _ rfl) (bX3_checkMembers_6 7 _ rfl)
theorem dX3_checkMembers_104 : decode cX3_checkMembers 104 = .ok (.aload_n 0, 1) := dz_42 (bX3_checkMembers_6 8 _ rfl)
theorem dX3_checkMembers_105 : decode cX3_checkMembers 105 = .ok (.getfield 409, 3) := dz_180 (bX3_checkMembers_6 9 _ rfl) (bX3_checkMembers_6 10 _ rfl) (bX3_checkMembers_6 11 _ rfl)
theorem dX3_checkMembers_108 : decode cX3_checkMembers 108 = .ok (.ifCond .ge 69, 3) := dz_156 (bX3_checkMembers_6 12 _ rfl) (bX3_checkMembers_6 13 _ rfl) (bX3_checkMembers_6 14 _ rfl)
theorem dX3_checkMembers_111 : decode cX3_checkMembers 111 = .ok (.aload_n 0, 1) := dz_42 (bX3_checkMembers_6 15 _ rfl)
theorem dX3_checkMembers_112 : decode cX3_checkMembers 112 = .ok (.getfield 103, 3) := dz_180 (bX3_checkMembers_7 0 _ rfl) (bX3_checkMembers_7 1 _ rfl) (bX3_checkMembers_7 2 _ rfl)
theorem dX3_checkMembers_115 : decode cX3_checkMembers 115 = .ok (.iload_n 2, 1) := dz_28 (bX3_checkMembers_7 3 _ rfl)
theorem dX3_checkMembers_116 : decode cX3_checkMembers 116 = .ok (.iaload, 1) := dz_46 (bX3_checkMembers_7 4 _ rfl)
theorem dX3_checkMembers_117 : decode cX3_checkMembers 117 = .ok (.iconst 5, 1) := dz_8 (bX3_checkMembers_7 5 _ rfl)
theorem dX3_checkMembers_118 : decode cX3_checkMembers 118 = .ok (.if_icmp .eq 37, 3) := dz_159 (bX3_checkMembers_7 6 _ rfl) (bX3_checkMembers_7 7 _ rfl) (bX3_checkMembers_7 8 _ rfl)
theorem dX3_checkMembers_121 : decode cX3_checkMembers 121 = .ok (.aload_n 0, 1) := dz_42 (bX3_checkMembers_7 9 _ rfl)
theorem dX3_checkMembers_122 : decode cX3_checkMembers 122 = .ok (.getfield 106, 3) := dz_180 (bX3_checkMembers_7 10 _ rfl) (bX3_checkMembers_7 11 _ rfl) (bX3_checkMembers_7 12 _ rfl)
theorem dX3_checkMembers_125 : decode cX3_checkMembers 125 = .ok (.iload_n 2, 1) := dz_28 (bX3_checkMembers_7 13 _ rfl)
theorem dX3_checkMembers_126 : decode cX3_checkMembers 126 = .ok (.baload, 1) := dz_51 (bX3_checkMembers_7 14 _ rfl)
theorem dX3_checkMembers_127 : decode cX3_checkMembers 127 = .ok (.ifCond .eq 15, 3) := dz_153 (bX3_checkMembers_7 15 _ rfl) (bX3_checkMembers_8 0 _ rfl) (bX3_checkMembers_8 1 _ rfl)
theorem dX3_checkMembers_130 : decode cX3_checkMembers 130 = .ok (.aload_n 0, 1) := dz_42 (bX3_checkMembers_8 2 _ rfl)
theorem dX3_checkMembers_131 : decode cX3_checkMembers 131 = .ok (.iload_n 1, 1) := dz_27 (bX3_checkMembers_8 3 _ rfl)
theorem dX3_checkMembers_132 : decode cX3_checkMembers 132 = .ok (.iload_n 2, 1) := dz_28 (bX3_checkMembers_8 4 _ rfl)
theorem dX3_checkMembers_133 : decode cX3_checkMembers 133 = .ok (.invokevirtual 429, 3) := dz_182 (bX3_checkMembers_8 5 _ rfl) (bX3_checkMembers_8 6 _ rfl) (bX3_checkMembers_8 7 _ rfl)
theorem dX3_checkMembers_136 : decode cX3_checkMembers 136 = .ok (.ifCond .eq 19, 3) := dz_153 (bX3_checkMembers_8 8 _ rfl) (bX3_checkMembers_8 9 _ rfl) (bX3_checkMembers_8 10 _ rfl)
theorem dX3_checkMembers_139 : decode cX3_checkMembers 139 = .ok (.goto 12, 3) := dz_167 (bX3_checkMembers_8 11 _ rfl) (bX3_checkMembers_8 12 _ rfl) (bX3_checkMembers_8 13 _ rfl)
theorem dX3_checkMembers_142 : decode cX3_checkMembers 142 = .ok (.aload_n 0, 1) := dz_42 (bX3_checkMembers_8 14 _ rfl)
theorem dX3_checkMembers_143 : decode cX3_checkMembers 143 = .ok (.iload_n 1, 1) := dz_27 (bX3_checkMembers_8 15 _ rfl)
theorem dX3_checkMembers_144 : decode cX3_checkMembers 144 = .ok (.iload_n 2, 1) := dz_28 (bX3_checkMembers_9 0 _ rfl)
theorem dX3_checkMembers_145 : decode cX3_checkMembers 145 = .ok (.invokevirtual 432, 3) := dz_182 (bX3_checkMembers_9 1 _ rfl) (bX3_checkMembers_9 2 _ rfl) (bX3_checkMembers_9 3 _ rfl)
theorem dX3_checkMembers_148 : decode cX3_checkMembers 148 = .ok (.ifCond .ne 7, 3) := dz_154 (bX3_checkMembers_9 4 _ rfl) (bX3_checkMembers_9 5 _ rfl) (bX3_checkMembers_9 6 _ rfl)
theorem dX3_checkMembers_151 : decode cX3_checkMembers 151 = .ok (.iconst 1, 1) := dz_4 (bX3_checkMembers_9 7 _ rfl)
theorem dX3_checkMembers_152 : decode cX3_checkMembers 152 = .ok (.goto 4, 3) := dz_167 (bX3_checkMembers_9 8 _ rfl) (bX3_checkMembers_9 9 _ rfl) (bX3_checkMembers_9 10 _ rfl)
theorem dX3_checkMembers_155 : decode cX3_checkMembers 155 = .ok (.iconst 0, 1) := dz_3 (bX3_checkMembers_9 11 _ rfl)
theorem dX3_checkMembers_156 : decode cX3_checkMembers 156 = .ok (.istore_n 3, 1) := dz_62 (bX3_checkMembers_9 12 _ rfl)
theorem dX3_checkMembers_157 : decode cX3_checkMembers 157 = .ok (.iload_n 3, 1) := dz_29 (bX3_checkMembers_9 13 _ rfl)
theorem dX3_checkMembers_158 : decode cX3_checkMembers 158 = .ok (.ifCond .ne 13, 3) := dz_154 (bX3_checkMembers_9 14 _ rfl) (bX3_checkMembers_9 15 _ rfl) (bX3_checkMembers_10 0 _ rfl)
theorem dX3_checkMembers_161 : decode cX3_checkMembers 161 = .ok (.aload_n 0, 1) := dz_42 (bX3_checkMembers_10 1 _ rfl)
theorem dX3_checkMembers_162 : decode cX3_checkMembers 162 = .ok (.aload_n 0, 1) := dz_42 (bX3_checkMembers_10 2 _ rfl)
theorem dX3_checkMembers_163 : decode cX3_checkMembers 163 = .ok (.getfield 100, 3) := dz_180 (bX3_checkMembers_10 3 _ rfl) (bX3_checkMembers_10 4 _ rfl) (bX3_checkMembers_10 5 _ rfl)
theorem dX3_checkMembers_166 : decode cX3_checkMembers 166 = .ok (.iload_n 2, 1) := dz_28 (bX3_checkMembers_10 6 _ rfl)
theorem dX3_checkMembers_167 : decode cX3_checkMembers 167 = .ok (.iaload, 1) := dz_46 (bX3_checkMembers_10 7 _ rfl)
theorem dX3_checkMembers_168 : decode cX3_checkMembers 168 = .ok (.invokevirtual 419, 3) := dz_182 (bX3_checkMembers_10 8 _ rfl) (bX3_checkMembers_10 9 _ rfl) (bX3_checkMembers_10 10 _ rfl)
theorem dX3_checkMembers_171 : decode cX3_checkMembers 171 = .ok (.iinc 2 1, 3) := dz_132 (bX3_checkMembers_10 11 _ rfl) (bX3_checkMembers_10 12 _ rfl) (bX3_checkMembers_10 13 _ rfl)
theorem dX3_checkMembers_174 : decode cX3_checkMembers 174 = .ok (.goto (-82), 3) := dz_167 (bX3_checkMembers_10 14 _ rfl) (bX3_checkMembers_10 15 _ rfl) (bX3_checkMembers_11 0 _ rfl)
theorem dX3_checkMembers_177 : decode cX3_checkMembers 177 = .ok (.iinc 1 1, 3) := dz_132 (bX3_checkMembers_11 1 _ rfl) (bX3_checkMembers_11 2 _ rfl) (bX3_checkMembers_11 3 _ rfl)
theorem dX3_checkMembers_180 : decode cX3_checkMembers 180 = .ok (.goto (-103), 3) := dz_167 (bX3_checkMembers_11 4 _ rfl) (bX3_checkMembers_11 5 _ rfl) (bX3_checkMembers_11 6 _ rfl)
theorem dX3_checkMembers_183 : decode cX3_checkMembers 183 = .ok (.return_, 1) := dz_177 (bX3_checkMembers_11 7 _ rfl)
def m_X3_checkMembers_156 (x1 : Int32) (x2 : Int32) (y0 : Int32) (σ : ch_S) : Option ((Int32 × ch_S) ⊕ ((Int32 × ch_S) ⊕ (ch_S))) := if y0 = 0 then ((ch_ma σ fX3_memberAt x2).bind fun v1 => (m_X3_isBad v1 σ).bind fun p2 => some (.inl (x2 + 1, p2))) else (some (.inl (x2 + 1, σ)))
theorem s_X3_checkMembers_156 {g : State} {m : Nat} {w : ch_W} {x1 : Int32} {x2 : Int32} {y0 : Int32} {σ : ch_S} {res : (Int32 × ch_S) ⊕ ((Int32 × ch_S) ⊕ (ch_S))} {Q : Outcome → ch_W → Prop} (h : m_X3_checkMembers_156 x1 x2 y0 σ = some res) (hk : (ch_sm (fun s => ch_FT g false mX3_checkMembers 4 92 [some (va_rf (some m)), some (.int x1), some (.int s.1), none] [] (ch_put m w s.2) Q) (ch_sm (fun s => ch_FT g false mX3_checkMembers 4 77 [some (va_rf (some m)), some (.int s.1), none, none] [] (ch_put m w s.2) Q) (fun r => ch_eV Q (ch_put m w r)))) res) : ch_FT g false mX3_checkMembers 4 156 [some (va_rf (some m)), some (.int x1), some (.int x2), none] [.int y0] (ch_put m w σ) Q := by
  unfold m_X3_checkMembers_156 at h
  refine ch_istore_n 3 _ (ls1 := [some (va_rf (some m)), some (.int x1), some (.int x2), some (.int y0)]) dX3_checkMembers_156 (Nat.le_of_ble_eq_true rfl) rfl (ch_iload_n 3 _ dX3_checkMembers_157 rfl (cp_if_ne _ (tgt := 171) dX3_checkMembers_158 rfl h (fun h => ?_) (fun h => ?_)))
  · refine ch_iinc 2 _ _ (x2 + 1) (ls1 := [some (va_rf (some m)), some (.int x1), some (.int (x2 + 1)), some (.int y0)]) dX3_checkMembers_171 rfl rfl (Nat.le_of_ble_eq_true rfl) rfl (ch_goto 92 dX3_checkMembers_174 rfl (ch_FT.wk (ch_wS (ch_wS (ch_wS (ch_wN ch_w0)))) ?_))
    obtain rfl := Option.some.inj h
    exact hk
  · refine ch_aload_n 0 (some m) dX3_checkMembers_161 rfl (ch_aload_n 0 (some m) dX3_checkMembers_162 rfl (mp_gA 46 dX3_checkMembers_163 fl_X3_100 rfl (ch_iload_n 2 _ dX3_checkMembers_166 rfl (mp_iald dX3_checkMembers_167 mk_46 h (fun v1 h => ?_)))))
    obtain ⟨p2, hp3, h⟩ := ch_bd h
    refine ch_iv yX3_isBad prog_14_method_42_code 2 none (ci := 3) (q := (RX3, TX3, 109)) (b := m) (d' := 2) (av := [.int v1]) (rest := []) rfl dX3_checkMembers_168 q2048 q2050 rfl qs141 q2051 can_X3_isBad (Nat.le_of_ble_eq_true rfl) (Nat.le_of_ble_eq_true rfl) ch_put_tag (cp_kV (w1 := ch_put m w p2) (fun Q' hq => s_X3_isBad hp3 hq) ?_)
    refine ch_iinc 2 _ _ (x2 + 1) (ls1 := [some (va_rf (some m)), some (.int x1), some (.int (x2 + 1)), some (.int y0)]) dX3_checkMembers_171 rfl rfl (Nat.le_of_ble_eq_true rfl) rfl (ch_goto 92 dX3_checkMembers_174 rfl (ch_FT.wk (ch_wS (ch_wS (ch_wS (ch_wN ch_w0)))) ?_))
    obtain rfl := Option.some.inj h
    exact hk

def m_X3_checkMembers_155 (x1 : Int32) (x2 : Int32)  (σ : ch_S) : Option ((Int32 × ch_S) ⊕ ((Int32 × ch_S) ⊕ (ch_S))) := m_X3_checkMembers_156 x1 x2 0 σ
theorem s_X3_checkMembers_155 {g : State} {m : Nat} {w : ch_W} {x1 : Int32} {x2 : Int32} {σ : ch_S} {res : (Int32 × ch_S) ⊕ ((Int32 × ch_S) ⊕ (ch_S))} {Q : Outcome → ch_W → Prop} (h : m_X3_checkMembers_155 x1 x2 σ = some res) (hk : (ch_sm (fun s => ch_FT g false mX3_checkMembers 4 92 [some (va_rf (some m)), some (.int x1), some (.int s.1), none] [] (ch_put m w s.2) Q) (ch_sm (fun s => ch_FT g false mX3_checkMembers 4 77 [some (va_rf (some m)), some (.int s.1), none, none] [] (ch_put m w s.2) Q) (fun r => ch_eV Q (ch_put m w r)))) res) : ch_FT g false mX3_checkMembers 4 155 [some (va_rf (some m)), some (.int x1), some (.int x2), none] [] (ch_put m w σ) Q := by
  unfold m_X3_checkMembers_155 at h
  exact ch_iconst _ 0 dX3_checkMembers_155 rfl (ch_FT.wk (ch_wS (ch_wS (ch_wS (ch_wN ch_w0)))) (s_X3_checkMembers_156  h hk))

def m_X3_checkMembers_151 (x1 : Int32) (x2 : Int32)  (σ : ch_S) : Option ((Int32 × ch_S) ⊕ ((Int32 × ch_S) ⊕ (ch_S))) := m_X3_checkMembers_156 x1 x2 1 σ
theorem s_X3_checkMembers_151 {g : State} {m : Nat} {w : ch_W} {x1 : Int32} {x2 : Int32} {σ : ch_S} {res : (Int32 × ch_S) ⊕ ((Int32 × ch_S) ⊕ (ch_S))} {Q : Outcome → ch_W → Prop} (h : m_X3_checkMembers_151 x1 x2 σ = some res) (hk : (ch_sm (fun s => ch_FT g false mX3_checkMembers 4 92 [some (va_rf (some m)), some (.int x1), some (.int s.1), none] [] (ch_put m w s.2) Q) (ch_sm (fun s => ch_FT g false mX3_checkMembers 4 77 [some (va_rf (some m)), some (.int s.1), none, none] [] (ch_put m w s.2) Q) (fun r => ch_eV Q (ch_put m w r)))) res) : ch_FT g false mX3_checkMembers 4 151 [some (va_rf (some m)), some (.int x1), some (.int x2), none] [] (ch_put m w σ) Q := by
  unfold m_X3_checkMembers_151 at h
  exact ch_iconst _ 1 dX3_checkMembers_151 rfl (ch_goto 156 dX3_checkMembers_152 rfl (ch_FT.wk (ch_wS (ch_wS (ch_wS (ch_wN ch_w0)))) (s_X3_checkMembers_156  h hk)))

def m_X3_checkMembers_92 (x1 : Int32) (x2 : Int32)  (σ : ch_S) : Option ((Int32 × ch_S) ⊕ ((Int32 × ch_S) ⊕ (ch_S))) := (ch_ma σ fX3_memberFrom (x1 + 1)).bind fun v1 => if x2 < v1 then (if (σ.1 fX3_bad) < 0 then ((ch_ma σ fX3_memberType x2).bind fun v2 => if v2 = 5 then (m_X3_checkMembers_155 x1 x2 σ) else ((ch_ma σ fX3_isMethod x2).bind fun v3 => if v3 = 0 then ((m_X3_isField x1 x2 σ).bind fun v4 => if v4 = 0 then (m_X3_checkMembers_151 x1 x2 σ) else (m_X3_checkMembers_155 x1 x2 σ)) else ((m_X3_isRightMethod x1 x2 σ).bind fun v6 => if v6 = 0 then (m_X3_checkMembers_155 x1 x2 σ) else (m_X3_checkMembers_151 x1 x2 σ)))) else (some (.inr (.inl (x1 + 1, σ))))) else (some (.inr (.inl (x1 + 1, σ))))
theorem s_X3_checkMembers_92 {g : State} {m : Nat} {w : ch_W} {x1 : Int32} {x2 : Int32} {σ : ch_S} {res : (Int32 × ch_S) ⊕ ((Int32 × ch_S) ⊕ (ch_S))} {Q : Outcome → ch_W → Prop} (h : m_X3_checkMembers_92 x1 x2 σ = some res) (hk : (ch_sm (fun s => ch_FT g false mX3_checkMembers 4 92 [some (va_rf (some m)), some (.int x1), some (.int s.1), none] [] (ch_put m w s.2) Q) (ch_sm (fun s => ch_FT g false mX3_checkMembers 4 77 [some (va_rf (some m)), some (.int s.1), none, none] [] (ch_put m w s.2) Q) (fun r => ch_eV Q (ch_put m w r)))) res) : ch_FT g false mX3_checkMembers 4 92 [some (va_rf (some m)), some (.int x1), some (.int x2), none] [] (ch_put m w σ) Q := by
  unfold m_X3_checkMembers_92 at h
  refine ch_iload_n 2 _ dX3_checkMembers_92 rfl (ch_aload_n 0 (some m) dX3_checkMembers_93 rfl (mp_gA 43 dX3_checkMembers_94 fl_X3_94 rfl (ch_iload_n 1 _ dX3_checkMembers_97 rfl (ch_iconst _ 1 dX3_checkMembers_98 rfl (ch_iadd _ _ dX3_checkMembers_99 (mp_iald dX3_checkMembers_100 mk_43 h (fun v1 h => ?_)))))))
  refine cp_icmp_ge _ _ (tgt := 177) dX3_checkMembers_101 rfl h (fun h => ?_) (fun h => ?_)
  · refine ch_iinc 1 _ _ (x1 + 1) (ls1 := [some (va_rf (some m)), some (.int (x1 + 1)), some (.int x2), none]) dX3_checkMembers_177 rfl rfl (Nat.le_of_ble_eq_true rfl) rfl (ch_goto 77 dX3_checkMembers_180 rfl (ch_FT.wk (ch_wS (ch_wS (ch_wN (ch_wN ch_w0)))) ?_))
    obtain rfl := Option.some.inj h
    exact hk
  · refine ch_aload_n 0 (some m) dX3_checkMembers_104 rfl (mp_gI 58 dX3_checkMembers_105 fl_X3_409 rfl (cp_if_ge _ (tgt := 177) dX3_checkMembers_108 rfl h (fun h => ?_) (fun h => ?_)))
    · refine ch_iinc 1 _ _ (x1 + 1) (ls1 := [some (va_rf (some m)), some (.int (x1 + 1)), some (.int x2), none]) dX3_checkMembers_177 rfl rfl (Nat.le_of_ble_eq_true rfl) rfl (ch_goto 77 dX3_checkMembers_180 rfl (ch_FT.wk (ch_wS (ch_wS (ch_wN (ch_wN ch_w0)))) ?_))
      obtain rfl := Option.some.inj h
      exact hk
    · refine ch_aload_n 0 (some m) dX3_checkMembers_111 rfl (mp_gA 47 dX3_checkMembers_112 fl_X3_103 rfl (ch_iload_n 2 _ dX3_checkMembers_115 rfl (mp_iald dX3_checkMembers_116 mk_47 h (fun v2 h => ?_))))
      refine ch_iconst _ 5 dX3_checkMembers_117 rfl (cp_icmp_eq _ _ (tgt := 155) dX3_checkMembers_118 rfl h (fun h => ?_) (fun h => ?_))
      · exact ch_FT.wk (ch_wS (ch_wS (ch_wS (ch_wN ch_w0)))) (s_X3_checkMembers_155  h hk)
      · refine ch_aload_n 0 (some m) dX3_checkMembers_121 rfl (mp_gA 48 dX3_checkMembers_122 fl_X3_106 rfl (ch_iload_n 2 _ dX3_checkMembers_125 rfl (mp_zald dX3_checkMembers_126 mk_48 h (fun v3 h => ?_))))
        refine cp_if_eq _ (tgt := 142) dX3_checkMembers_127 rfl h (fun h => ?_) (fun h => ?_)
        · obtain ⟨v4, hp5, h⟩ := ch_bd h
          refine ch_aload_n 0 (some m) dX3_checkMembers_142 rfl (ch_iload_n 1 _ dX3_checkMembers_143 rfl (ch_iload_n 2 _ dX3_checkMembers_144 rfl (ch_iv yX3_isField prog_14_method_49_code 4 (some .boolean) (ci := 3) (q := (RX3, TX3, 109)) (b := m) (d' := 3) (av := [.int x1, .int x2]) (rest := []) rfl dX3_checkMembers_145 q2068 q2070 rfl qs146 q2071 can_X3_isField (Nat.le_of_ble_eq_true rfl) (Nat.le_of_ble_eq_true rfl) ch_put_tag (cp_kI (v := v4) (w1 := ch_put m w σ) (fun Q' hq => s_X3_isField hp5 hq) ?_))))
          refine cp_if_ne _ (tgt := 155) dX3_checkMembers_148 rfl h (fun h => ?_) (fun h => ?_)
          · exact ch_FT.wk (ch_wS (ch_wS (ch_wS (ch_wN ch_w0)))) (s_X3_checkMembers_155  h hk)
          · exact ch_FT.wk (ch_wS (ch_wS (ch_wS (ch_wN ch_w0)))) (s_X3_checkMembers_151  h hk)
        · obtain ⟨v6, hp7, h⟩ := ch_bd h
          refine ch_aload_n 0 (some m) dX3_checkMembers_130 rfl (ch_iload_n 1 _ dX3_checkMembers_131 rfl (ch_iload_n 2 _ dX3_checkMembers_132 rfl (ch_iv yX3_isRightMethod prog_14_method_50_code 7 (some .boolean) (ci := 3) (q := (RX3, TX3, 109)) (b := m) (d' := 3) (av := [.int x1, .int x2]) (rest := []) rfl dX3_checkMembers_133 q2060 q2062 rfl qs144 q2063 can_X3_isRightMethod (Nat.le_of_ble_eq_true rfl) (Nat.le_of_ble_eq_true rfl) ch_put_tag (cp_kI (v := v6) (w1 := ch_put m w σ) (fun Q' hq => s_X3_isRightMethod hp7 hq) ?_))))
          refine cp_if_eq _ (tgt := 155) dX3_checkMembers_136 rfl h (fun h => ?_) (fun h => ?_)
          · exact ch_FT.wk (ch_wS (ch_wS (ch_wS (ch_wN ch_w0)))) (s_X3_checkMembers_155  h hk)
          · exact ch_goto 151 dX3_checkMembers_139 rfl (ch_FT.wk (ch_wS (ch_wS (ch_wS (ch_wN ch_w0)))) (s_X3_checkMembers_151  h hk))
theorem sl_X3_checkMembers_92 {g : State} {m : Nat} {w : ch_W} {x1 : Int32} {a : Int32 × ch_S} {res : (Int32 × ch_S) ⊕ (ch_S)} {Q : Outcome → ch_W → Prop} (h : ch_loop (fun (s : Int32 × ch_S) => m_X3_checkMembers_92 x1 s.1 s.2) a = some res) (hk : (ch_sm (fun s => ch_FT g false mX3_checkMembers 4 77 [some (va_rf (some m)), some (.int s.1), none, none] [] (ch_put m w s.2) Q) (fun r => ch_eV Q (ch_put m w r))) res) : ch_FT g false mX3_checkMembers 4 92 [some (va_rf (some m)), some (.int x1), some (.int a.1), none] [] (ch_put m w a.2) Q := by
  refine ch_loop_ind (fun (a : Int32 × ch_S) (r : (Int32 × ch_S) ⊕ (ch_S)) => (ch_sm (fun s => ch_FT g false mX3_checkMembers 4 77 [some (va_rf (some m)), some (.int s.1), none, none] [] (ch_put m w s.2) Q) (fun r => ch_eV Q (ch_put m w r))) r → ch_FT g false mX3_checkMembers 4 92 [some (va_rf (some m)), some (.int x1), some (.int a.1), none] [] (ch_put m w a.2) Q) ?_ ?_ a res h hk
  · intro a a2 b h1 ih hk
    exact s_X3_checkMembers_92  h1 (ih hk)
  · intro a b h1 hk
    exact s_X3_checkMembers_92  h1 hk

def m_X3_checkMembers_77 (x1 : Int32)  (σ : ch_S) : Option ((Int32 × ch_S) ⊕ (ch_S)) := if x1 < (σ.1 fX3_classes) then ((ch_ma σ fX3_memberFrom x1).bind fun v1 => ch_loop (fun (s : Int32 × ch_S) => m_X3_checkMembers_92 x1 s.1 s.2) (v1, σ)) else (some (.inr (σ)))
theorem s_X3_checkMembers_77 {g : State} {m : Nat} {w : ch_W} {x1 : Int32} {σ : ch_S} {res : (Int32 × ch_S) ⊕ (ch_S)} {Q : Outcome → ch_W → Prop} (h : m_X3_checkMembers_77 x1 σ = some res) (hk : (ch_sm (fun s => ch_FT g false mX3_checkMembers 4 77 [some (va_rf (some m)), some (.int s.1), none, none] [] (ch_put m w s.2) Q) (fun r => ch_eV Q (ch_put m w r))) res) : ch_FT g false mX3_checkMembers 4 77 [some (va_rf (some m)), some (.int x1), none, none] [] (ch_put m w σ) Q := by
  unfold m_X3_checkMembers_77 at h
  refine ch_iload_n 1 _ dX3_checkMembers_77 rfl (ch_aload_n 0 (some m) dX3_checkMembers_78 rfl (mp_gI 37 dX3_checkMembers_79 fl_X3_397 rfl (cp_icmp_ge _ _ (tgt := 183) dX3_checkMembers_82 rfl h (fun h => ?_) (fun h => ?_))))
  · obtain rfl := Option.some.inj h
    exact ch_return dX3_checkMembers_183 rfl hk
  · refine ch_aload_n 0 (some m) dX3_checkMembers_85 rfl (mp_gA 43 dX3_checkMembers_86 fl_X3_94 rfl (ch_iload_n 1 _ dX3_checkMembers_89 rfl (mp_iald dX3_checkMembers_90 mk_43 h (fun v1 h => ?_))))
    exact ch_istore_n 2 _ (ls1 := [some (va_rf (some m)), some (.int x1), some (.int v1), none]) dX3_checkMembers_91 (Nat.le_of_ble_eq_true rfl) rfl (ch_FT.wk (ch_wS (ch_wS (ch_wS (ch_wN ch_w0)))) (sl_X3_checkMembers_92  h hk))
theorem sl_X3_checkMembers_77 {g : State} {m : Nat} {w : ch_W} {a : Int32 × ch_S} {res : ch_S} {Q : Outcome → ch_W → Prop} (h : ch_loop (fun (s : Int32 × ch_S) => m_X3_checkMembers_77 s.1 s.2) a = some res) (hk : (fun r => ch_eV Q (ch_put m w r)) res) : ch_FT g false mX3_checkMembers 4 77 [some (va_rf (some m)), some (.int a.1), none, none] [] (ch_put m w a.2) Q := by
  refine ch_loop_ind (fun (a : Int32 × ch_S) (r : ch_S) => (fun r => ch_eV Q (ch_put m w r)) r → ch_FT g false mX3_checkMembers 4 77 [some (va_rf (some m)), some (.int a.1), none, none] [] (ch_put m w a.2) Q) ?_ ?_ a res h hk
  · intro a a2 b h1 ih hk
    exact s_X3_checkMembers_77  h1 (ih hk)
  · intro a b h1 hk
    exact s_X3_checkMembers_77  h1 hk

def m_X3_checkMembers_45 (x1 : Int32)  (σ : ch_S) : Option ((Int32 × ch_S) ⊕ (ch_S)) := if x1 < (σ.1 fX3_parameters) then ((ch_ma σ fX3_parameterType x1).bind fun v1 => (m_X3_meant v1 σ).bind fun v2 => (ch_mw σ fX3_parameterType x1 v2).bind fun σ4 => some (.inl (x1 + 1, σ4))) else ((ch_loop (fun (s : Int32 × ch_S) => m_X3_checkMembers_77 s.1 s.2) (5, σ)).bind fun r => some (.inr (r)))
theorem s_X3_checkMembers_45 {g : State} {m : Nat} {w : ch_W} {x1 : Int32} {σ : ch_S} {res : (Int32 × ch_S) ⊕ (ch_S)} {Q : Outcome → ch_W → Prop} (h : m_X3_checkMembers_45 x1 σ = some res) (hk : (ch_sm (fun s => ch_FT g false mX3_checkMembers 4 45 [some (va_rf (some m)), some (.int s.1), none, none] [] (ch_put m w s.2) Q) (fun r => ch_eV Q (ch_put m w r))) res) : ch_FT g false mX3_checkMembers 4 45 [some (va_rf (some m)), some (.int x1), none, none] [] (ch_put m w σ) Q := by
  unfold m_X3_checkMembers_45 at h
  refine ch_iload_n 1 _ dX3_checkMembers_45 rfl (ch_aload_n 0 (some m) dX3_checkMembers_46 rfl (mp_gI 53 dX3_checkMembers_47 fl_X3_406 rfl (cp_icmp_ge _ _ (tgt := 75) dX3_checkMembers_50 rfl h (fun h => ?_) (fun h => ?_))))
  · obtain ⟨r, hr, h⟩ := ch_bd h
    obtain rfl := Option.some.inj h
    exact ch_iconst _ 5 dX3_checkMembers_75 rfl (ch_istore_n 1 _ (ls1 := [some (va_rf (some m)), some (.int 5), none, none]) dX3_checkMembers_76 (Nat.le_of_ble_eq_true rfl) rfl (ch_FT.wk (ch_wS (ch_wS (ch_wN (ch_wN ch_w0)))) (sl_X3_checkMembers_77  hr hk)))
  · refine ch_aload_n 0 (some m) dX3_checkMembers_53 rfl (mp_gA 54 dX3_checkMembers_54 fl_X3_122 rfl (ch_iload_n 1 _ dX3_checkMembers_57 rfl (ch_aload_n 0 (some m) dX3_checkMembers_58 rfl (ch_aload_n 0 (some m) dX3_checkMembers_59 rfl (mp_gA 54 dX3_checkMembers_60 fl_X3_122 rfl (ch_iload_n 1 _ dX3_checkMembers_63 rfl (mp_iald dX3_checkMembers_64 mk_54 h (fun v1 h => ?_))))))))
    obtain ⟨v2, hp3, h⟩ := ch_bd h
    refine ch_iv yX3_meant prog_14_method_44_code 3 (some .int) (ci := 3) (q := (RX3, TX3, 109)) (b := m) (d' := 3) (av := [.int v1]) (rest := [.int x1, va_rf (ch_mr m fX3_parameterType)]) rfl dX3_checkMembers_65 q2056 q2058 rfl qs143 q2059 can_X3_meant (Nat.le_of_ble_eq_true rfl) (ch_hw (Nat.le_of_ble_eq_true rfl)) ch_put_tag (cp_kI (v := v2) (w1 := ch_put m w σ) (fun Q' hq => s_X3_meant hp3 hq) ?_)
    refine mp_iast dX3_checkMembers_68 mk_54 rfl h (fun σ4 h => ?_)
    refine ch_iinc 1 _ _ (x1 + 1) (ls1 := [some (va_rf (some m)), some (.int (x1 + 1)), none, none]) dX3_checkMembers_69 rfl rfl (Nat.le_of_ble_eq_true rfl) rfl (ch_goto 45 dX3_checkMembers_72 rfl (ch_FT.wk (ch_wS (ch_wS (ch_wN (ch_wN ch_w0)))) ?_))
    obtain rfl := Option.some.inj h
    exact hk
theorem sl_X3_checkMembers_45 {g : State} {m : Nat} {w : ch_W} {a : Int32 × ch_S} {res : ch_S} {Q : Outcome → ch_W → Prop} (h : ch_loop (fun (s : Int32 × ch_S) => m_X3_checkMembers_45 s.1 s.2) a = some res) (hk : (fun r => ch_eV Q (ch_put m w r)) res) : ch_FT g false mX3_checkMembers 4 45 [some (va_rf (some m)), some (.int a.1), none, none] [] (ch_put m w a.2) Q := by
  refine ch_loop_ind (fun (a : Int32 × ch_S) (r : ch_S) => (fun r => ch_eV Q (ch_put m w r)) r → ch_FT g false mX3_checkMembers 4 45 [some (va_rf (some m)), some (.int a.1), none, none] [] (ch_put m w a.2) Q) ?_ ?_ a res h hk
  · intro a a2 b h1 ih hk
    exact s_X3_checkMembers_45  h1 (ih hk)
  · intro a b h1 hk
    exact s_X3_checkMembers_45  h1 hk

def m_X3_checkMembers_2 (x1 : Int32)  (σ : ch_S) : Option ((Int32 × ch_S) ⊕ (ch_S)) := if x1 < (σ.1 fX3_members) then ((ch_ma σ fX3_memberType x1).bind fun v1 => if v1 < 10 then (some (.inl (x1 + 1, σ))) else ((ch_ma σ fX3_memberType x1).bind fun v2 => (m_X3_meant v2 σ).bind fun v3 => (ch_mw σ fX3_memberType x1 v3).bind fun σ5 => some (.inl (x1 + 1, σ5)))) else ((ch_loop (fun (s : Int32 × ch_S) => m_X3_checkMembers_45 s.1 s.2) (0, σ)).bind fun r => some (.inr (r)))
theorem s_X3_checkMembers_2 {g : State} {m : Nat} {w : ch_W} {x1 : Int32} {σ : ch_S} {res : (Int32 × ch_S) ⊕ (ch_S)} {Q : Outcome → ch_W → Prop} (h : m_X3_checkMembers_2 x1 σ = some res) (hk : (ch_sm (fun s => ch_FT g false mX3_checkMembers 4 2 [some (va_rf (some m)), some (.int s.1), none, none] [] (ch_put m w s.2) Q) (fun r => ch_eV Q (ch_put m w r))) res) : ch_FT g false mX3_checkMembers 4 2 [some (va_rf (some m)), some (.int x1), none, none] [] (ch_put m w σ) Q := by
  unfold m_X3_checkMembers_2 at h
  refine ch_iload_n 1 _ dX3_checkMembers_2 rfl (ch_aload_n 0 (some m) dX3_checkMembers_3 rfl (mp_gI 44 dX3_checkMembers_4 fl_X3_403 rfl (cp_icmp_ge _ _ (tgt := 43) dX3_checkMembers_7 rfl h (fun h => ?_) (fun h => ?_))))
  · obtain ⟨r, hr, h⟩ := ch_bd h
    obtain rfl := Option.some.inj h
    exact ch_iconst _ 0 dX3_checkMembers_43 rfl (ch_istore_n 1 _ (ls1 := [some (va_rf (some m)), some (.int 0), none, none]) dX3_checkMembers_44 (Nat.le_of_ble_eq_true rfl) rfl (ch_FT.wk (ch_wS (ch_wS (ch_wN (ch_wN ch_w0)))) (sl_X3_checkMembers_45  hr hk)))
  · refine ch_aload_n 0 (some m) dX3_checkMembers_10 rfl (mp_gA 47 dX3_checkMembers_11 fl_X3_103 rfl (ch_iload_n 1 _ dX3_checkMembers_14 rfl (mp_iald dX3_checkMembers_15 mk_47 h (fun v1 h => ?_))))
    refine ch_bipush _ 10 dX3_checkMembers_16 rfl (cp_icmp_lt _ _ (tgt := 37) dX3_checkMembers_18 rfl h (fun h => ?_) (fun h => ?_))
    · refine ch_iinc 1 _ _ (x1 + 1) (ls1 := [some (va_rf (some m)), some (.int (x1 + 1)), none, none]) dX3_checkMembers_37 rfl rfl (Nat.le_of_ble_eq_true rfl) rfl (ch_goto 2 dX3_checkMembers_40 rfl (ch_FT.wk (ch_wS (ch_wS (ch_wN (ch_wN ch_w0)))) ?_))
      obtain rfl := Option.some.inj h
      exact hk
    · refine ch_aload_n 0 (some m) dX3_checkMembers_21 rfl (mp_gA 47 dX3_checkMembers_22 fl_X3_103 rfl (ch_iload_n 1 _ dX3_checkMembers_25 rfl (ch_aload_n 0 (some m) dX3_checkMembers_26 rfl (ch_aload_n 0 (some m) dX3_checkMembers_27 rfl (mp_gA 47 dX3_checkMembers_28 fl_X3_103 rfl (ch_iload_n 1 _ dX3_checkMembers_31 rfl (mp_iald dX3_checkMembers_32 mk_47 h (fun v2 h => ?_))))))))
      obtain ⟨v3, hp4, h⟩ := ch_bd h
      refine ch_iv yX3_meant prog_14_method_44_code 3 (some .int) (ci := 3) (q := (RX3, TX3, 109)) (b := m) (d' := 3) (av := [.int v2]) (rest := [.int x1, va_rf (ch_mr m fX3_memberType)]) rfl dX3_checkMembers_33 q2056 q2058 rfl qs143 q2059 can_X3_meant (Nat.le_of_ble_eq_true rfl) (ch_hw (Nat.le_of_ble_eq_true rfl)) ch_put_tag (cp_kI (v := v3) (w1 := ch_put m w σ) (fun Q' hq => s_X3_meant hp4 hq) ?_)
      refine mp_iast dX3_checkMembers_36 mk_47 rfl h (fun σ5 h => ?_)
      refine ch_iinc 1 _ _ (x1 + 1) (ls1 := [some (va_rf (some m)), some (.int (x1 + 1)), none, none]) dX3_checkMembers_37 rfl rfl (Nat.le_of_ble_eq_true rfl) rfl (ch_goto 2 dX3_checkMembers_40 rfl (ch_FT.wk (ch_wS (ch_wS (ch_wN (ch_wN ch_w0)))) ?_))
      obtain rfl := Option.some.inj h
      exact hk
theorem sl_X3_checkMembers_2 {g : State} {m : Nat} {w : ch_W} {a : Int32 × ch_S} {res : ch_S} {Q : Outcome → ch_W → Prop} (h : ch_loop (fun (s : Int32 × ch_S) => m_X3_checkMembers_2 s.1 s.2) a = some res) (hk : (fun r => ch_eV Q (ch_put m w r)) res) : ch_FT g false mX3_checkMembers 4 2 [some (va_rf (some m)), some (.int a.1), none, none] [] (ch_put m w a.2) Q := by
  refine ch_loop_ind (fun (a : Int32 × ch_S) (r : ch_S) => (fun r => ch_eV Q (ch_put m w r)) r → ch_FT g false mX3_checkMembers 4 2 [some (va_rf (some m)), some (.int a.1), none, none] [] (ch_put m w a.2) Q) ?_ ?_ a res h hk
  · intro a a2 b h1 ih hk
    exact s_X3_checkMembers_2  h1 (ih hk)
  · intro a b h1 hk
    exact s_X3_checkMembers_2  h1 hk

def m_X3_checkMembers  (σ : ch_S) : Option (ch_S) := ch_loop (fun (s : Int32 × ch_S) => m_X3_checkMembers_2 s.1 s.2) (0, σ)
theorem s_X3_checkMembers {g : State} {m : Nat} {w : ch_W} {σ : ch_S} {res : ch_S} {Q : Outcome → ch_W → Prop} (h : m_X3_checkMembers  σ = some res) (hk : (fun r => ch_eV Q (ch_put m w r)) res) : ch_CT g false yX3_checkMembers 4 [.ref m] (ch_put m w σ) Q := by
  unfold m_X3_checkMembers at h
  refine ch_ctL mX3_checkMembers (ls := [some (va_rf (some m)), none, none, none]) q2055 rfl (ch_lyr (r := some m) ch_ly0) (Nat.le_of_ble_eq_true rfl) rfl ?_
  exact ch_iconst _ 0 dX3_checkMembers_0 rfl (ch_istore_n 1 _ (ls1 := [some (va_rf (some m)), some (.int 0), none, none]) dX3_checkMembers_1 (Nat.le_of_ble_eq_true rfl) rfl (ch_FT.wk (ch_wS (ch_wS (ch_wN (ch_wN ch_w0)))) (sl_X3_checkMembers_2  h hk)))

theorem bX3_setSlots_0 : ch_ck cX3_setSlots 0 [42, 180, 0, 91, 27, 46, 155, 0, 10, 42, 180, 0, 91, 27, 46, 172] := ch_ckof (by decide +kernel)
theorem bX3_setSlots_1 : ch_ck cX3_setSlots 16 [27, 61, 42, 180, 0, 88, 28, 46, 155, 0, 27, 42, 180, 0, 91, 42] := ch_ckof (by decide +kernel)
theorem bX3_setSlots_2 : ch_ck cX3_setSlots 32 [180, 0, 88, 28, 46, 46, 156, 0, 13, 42, 180, 0, 88, 28, 46, 61] := ch_ckof (by decide +kernel)
theorem bX3_setSlots_3 : ch_ck cX3_setSlots 48 [167, 255, 226, 42, 180, 0, 91, 27, 46, 156, 0, 124, 42, 180, 0, 88] := ch_ckof (by decide +kernel)
theorem bX3_setSlots_4 : ch_ck cX3_setSlots 64 [28, 46, 156, 0, 7, 3, 167, 0, 14, 42, 180, 0, 91, 42, 180, 0] := ch_ckof (by decide +kernel)
theorem bX3_setSlots_5 : ch_ck cX3_setSlots 80 [88, 28, 46, 46, 62, 42, 180, 0, 94, 28, 46, 54, 4, 21, 4, 42] := ch_ckof (by decide +kernel)
theorem bX3_setSlots_6 : ch_ck cX3_setSlots 96 [180, 0, 94, 28, 4, 96, 46, 162, 0, 33, 42, 180, 0, 106, 21, 4] := ch_ckof (by decide +kernel)
theorem bX3_setSlots_7 : ch_ck cX3_setSlots 112 [51, 153, 0, 6, 167, 0, 14, 42, 180, 0, 119, 21, 4, 29, 79, 132] := ch_ckof (by decide +kernel)
theorem bX3_setSlots_8 : ch_ck cX3_setSlots 128 [3, 1, 132, 4, 1, 167, 255, 216, 42, 180, 0, 91, 28, 29, 79, 27] := ch_ckof (by decide +kernel)
theorem bX3_setSlots_9 : ch_ck cX3_setSlots 144 [61, 42, 180, 0, 88, 28, 46, 155, 0, 27, 42, 180, 0, 91, 42, 180] := ch_ckof (by decide +kernel)
theorem bX3_setSlots_10 : ch_ck cX3_setSlots 160 [0, 88, 28, 46, 46, 156, 0, 13, 42, 180, 0, 88, 28, 46, 61, 167] := ch_ckof (by decide +kernel)
theorem bX3_setSlots_11 : ch_ck cX3_setSlots 176 [255, 226, 167, 255, 129, 42, 180, 0, 91, 27, 46, 172] := ch_ckof (by decide +kernel)
theorem dX3_setSlots_0 : decode cX3_setSlots 0 = .ok (.aload_n 0, 1) := dz_42 (bX3_setSlots_0 0 _ rfl)
theorem dX3_setSlots_1 : decode cX3_setSlots 1 = .ok (.getfield 91, 3) := dz_180 (bX3_setSlots_0 1 _ rfl) (bX3_setSlots_0 2 _ rfl) (bX3_setSlots_0 3 _ rfl)
theorem dX3_setSlots_4 : decode cX3_setSlots 4 = .ok (.iload_n 1, 1) := dz_27 (bX3_setSlots_0 4 _ rfl)
theorem dX3_setSlots_5 : decode cX3_setSlots 5 = .ok (.iaload, 1) := dz_46 (bX3_setSlots_0 5 _ rfl)
theorem dX3_setSlots_6 : decode cX3_setSlots 6 = .ok (.ifCond .lt 10, 3) := dz_155 (bX3_setSlots_0 6 _ rfl) (bX3_setSlots_0 7 _ rfl) (bX3_setSlots_0 8 _ rfl)
theorem dX3_setSlots_9 : decode cX3_setSlots 9 = .ok (.aload_n 0, 1) := dz_42 (bX3_setSlots_0 9 _ rfl)
theorem dX3_setSlots_10 : decode cX3_setSlots 10 = .ok (.getfield 91, 3) := dz_180 (bX3_setSlots_0 10 _ rfl) (bX3_setSlots_0 11 _ rfl) (bX3_setSlots_0 12 _ rfl)
theorem dX3_setSlots_13 : decode cX3_setSlots 13 = .ok (.iload_n 1, 1) := dz_27 (bX3_setSlots_0 13 _ rfl)
theorem dX3_setSlots_14 : decode cX3_setSlots 14 = .ok (.iaload, 1) := dz_46 (bX3_setSlots_0 14 _ rfl)
theorem dX3_setSlots_15 : decode cX3_setSlots 15 = .ok (.ireturn, 1) := dz_172 (bX3_setSlots_0 15 _ rfl)
theorem dX3_setSlots_16 : decode cX3_setSlots 16 = .ok (.iload_n 1, 1) := dz_27 (bX3_setSlots_1 0 _ rfl)
theorem dX3_setSlots_17 : decode cX3_setSlots 17 = .ok (.istore_n 2, 1) := dz_61 (bX3_setSlots_1 1 _ rfl)
theorem dX3_setSlots_18 : decode cX3_setSlots 18 = .ok (.aload_n 0, 1) := dz_42 (bX3_setSlots_1 2 _ rfl)
theorem dX3_setSlots_19 : decode cX3_setSlots 19 = .ok (.getfield 88, 3) := dz_180 (bX3_setSlots_1 3 _ rfl) (bX3_setSlots_1 4 _ rfl) (bX3_setSlots_1 5 _ rfl)
theorem dX3_setSlots_22 : decode cX3_setSlots 22 = .ok (.iload_n 2, 1) := dz_28 (bX3_setSlots_1 6 _ rfl)
theorem dX3_setSlots_23 : decode cX3_setSlots 23 = .ok (.iaload, 1) := dz_46 (bX3_setSlots_1 7 _ rfl)
theorem dX3_setSlots_24 : decode cX3_setSlots 24 = .ok (.ifCond .lt 27, 3) := dz_155 (bX3_setSlots_1 8 _ rfl) (bX3_setSlots_1 9 _ rfl) (bX3_setSlots_1 10 _ rfl)
theorem dX3_setSlots_27 : decode cX3_setSlots 27 = .ok (.aload_n 0, 1) := dz_42 (bX3_setSlots_1 11 _ rfl)
theorem dX3_setSlots_28 : decode cX3_setSlots 28 = .ok (.getfield 91, 3) := dz_180 (bX3_setSlots_1 12 _ rfl) (bX3_setSlots_1 13 _ rfl) (bX3_setSlots_1 14 _ rfl)
theorem dX3_setSlots_31 : decode cX3_setSlots 31 = .ok (.aload_n 0, 1) := dz_42 (bX3_setSlots_1 15 _ rfl)
theorem dX3_setSlots_32 : decode cX3_setSlots 32 = .ok (.getfield 88, 3) := dz_180 (bX3_setSlots_2 0 _ rfl) (bX3_setSlots_2 1 _ rfl) (bX3_setSlots_2 2 _ rfl)
theorem dX3_setSlots_35 : decode cX3_setSlots 35 = .ok (.iload_n 2, 1) := dz_28 (bX3_setSlots_2 3 _ rfl)
theorem dX3_setSlots_36 : decode cX3_setSlots 36 = .ok (.iaload, 1) := dz_46 (bX3_setSlots_2 4 _ rfl)
theorem dX3_setSlots_37 : decode cX3_setSlots 37 = .ok (.iaload, 1) := dz_46 (bX3_setSlots_2 5 _ rfl)
theorem dX3_setSlots_38 : decode cX3_setSlots 38 = .ok (.ifCond .ge 13, 3) := dz_156 (bX3_setSlots_2 6 _ rfl) (bX3_setSlots_2 7 _ rfl) (bX3_setSlots_2 8 _ rfl)
theorem dX3_setSlots_41 : decode cX3_setSlots 41 = .ok (.aload_n 0, 1) := dz_42 (bX3_setSlots_2 9 _ rfl)
theorem dX3_setSlots_42 : decode cX3_setSlots 42 = .ok (.getfield 88, 3) := dz_180 (bX3_setSlots_2 10 _ rfl) (bX3_setSlots_2 11 _ rfl) (bX3_setSlots_2 12 _ rfl)
theorem dX3_setSlots_45 : decode cX3_setSlots 45 = .ok (.iload_n 2, 1) := dz_28 (bX3_setSlots_2 13 _ rfl)
theorem dX3_setSlots_46 : decode cX3_setSlots 46 = .ok (.iaload, 1) := dz_46 (bX3_setSlots_2 14 _ rfl)
theorem dX3_setSlots_47 : decode cX3_setSlots 47 = .ok (.istore_n 2, 1) := dz_61 (bX3_setSlots_2 15 _ rfl)
theorem dX3_setSlots_48 : decode cX3_setSlots 48 = .ok (.goto (-30), 3) := dz_167 (bX3_setSlots_3 0 _ rfl) (bX3_setSlots_3 1 _ rfl) (bX3_setSlots_3 2 _ rfl)
theorem dX3_setSlots_51 : decode cX3_setSlots 51 = .ok (.aload_n 0, 1) := dz_42 (bX3_setSlots_3 3 _ rfl)
theorem dX3_setSlots_52 : decode cX3_setSlots 52 = .ok (.getfield 91, 3) := dz_180 (bX3_setSlots_3 4 _ rfl) (bX3_setSlots_3 5 _ rfl) (bX3_setSlots_3 6 _ rfl)
theorem dX3_setSlots_55 : decode cX3_setSlots 55 = .ok (.iload_n 1, 1) := dz_27 (bX3_setSlots_3 7 _ rfl)
theorem dX3_setSlots_56 : decode cX3_setSlots 56 = .ok (.iaload, 1) := dz_46 (bX3_setSlots_3 8 _ rfl)
theorem dX3_setSlots_57 : decode cX3_setSlots 57 = .ok (.ifCond .ge 124, 3) := dz_156 (bX3_setSlots_3 9 _ rfl) (bX3_setSlots_3 10 _ rfl) (bX3_setSlots_3 11 _ rfl)
theorem dX3_setSlots_60 : decode cX3_setSlots 60 = .ok (.aload_n 0, 1) := dz_42 (bX3_setSlots_3 12 _ rfl)
theorem dX3_setSlots_61 : decode cX3_setSlots 61 = .ok (.getfield 88, 3) := dz_180 (bX3_setSlots_3 13 _ rfl) (bX3_setSlots_3 14 _ rfl) (bX3_setSlots_3 15 _ rfl)
theorem dX3_setSlots_64 : decode cX3_setSlots 64 = .ok (.iload_n 2, 1) := dz_28 (bX3_setSlots_4 0 _ rfl)
theorem dX3_setSlots_65 : decode cX3_setSlots 65 = .ok (.iaload, 1) := dz_46 (bX3_setSlots_4 1 _ rfl)
theorem dX3_setSlots_66 : decode cX3_setSlots 66 = .ok (.ifCond .ge 7, 3) := dz_156 (bX3_setSlots_4 2 _ rfl) (bX3_setSlots_4 3 _ rfl) (bX3_setSlots_4 4 _ rfl)
theorem dX3_setSlots_69 : decode cX3_setSlots 69 = .ok (.iconst 0, 1) := dz_3 (bX3_setSlots_4 5 _ rfl)
theorem dX3_setSlots_70 : decode cX3_setSlots 70 = .ok (.goto 14, 3) := dz_167 (bX3_setSlots_4 6 _ rfl) (bX3_setSlots_4 7 _ rfl) (bX3_setSlots_4 8 _ rfl)
theorem dX3_setSlots_73 : decode cX3_setSlots 73 = .ok (.aload_n 0, 1) := dz_42 (bX3_setSlots_4 9 _ rfl)
theorem dX3_setSlots_74 : decode cX3_setSlots 74 = .ok (.getfield 91, 3) := dz_180 (bX3_setSlots_4 10 _ rfl) (bX3_setSlots_4 11 _ rfl) (bX3_setSlots_4 12 _ rfl)
theorem dX3_setSlots_77 : decode cX3_setSlots 77 = .ok (.aload_n 0, 1) := dz_42 (bX3_setSlots_4 13 _ rfl)
theorem dX3_setSlots_78 : decode cX3_setSlots 78 = .ok (.getfield 88, 3) := dz_180 (bX3_setSlots_4 14 _ rfl) (bX3_setSlots_4 15 _ rfl) (bX3_setSlots_5 0 _ rfl)
theorem dX3_setSlots_81 : decode cX3_setSlots 81 = .ok (.iload_n 2, 1) := dz_28 (bX3_setSlots_5 1 _ rfl)
theorem dX3_setSlots_82 : decode cX3_setSlots 82 = .ok (.iaload, 1) := dz_46 (bX3_setSlots_5 2 _ rfl)
theorem dX3_setSlots_83 : decode cX3_setSlots 83 = .ok (.iaload, 1) := dz_46 (bX3_setSlots_5 3 _ rfl)
theorem dX3_setSlots_84 : decode cX3_setSlots 84 = .ok (.istore_n 3, 1) := dz_62 (bX3_setSlots_5 4 _ rfl)
theorem dX3_setSlots_85 : decode cX3_setSlots 85 = .ok (.aload_n 0, 1) := dz_42 (bX3_setSlots_5 5 _ rfl)
theorem dX3_setSlots_86 : decode cX3_setSlots 86 = .ok (.getfield 94, 3) := dz_180 (bX3_setSlots_5 6 _ rfl) (bX3_setSlots_5 7 _ rfl) (bX3_setSlots_5 8 _ rfl)
theorem dX3_setSlots_89 : decode cX3_setSlots 89 = .ok (.iload_n 2, 1) := dz_28 (bX3_setSlots_5 9 _ rfl)
theorem dX3_setSlots_90 : decode cX3_setSlots 90 = .ok (.iaload, 1) := dz_46 (bX3_setSlots_5 10 _ rfl)
theorem dX3_setSlots_91 : decode cX3_setSlots 91 = .ok (.istore 4, 2) := dz_54 (bX3_setSlots_5 11 _ rfl) (bX3_setSlots_5 12 _ rfl)
theorem dX3_setSlots_93 : decode cX3_setSlots 93 = .ok (.iload 4, 2) := dz_21 (bX3_setSlots_5 13 _ rfl) (bX3_setSlots_5 14 _ rfl)
theorem dX3_setSlots_95 : decode cX3_setSlots 95 = .ok (.aload_n 0, 1) := dz_42 (bX3_setSlots_5 15 _ rfl)
theorem dX3_setSlots_96 : decode cX3_setSlots 96 = .ok (.getfield 94, 3) := dz_180 (bX3_setSlots_6 0 _ rfl) (bX3_setSlots_6 1 _ rfl) (bX3_setSlots_6 2 _ rfl)
theorem dX3_setSlots_99 : decode cX3_setSlots 99 = .ok (.iload_n 2, 1) := dz_28 (bX3_setSlots_6 3 _ rfl)
theorem dX3_setSlots_100 : decode cX3_setSlots 100 = .ok (.iconst 1, 1) := dz_4 (bX3_setSlots_6 4 _ rfl)
theorem dX3_setSlots_101 : decode cX3_setSlots 101 = .ok (.iadd, 1) := dz_96 (bX3_setSlots_6 5 _ rfl)
theorem dX3_setSlots_102 : decode cX3_setSlots 102 = .ok (.iaload, 1) := dz_46 (bX3_setSlots_6 6 _ rfl)
theorem dX3_setSlots_103 : decode cX3_setSlots 103 = .ok (.if_icmp .ge 33, 3) := dz_162 (bX3_setSlots_6 7 _ rfl) (bX3_setSlots_6 8 _ rfl) (bX3_setSlots_6 9 _ rfl)
theorem dX3_setSlots_106 : decode cX3_setSlots 106 = .ok (.aload_n 0, 1) := dz_42 (bX3_setSlots_6 10 _ rfl)
theorem dX3_setSlots_107 : decode cX3_setSlots 107 = .ok (.getfield 106, 3) := dz_180 (bX3_setSlots_6 11 _ rfl) (bX3_setSlots_6 12 _ rfl) (bX3_setSlots_6 13 _ rfl)
theorem dX3_setSlots_110 : decode cX3_setSlots 110 = .ok (.iload 4, 2) := dz_21 (bX3_setSlots_6 14 _ rfl) (bX3_setSlots_6 15 _ rfl)
theorem dX3_setSlots_112 : decode cX3_setSlots 112 = .ok (.baload, 1) := dz_51 (bX3_setSlots_7 0 _ rfl)
theorem dX3_setSlots_113 : decode cX3_setSlots 113 = .ok (.ifCond .eq 6, 3) := dz_153 (bX3_setSlots_7 1 _ rfl) (bX3_setSlots_7 2 _ rfl) (bX3_setSlots_7 3 _ rfl)
theorem dX3_setSlots_116 : decode cX3_setSlots 116 = .ok (.goto 14, 3) := dz_167 (bX3_setSlots_7 4 _ rfl) (bX3_setSlots_7 5 _ rfl) (bX3_setSlots_7 6 _ rfl)
theorem dX3_setSlots_119 : decode cX3_setSlots 119 = .ok (.aload_n 0, 1) := dz_42 (bX3_setSlots_7 7 _ rfl)
theorem dX3_setSlots_120 : decode cX3_setSlots 120 = .ok (.getfield 119, 3) := dz_180 (bX3_setSlots_7 8 _ rfl) (bX3_setSlots_7 9 _ rfl) (bX3_setSlots_7 10 _ rfl)
theorem dX3_setSlots_123 : decode cX3_setSlots 123 = .ok (.iload 4, 2) := dz_21 (bX3_setSlots_7 11 _ rfl) (bX3_setSlots_7 12 _ rfl)
theorem dX3_setSlots_125 : decode cX3_setSlots 125 = .ok (.iload_n 3, 1) := dz_29 (bX3_setSlots_7 13 _ rfl)
theorem dX3_setSlots_126 : decode cX3_setSlots 126 = .ok (.iastore, 1) := dz_79 (bX3_setSlots_7 14 _ rfl)
theorem dX3_setSlots_127 : decode cX3_setSlots 127 = .ok (.iinc 3 1, 3) := dz_132 (bX3_setSlots_7 15 _ rfl) (bX3_setSlots_8 0 _ rfl) (bX3_setSlots_8 1 _ rfl)
theorem dX3_setSlots_130 : decode cX3_setSlots 130 = .ok (.iinc 4 1, 3) := dz_132 (bX3_setSlots_8 2 _ rfl) (bX3_setSlots_8 3 _ rfl) (bX3_setSlots_8 4 _ rfl)
theorem dX3_setSlots_133 : decode cX3_setSlots 133 = .ok (.goto (-40), 3) := dz_167 (bX3_setSlots_8 5 _ rfl) (bX3_setSlots_8 6 _ rfl) (bX3_setSlots_8 7 _ rfl)
theorem dX3_setSlots_136 : decode cX3_setSlots 136 = .ok (.aload_n 0, 1) := dz_42 (bX3_setSlots_8 8 _ rfl)
theorem dX3_setSlots_137 : decode cX3_setSlots 137 = .ok (.getfield 91, 3) := dz_180 (bX3_setSlots_8 9 _ rfl) (bX3_setSlots_8 10 _ rfl) (bX3_setSlots_8 11 _ rfl)
theorem dX3_setSlots_140 : decode cX3_setSlots 140 = .ok (.iload_n 2, 1) := dz_28 (bX3_setSlots_8 12 _ rfl)
theorem dX3_setSlots_141 : decode cX3_setSlots 141 = .ok (.iload_n 3, 1) := dz_29 (bX3_setSlots_8 13 _ rfl)
theorem dX3_setSlots_142 : decode cX3_setSlots 142 = .ok (.iastore, 1) := dz_79 (bX3_setSlots_8 14 _ rfl)
theorem dX3_setSlots_143 : decode cX3_setSlots 143 = .ok (.iload_n 1, 1) := dz_27 (bX3_setSlots_8 15 _ rfl)
theorem dX3_setSlots_144 : decode cX3_setSlots 144 = .ok (.istore_n 2, 1) := dz_61 (bX3_setSlots_9 0 _ rfl)
theorem dX3_setSlots_145 : decode cX3_setSlots 145 = .ok (.aload_n 0, 1) := dz_42 (bX3_setSlots_9 1 _ rfl)
theorem dX3_setSlots_146 : decode cX3_setSlots 146 = .ok (.getfield 88, 3) := dz_180 (bX3_setSlots_9 2 _ rfl) (bX3_setSlots_9 3 _ rfl) (bX3_setSlots_9 4 _ rfl)
theorem dX3_setSlots_149 : decode cX3_setSlots 149 = .ok (.iload_n 2, 1) := dz_28 (bX3_setSlots_9 5 _ rfl)
theorem dX3_setSlots_150 : decode cX3_setSlots 150 = .ok (.iaload, 1) := dz_46 (bX3_setSlots_9 6 _ rfl)
theorem dX3_setSlots_151 : decode cX3_setSlots 151 = .ok (.ifCond .lt 27, 3) := dz_155 (bX3_setSlots_9 7 _ rfl) (bX3_setSlots_9 8 _ rfl) (bX3_setSlots_9 9 _ rfl)
theorem dX3_setSlots_154 : decode cX3_setSlots 154 = .ok (.aload_n 0, 1) := dz_42 (bX3_setSlots_9 10 _ rfl)
theorem dX3_setSlots_155 : decode cX3_setSlots 155 = .ok (.getfield 91, 3) := dz_180 (bX3_setSlots_9 11 _ rfl) (bX3_setSlots_9 12 _ rfl) (bX3_setSlots_9 13 _ rfl)
theorem dX3_setSlots_158 : decode cX3_setSlots 158 = .ok (.aload_n 0, 1) := dz_42 (bX3_setSlots_9 14 _ rfl)
theorem dX3_setSlots_159 : decode cX3_setSlots 159 = .ok (.getfield 88, 3) := dz_180 (bX3_setSlots_9 15 _ rfl) (bX3_setSlots_10 0 _ rfl) (bX3_setSlots_10 1 _ rfl)
theorem dX3_setSlots_162 : decode cX3_setSlots 162 = .ok (.iload_n 2, 1) := dz_28 (bX3_setSlots_10 2 _ rfl)
theorem dX3_setSlots_163 : decode cX3_setSlots 163 = .ok (.iaload, 1) := dz_46 (bX3_setSlots_10 3 _ rfl)
theorem dX3_setSlots_164 : decode cX3_setSlots 164 = .ok (.iaload, 1) := dz_46 (bX3_setSlots_10 4 _ rfl)
theorem dX3_setSlots_165 : decode cX3_setSlots 165 = .ok (.ifCond .ge 13, 3) := dz_156 (bX3_setSlots_10 5 _ rfl) (bX3_setSlots_10 6 _ rfl) (bX3_setSlots_10 7 _ rfl)
theorem dX3_setSlots_168 : decode cX3_setSlots 168 = .ok (.aload_n 0, 1) := dz_42 (bX3_setSlots_10 8 _ rfl)
theorem dX3_setSlots_169 : decode cX3_setSlots 169 = .ok (.getfield 88, 3) := dz_180 (bX3_setSlots_10 9 _ rfl) (bX3_setSlots_10 10 _ rfl) (bX3_setSlots_10 11 _ rfl)
theorem dX3_setSlots_172 : decode cX3_setSlots 172 = .ok (.iload_n 2, 1) := dz_28 (bX3_setSlots_10 12 _ rfl)
theorem dX3_setSlots_173 : decode cX3_setSlots 173 = .ok (.iaload, 1) := dz_46 (bX3_setSlots_10 13 _ rfl)
theorem dX3_setSlots_174 : decode cX3_setSlots 174 = .ok (.istore_n 2, 1) := dz_61 (bX3_setSlots_10 14 _ rfl)
theorem dX3_setSlots_175 : decode cX3_setSlots 175 = .ok (.goto (-30), 3) := dz_167 (bX3_setSlots_10 15 _ rfl) (bX3_setSlots_11 0 _ rfl) (bX3_setSlots_11 1 _ rfl)
theorem dX3_setSlots_178 : decode cX3_setSlots 178 = .ok (.goto (-127), 3) := dz_167 (bX3_setSlots_11 2 _ rfl) (bX3_setSlots_11 3 _ rfl) (bX3_setSlots_11 4 _ rfl)
theorem dX3_setSlots_181 : decode cX3_setSlots 181 = .ok (.aload_n 0, 1) := dz_42 (bX3_setSlots_11 5 _ rfl)
theorem dX3_setSlots_182 : decode cX3_setSlots 182 = .ok (.getfield 91, 3) := dz_180 (bX3_setSlots_11 6 _ rfl) (bX3_setSlots_11 7 _ rfl) (bX3_setSlots_11 8 _ rfl)
theorem dX3_setSlots_185 : decode cX3_setSlots 185 = .ok (.iload_n 1, 1) := dz_27 (bX3_setSlots_11 9 _ rfl)
theorem dX3_setSlots_186 : decode cX3_setSlots 186 = .ok (.iaload, 1) := dz_46 (bX3_setSlots_11 10 _ rfl)
theorem dX3_setSlots_187 : decode cX3_setSlots 187 = .ok (.ireturn, 1) := dz_172 (bX3_setSlots_11 11 _ rfl)
def m_X3_setSlots_145 (x1 : Int32) (x2 : Int32)  (σ : ch_S) : Option (Int32 ⊕ ((Int32 × ch_S) ⊕ (Int32 × ch_S))) := (ch_ma σ fX3_parent x2).bind fun v1 => if v1 < 0 then (some (.inr (.inl (x2, σ)))) else ((ch_ma σ fX3_parent x2).bind fun v2 => (ch_ma σ fX3_fieldMany v2).bind fun v3 => if v3 < 0 then ((ch_ma σ fX3_parent x2).bind fun v4 => some (.inl (v4))) else (some (.inr (.inl (x2, σ)))))
theorem s_X3_setSlots_145 {g : State} {m : Nat} {w : ch_W} {x1 : Int32} {x2 : Int32} {σ : ch_S} {res : Int32 ⊕ ((Int32 × ch_S) ⊕ (Int32 × ch_S))} {Q : Outcome → ch_W → Prop} (h : m_X3_setSlots_145 x1 x2 σ = some res) (hk : (ch_sm (fun s => ch_FT g false mX3_setSlots 2 145 [some (va_rf (some m)), some (.int x1), some (.int s), none, none] [] (ch_put m w σ) Q) (ch_sm (fun s => ch_FT g false mX3_setSlots 2 51 [some (va_rf (some m)), some (.int x1), some (.int s.1), none, none] [] (ch_put m w s.2) Q) (fun r => ch_eI Q (r.1, ch_put m w r.2)))) res) : ch_FT g false mX3_setSlots 2 145 [some (va_rf (some m)), some (.int x1), some (.int x2), none, none] [] (ch_put m w σ) Q := by
  unfold m_X3_setSlots_145 at h
  refine ch_aload_n 0 (some m) dX3_setSlots_145 rfl (mp_gA 41 dX3_setSlots_146 fl_X3_88 rfl (ch_iload_n 2 _ dX3_setSlots_149 rfl (mp_iald dX3_setSlots_150 mk_41 h (fun v1 h => ?_))))
  refine cp_if_lt _ (tgt := 178) dX3_setSlots_151 rfl h (fun h => ?_) (fun h => ?_)
  · refine ch_goto 51 dX3_setSlots_178 rfl (ch_FT.wk (ch_wS (ch_wS (ch_wS (ch_wN (ch_wN ch_w0))))) ?_)
    obtain rfl := Option.some.inj h
    exact hk
  · refine ch_aload_n 0 (some m) dX3_setSlots_154 rfl (mp_gA 42 dX3_setSlots_155 fl_X3_91 rfl (ch_aload_n 0 (some m) dX3_setSlots_158 rfl (mp_gA 41 dX3_setSlots_159 fl_X3_88 rfl (ch_iload_n 2 _ dX3_setSlots_162 rfl (mp_iald dX3_setSlots_163 mk_41 h (fun v2 h => ?_))))))
    refine mp_iald dX3_setSlots_164 mk_42 h (fun v3 h => ?_)
    refine cp_if_ge _ (tgt := 178) dX3_setSlots_165 rfl h (fun h => ?_) (fun h => ?_)
    · refine ch_goto 51 dX3_setSlots_178 rfl (ch_FT.wk (ch_wS (ch_wS (ch_wS (ch_wN (ch_wN ch_w0))))) ?_)
      obtain rfl := Option.some.inj h
      exact hk
    · refine ch_aload_n 0 (some m) dX3_setSlots_168 rfl (mp_gA 41 dX3_setSlots_169 fl_X3_88 rfl (ch_iload_n 2 _ dX3_setSlots_172 rfl (mp_iald dX3_setSlots_173 mk_41 h (fun v4 h => ?_))))
      refine ch_istore_n 2 _ (ls1 := [some (va_rf (some m)), some (.int x1), some (.int v4), none, none]) dX3_setSlots_174 (Nat.le_of_ble_eq_true rfl) rfl (ch_goto 145 dX3_setSlots_175 rfl (ch_FT.wk (ch_wS (ch_wS (ch_wS (ch_wN (ch_wN ch_w0))))) ?_))
      obtain rfl := Option.some.inj h
      exact hk
theorem sl_X3_setSlots_145 {g : State} {m : Nat} {w : ch_W} {x1 : Int32} {σ : ch_S} {a : Int32} {res : (Int32 × ch_S) ⊕ (Int32 × ch_S)} {Q : Outcome → ch_W → Prop} (h : ch_loop (fun (s : Int32) => m_X3_setSlots_145 x1 s σ) a = some res) (hk : (ch_sm (fun s => ch_FT g false mX3_setSlots 2 51 [some (va_rf (some m)), some (.int x1), some (.int s.1), none, none] [] (ch_put m w s.2) Q) (fun r => ch_eI Q (r.1, ch_put m w r.2))) res) : ch_FT g false mX3_setSlots 2 145 [some (va_rf (some m)), some (.int x1), some (.int a), none, none] [] (ch_put m w σ) Q := by
  refine ch_loop_ind (fun (a : Int32) (r : (Int32 × ch_S) ⊕ (Int32 × ch_S)) => (ch_sm (fun s => ch_FT g false mX3_setSlots 2 51 [some (va_rf (some m)), some (.int x1), some (.int s.1), none, none] [] (ch_put m w s.2) Q) (fun r => ch_eI Q (r.1, ch_put m w r.2))) r → ch_FT g false mX3_setSlots 2 145 [some (va_rf (some m)), some (.int x1), some (.int a), none, none] [] (ch_put m w σ) Q) ?_ ?_ a res h hk
  · intro a a2 b h1 ih hk
    exact s_X3_setSlots_145  h1 (ih hk)
  · intro a b h1 hk
    exact s_X3_setSlots_145  h1 hk

def m_X3_setSlots_93 (x1 : Int32) (x2 : Int32) (x3 : Int32) (x4 : Int32)  (σ : ch_S) : Option ((Int32 × Int32 × ch_S) ⊕ ((Int32 × ch_S) ⊕ (Int32 × ch_S))) := (ch_ma σ fX3_memberFrom (x2 + 1)).bind fun v1 => if x4 < v1 then ((ch_ma σ fX3_isMethod x4).bind fun v3 => if v3 = 0 then ((ch_mw σ fX3_slot x4 x3).bind fun σ4 => some (.inl (x3 + 1, x4 + 1, σ4))) else (some (.inl (x3, x4 + 1, σ)))) else ((ch_mw σ fX3_fieldMany x2 x3).bind fun σ2 => (ch_loop (fun (s : Int32) => m_X3_setSlots_145 x1 s σ2) (x1)).bind fun r => some (.inr (r)))
theorem s_X3_setSlots_93 {g : State} {m : Nat} {w : ch_W} {x1 : Int32} {x2 : Int32} {x3 : Int32} {x4 : Int32} {σ : ch_S} {res : (Int32 × Int32 × ch_S) ⊕ ((Int32 × ch_S) ⊕ (Int32 × ch_S))} {Q : Outcome → ch_W → Prop} (h : m_X3_setSlots_93 x1 x2 x3 x4 σ = some res) (hk : (ch_sm (fun s => ch_FT g false mX3_setSlots 2 93 [some (va_rf (some m)), some (.int x1), some (.int x2), some (.int s.1), some (.int s.2.1)] [] (ch_put m w s.2.2) Q) (ch_sm (fun s => ch_FT g false mX3_setSlots 2 51 [some (va_rf (some m)), some (.int x1), some (.int s.1), none, none] [] (ch_put m w s.2) Q) (fun r => ch_eI Q (r.1, ch_put m w r.2)))) res) : ch_FT g false mX3_setSlots 2 93 [some (va_rf (some m)), some (.int x1), some (.int x2), some (.int x3), some (.int x4)] [] (ch_put m w σ) Q := by
  unfold m_X3_setSlots_93 at h
  refine ch_iload 4 _ dX3_setSlots_93 rfl (ch_aload_n 0 (some m) dX3_setSlots_95 rfl (mp_gA 43 dX3_setSlots_96 fl_X3_94 rfl (ch_iload_n 2 _ dX3_setSlots_99 rfl (ch_iconst _ 1 dX3_setSlots_100 rfl (ch_iadd _ _ dX3_setSlots_101 (mp_iald dX3_setSlots_102 mk_43 h (fun v1 h => ?_)))))))
  refine cp_icmp_ge _ _ (tgt := 136) dX3_setSlots_103 rfl h (fun h => ?_) (fun h => ?_)
  · refine ch_aload_n 0 (some m) dX3_setSlots_136 rfl (mp_gA 42 dX3_setSlots_137 fl_X3_91 rfl (ch_iload_n 2 _ dX3_setSlots_140 rfl (ch_iload_n 3 _ dX3_setSlots_141 rfl (mp_iast dX3_setSlots_142 mk_42 rfl h (fun σ2 h => ?_)))))
    obtain ⟨r, hr, h⟩ := ch_bd h
    obtain rfl := Option.some.inj h
    exact ch_iload_n 1 _ dX3_setSlots_143 rfl (ch_istore_n 2 _ (ls1 := [some (va_rf (some m)), some (.int x1), some (.int x1), some (.int x3), some (.int x4)]) dX3_setSlots_144 (Nat.le_of_ble_eq_true rfl) rfl (ch_FT.wk (ch_wS (ch_wS (ch_wS (ch_wN (ch_wN ch_w0))))) (sl_X3_setSlots_145  hr hk)))
  · refine ch_aload_n 0 (some m) dX3_setSlots_106 rfl (mp_gA 48 dX3_setSlots_107 fl_X3_106 rfl (ch_iload 4 _ dX3_setSlots_110 rfl (mp_zald dX3_setSlots_112 mk_48 h (fun v3 h => ?_))))
    refine cp_if_eq _ (tgt := 119) dX3_setSlots_113 rfl h (fun h => ?_) (fun h => ?_)
    · refine ch_aload_n 0 (some m) dX3_setSlots_119 rfl (mp_gA 52 dX3_setSlots_120 fl_X3_119 rfl (ch_iload 4 _ dX3_setSlots_123 rfl (ch_iload_n 3 _ dX3_setSlots_125 rfl (mp_iast dX3_setSlots_126 mk_52 rfl h (fun σ4 h => ?_)))))
      refine ch_iinc 3 _ _ (x3 + 1) (ls1 := [some (va_rf (some m)), some (.int x1), some (.int x2), some (.int (x3 + 1)), some (.int x4)]) dX3_setSlots_127 rfl rfl (Nat.le_of_ble_eq_true rfl) rfl (ch_iinc 4 _ _ (x4 + 1) (ls1 := [some (va_rf (some m)), some (.int x1), some (.int x2), some (.int (x3 + 1)), some (.int (x4 + 1))]) dX3_setSlots_130 rfl rfl (Nat.le_of_ble_eq_true rfl) rfl (ch_goto 93 dX3_setSlots_133 rfl (ch_FT.wk (ch_wS (ch_wS (ch_wS (ch_wS (ch_wS ch_w0))))) ?_)))
      obtain rfl := Option.some.inj h
      exact hk
    · refine ch_goto 130 dX3_setSlots_116 rfl (ch_iinc 4 _ _ (x4 + 1) (ls1 := [some (va_rf (some m)), some (.int x1), some (.int x2), some (.int x3), some (.int (x4 + 1))]) dX3_setSlots_130 rfl rfl (Nat.le_of_ble_eq_true rfl) rfl (ch_goto 93 dX3_setSlots_133 rfl (ch_FT.wk (ch_wS (ch_wS (ch_wS (ch_wS (ch_wS ch_w0))))) ?_)))
      obtain rfl := Option.some.inj h
      exact hk
theorem sl_X3_setSlots_93 {g : State} {m : Nat} {w : ch_W} {x1 : Int32} {x2 : Int32} {a : Int32 × Int32 × ch_S} {res : (Int32 × ch_S) ⊕ (Int32 × ch_S)} {Q : Outcome → ch_W → Prop} (h : ch_loop (fun (s : Int32 × Int32 × ch_S) => m_X3_setSlots_93 x1 x2 s.1 s.2.1 s.2.2) a = some res) (hk : (ch_sm (fun s => ch_FT g false mX3_setSlots 2 51 [some (va_rf (some m)), some (.int x1), some (.int s.1), none, none] [] (ch_put m w s.2) Q) (fun r => ch_eI Q (r.1, ch_put m w r.2))) res) : ch_FT g false mX3_setSlots 2 93 [some (va_rf (some m)), some (.int x1), some (.int x2), some (.int a.1), some (.int a.2.1)] [] (ch_put m w a.2.2) Q := by
  refine ch_loop_ind (fun (a : Int32 × Int32 × ch_S) (r : (Int32 × ch_S) ⊕ (Int32 × ch_S)) => (ch_sm (fun s => ch_FT g false mX3_setSlots 2 51 [some (va_rf (some m)), some (.int x1), some (.int s.1), none, none] [] (ch_put m w s.2) Q) (fun r => ch_eI Q (r.1, ch_put m w r.2))) r → ch_FT g false mX3_setSlots 2 93 [some (va_rf (some m)), some (.int x1), some (.int x2), some (.int a.1), some (.int a.2.1)] [] (ch_put m w a.2.2) Q) ?_ ?_ a res h hk
  · intro a a2 b h1 ih hk
    exact s_X3_setSlots_93  h1 (ih hk)
  · intro a b h1 hk
    exact s_X3_setSlots_93  h1 hk

def m_X3_setSlots_51 (x1 : Int32) (x2 : Int32)  (σ : ch_S) : Option ((Int32 × ch_S) ⊕ (Int32 × ch_S)) := (ch_ma σ fX3_fieldMany x1).bind fun v1 => if v1 < 0 then ((ch_ma σ fX3_parent x2).bind fun v3 => if v3 < 0 then ((ch_ma σ fX3_memberFrom x2).bind fun v7 => ch_loop (fun (s : Int32 × Int32 × ch_S) => m_X3_setSlots_93 x1 x2 s.1 s.2.1 s.2.2) (0, v7, σ)) else ((ch_ma σ fX3_parent x2).bind fun v4 => (ch_ma σ fX3_fieldMany v4).bind fun v5 => (ch_ma σ fX3_memberFrom x2).bind fun v6 => ch_loop (fun (s : Int32 × Int32 × ch_S) => m_X3_setSlots_93 x1 x2 s.1 s.2.1 s.2.2) (v5, v6, σ))) else ((ch_ma σ fX3_fieldMany x1).bind fun v2 => some (.inr ((v2, σ))))
theorem s_X3_setSlots_51 {g : State} {m : Nat} {w : ch_W} {x1 : Int32} {x2 : Int32} {σ : ch_S} {res : (Int32 × ch_S) ⊕ (Int32 × ch_S)} {Q : Outcome → ch_W → Prop} (h : m_X3_setSlots_51 x1 x2 σ = some res) (hk : (ch_sm (fun s => ch_FT g false mX3_setSlots 2 51 [some (va_rf (some m)), some (.int x1), some (.int s.1), none, none] [] (ch_put m w s.2) Q) (fun r => ch_eI Q (r.1, ch_put m w r.2))) res) : ch_FT g false mX3_setSlots 2 51 [some (va_rf (some m)), some (.int x1), some (.int x2), none, none] [] (ch_put m w σ) Q := by
  unfold m_X3_setSlots_51 at h
  refine ch_aload_n 0 (some m) dX3_setSlots_51 rfl (mp_gA 42 dX3_setSlots_52 fl_X3_91 rfl (ch_iload_n 1 _ dX3_setSlots_55 rfl (mp_iald dX3_setSlots_56 mk_42 h (fun v1 h => ?_))))
  refine cp_if_ge _ (tgt := 181) dX3_setSlots_57 rfl h (fun h => ?_) (fun h => ?_)
  · refine ch_aload_n 0 (some m) dX3_setSlots_181 rfl (mp_gA 42 dX3_setSlots_182 fl_X3_91 rfl (ch_iload_n 1 _ dX3_setSlots_185 rfl (mp_iald dX3_setSlots_186 mk_42 h (fun v2 h => ?_))))
    obtain rfl := Option.some.inj h
    exact ch_ireturn _ dX3_setSlots_187 rfl rfl hk
  · refine ch_aload_n 0 (some m) dX3_setSlots_60 rfl (mp_gA 41 dX3_setSlots_61 fl_X3_88 rfl (ch_iload_n 2 _ dX3_setSlots_64 rfl (mp_iald dX3_setSlots_65 mk_41 h (fun v3 h => ?_))))
    refine cp_if_ge _ (tgt := 73) dX3_setSlots_66 rfl h (fun h => ?_) (fun h => ?_)
    · refine ch_aload_n 0 (some m) dX3_setSlots_73 rfl (mp_gA 42 dX3_setSlots_74 fl_X3_91 rfl (ch_aload_n 0 (some m) dX3_setSlots_77 rfl (mp_gA 41 dX3_setSlots_78 fl_X3_88 rfl (ch_iload_n 2 _ dX3_setSlots_81 rfl (mp_iald dX3_setSlots_82 mk_41 h (fun v4 h => ?_))))))
      refine mp_iald dX3_setSlots_83 mk_42 h (fun v5 h => ?_)
      refine ch_istore_n 3 _ (ls1 := [some (va_rf (some m)), some (.int x1), some (.int x2), some (.int v5), none]) dX3_setSlots_84 (Nat.le_of_ble_eq_true rfl) rfl (ch_aload_n 0 (some m) dX3_setSlots_85 rfl (mp_gA 43 dX3_setSlots_86 fl_X3_94 rfl (ch_iload_n 2 _ dX3_setSlots_89 rfl (mp_iald dX3_setSlots_90 mk_43 h (fun v6 h => ?_)))))
      exact ch_istore 4 _ (ls1 := [some (va_rf (some m)), some (.int x1), some (.int x2), some (.int v5), some (.int v6)]) dX3_setSlots_91 (Nat.le_of_ble_eq_true rfl) rfl (ch_FT.wk (ch_wS (ch_wS (ch_wS (ch_wS (ch_wS ch_w0))))) (sl_X3_setSlots_93  h hk))
    · refine ch_iconst _ 0 dX3_setSlots_69 rfl (ch_goto 84 dX3_setSlots_70 rfl (ch_istore_n 3 _ (ls1 := [some (va_rf (some m)), some (.int x1), some (.int x2), some (.int 0), none]) dX3_setSlots_84 (Nat.le_of_ble_eq_true rfl) rfl (ch_aload_n 0 (some m) dX3_setSlots_85 rfl (mp_gA 43 dX3_setSlots_86 fl_X3_94 rfl (ch_iload_n 2 _ dX3_setSlots_89 rfl (mp_iald dX3_setSlots_90 mk_43 h (fun v7 h => ?_)))))))
      exact ch_istore 4 _ (ls1 := [some (va_rf (some m)), some (.int x1), some (.int x2), some (.int 0), some (.int v7)]) dX3_setSlots_91 (Nat.le_of_ble_eq_true rfl) rfl (ch_FT.wk (ch_wS (ch_wS (ch_wS (ch_wS (ch_wS ch_w0))))) (sl_X3_setSlots_93  h hk))
theorem sl_X3_setSlots_51 {g : State} {m : Nat} {w : ch_W} {x1 : Int32} {a : Int32 × ch_S} {res : Int32 × ch_S} {Q : Outcome → ch_W → Prop} (h : ch_loop (fun (s : Int32 × ch_S) => m_X3_setSlots_51 x1 s.1 s.2) a = some res) (hk : (fun r => ch_eI Q (r.1, ch_put m w r.2)) res) : ch_FT g false mX3_setSlots 2 51 [some (va_rf (some m)), some (.int x1), some (.int a.1), none, none] [] (ch_put m w a.2) Q := by
  refine ch_loop_ind (fun (a : Int32 × ch_S) (r : Int32 × ch_S) => (fun r => ch_eI Q (r.1, ch_put m w r.2)) r → ch_FT g false mX3_setSlots 2 51 [some (va_rf (some m)), some (.int x1), some (.int a.1), none, none] [] (ch_put m w a.2) Q) ?_ ?_ a res h hk
  · intro a a2 b h1 ih hk
    exact s_X3_setSlots_51  h1 (ih hk)
  · intro a b h1 hk
    exact s_X3_setSlots_51  h1 hk

def m_X3_setSlots_18 (x1 : Int32) (x2 : Int32)  (σ : ch_S) : Option (Int32 ⊕ (Int32 × ch_S)) := (ch_ma σ fX3_parent x2).bind fun v1 => if v1 < 0 then ((ch_loop (fun (s : Int32 × ch_S) => m_X3_setSlots_51 x1 s.1 s.2) (x2, σ)).bind fun r => some (.inr (r))) else ((ch_ma σ fX3_parent x2).bind fun v2 => (ch_ma σ fX3_fieldMany v2).bind fun v3 => if v3 < 0 then ((ch_ma σ fX3_parent x2).bind fun v4 => some (.inl (v4))) else ((ch_loop (fun (s : Int32 × ch_S) => m_X3_setSlots_51 x1 s.1 s.2) (x2, σ)).bind fun r => some (.inr (r))))
theorem s_X3_setSlots_18 {g : State} {m : Nat} {w : ch_W} {x1 : Int32} {x2 : Int32} {σ : ch_S} {res : Int32 ⊕ (Int32 × ch_S)} {Q : Outcome → ch_W → Prop} (h : m_X3_setSlots_18 x1 x2 σ = some res) (hk : (ch_sm (fun s => ch_FT g false mX3_setSlots 2 18 [some (va_rf (some m)), some (.int x1), some (.int s), none, none] [] (ch_put m w σ) Q) (fun r => ch_eI Q (r.1, ch_put m w r.2))) res) : ch_FT g false mX3_setSlots 2 18 [some (va_rf (some m)), some (.int x1), some (.int x2), none, none] [] (ch_put m w σ) Q := by
  unfold m_X3_setSlots_18 at h
  refine ch_aload_n 0 (some m) dX3_setSlots_18 rfl (mp_gA 41 dX3_setSlots_19 fl_X3_88 rfl (ch_iload_n 2 _ dX3_setSlots_22 rfl (mp_iald dX3_setSlots_23 mk_41 h (fun v1 h => ?_))))
  refine cp_if_lt _ (tgt := 51) dX3_setSlots_24 rfl h (fun h => ?_) (fun h => ?_)
  · obtain ⟨r, hr, h⟩ := ch_bd h
    obtain rfl := Option.some.inj h
    exact ch_FT.wk (ch_wS (ch_wS (ch_wS (ch_wN (ch_wN ch_w0))))) (sl_X3_setSlots_51  hr hk)
  · refine ch_aload_n 0 (some m) dX3_setSlots_27 rfl (mp_gA 42 dX3_setSlots_28 fl_X3_91 rfl (ch_aload_n 0 (some m) dX3_setSlots_31 rfl (mp_gA 41 dX3_setSlots_32 fl_X3_88 rfl (ch_iload_n 2 _ dX3_setSlots_35 rfl (mp_iald dX3_setSlots_36 mk_41 h (fun v2 h => ?_))))))
    refine mp_iald dX3_setSlots_37 mk_42 h (fun v3 h => ?_)
    refine cp_if_ge _ (tgt := 51) dX3_setSlots_38 rfl h (fun h => ?_) (fun h => ?_)
    · obtain ⟨r, hr, h⟩ := ch_bd h
      obtain rfl := Option.some.inj h
      exact ch_FT.wk (ch_wS (ch_wS (ch_wS (ch_wN (ch_wN ch_w0))))) (sl_X3_setSlots_51  hr hk)
    · refine ch_aload_n 0 (some m) dX3_setSlots_41 rfl (mp_gA 41 dX3_setSlots_42 fl_X3_88 rfl (ch_iload_n 2 _ dX3_setSlots_45 rfl (mp_iald dX3_setSlots_46 mk_41 h (fun v4 h => ?_))))
      refine ch_istore_n 2 _ (ls1 := [some (va_rf (some m)), some (.int x1), some (.int v4), none, none]) dX3_setSlots_47 (Nat.le_of_ble_eq_true rfl) rfl (ch_goto 18 dX3_setSlots_48 rfl (ch_FT.wk (ch_wS (ch_wS (ch_wS (ch_wN (ch_wN ch_w0))))) ?_))
      obtain rfl := Option.some.inj h
      exact hk
theorem sl_X3_setSlots_18 {g : State} {m : Nat} {w : ch_W} {x1 : Int32} {σ : ch_S} {a : Int32} {res : Int32 × ch_S} {Q : Outcome → ch_W → Prop} (h : ch_loop (fun (s : Int32) => m_X3_setSlots_18 x1 s σ) a = some res) (hk : (fun r => ch_eI Q (r.1, ch_put m w r.2)) res) : ch_FT g false mX3_setSlots 2 18 [some (va_rf (some m)), some (.int x1), some (.int a), none, none] [] (ch_put m w σ) Q := by
  refine ch_loop_ind (fun (a : Int32) (r : Int32 × ch_S) => (fun r => ch_eI Q (r.1, ch_put m w r.2)) r → ch_FT g false mX3_setSlots 2 18 [some (va_rf (some m)), some (.int x1), some (.int a), none, none] [] (ch_put m w σ) Q) ?_ ?_ a res h hk
  · intro a a2 b h1 ih hk
    exact s_X3_setSlots_18  h1 (ih hk)
  · intro a b h1 hk
    exact s_X3_setSlots_18  h1 hk

def m_X3_setSlots (x1 : Int32) (σ : ch_S) : Option (Int32 × ch_S) := (ch_ma σ fX3_fieldMany x1).bind fun v1 => if v1 < 0 then (ch_loop (fun (s : Int32) => m_X3_setSlots_18 x1 s σ) (x1)) else ((ch_ma σ fX3_fieldMany x1).bind fun v2 => some ((v2, σ)))
theorem s_X3_setSlots {g : State} {m : Nat} {w : ch_W} {x1 : Int32} {σ : ch_S} {res : Int32 × ch_S} {Q : Outcome → ch_W → Prop} (h : m_X3_setSlots x1 σ = some res) (hk : (fun r => ch_eI Q (r.1, ch_put m w r.2)) res) : ch_CT g false yX3_setSlots 2 [.ref m, .int x1] (ch_put m w σ) Q := by
  unfold m_X3_setSlots at h
  refine ch_ctL mX3_setSlots (ls := [some (va_rf (some m)), some (.int x1), none, none, none]) q2075 rfl (ch_lyr (r := some m) (ch_lyi ch_ly0)) (Nat.le_of_ble_eq_true rfl) rfl ?_
  refine ch_aload_n 0 (some m) dX3_setSlots_0 rfl (mp_gA 42 dX3_setSlots_1 fl_X3_91 rfl (ch_iload_n 1 _ dX3_setSlots_4 rfl (mp_iald dX3_setSlots_5 mk_42 h (fun v1 h => ?_))))
  refine cp_if_lt _ (tgt := 16) dX3_setSlots_6 rfl h (fun h => ?_) (fun h => ?_)
  · exact ch_iload_n 1 _ dX3_setSlots_16 rfl (ch_istore_n 2 _ (ls1 := [some (va_rf (some m)), some (.int x1), some (.int x1), none, none]) dX3_setSlots_17 (Nat.le_of_ble_eq_true rfl) rfl (ch_FT.wk (ch_wS (ch_wS (ch_wS (ch_wN (ch_wN ch_w0))))) (sl_X3_setSlots_18  h hk)))
  · refine ch_aload_n 0 (some m) dX3_setSlots_9 rfl (mp_gA 42 dX3_setSlots_10 fl_X3_91 rfl (ch_iload_n 1 _ dX3_setSlots_13 rfl (mp_iald dX3_setSlots_14 mk_42 h (fun v2 h => ?_))))
    obtain rfl := Option.some.inj h
    exact ch_ireturn _ dX3_setSlots_15 rfl rfl hk

theorem bX3_addVariable_0 : ch_ck cX3_addVariable 0 [42, 180, 0, 128, 42, 180, 1, 211, 27, 79, 42, 180, 0, 131, 42, 180] := ch_ckof (by decide +kernel)
theorem bX3_addVariable_1 : ch_ck cX3_addVariable 16 [1, 211, 28, 79, 42, 180, 0, 134, 42, 180, 1, 211, 29, 84, 42, 89] := ch_ckof (by decide +kernel)
theorem bX3_addVariable_2 : ch_ck cX3_addVariable 32 [180, 1, 211, 4, 96, 181, 1, 211, 177] := ch_ckof (by decide +kernel)
theorem dX3_addVariable_0 : decode cX3_addVariable 0 = .ok (.aload_n 0, 1) := dz_42 (bX3_addVariable_0 0 _ rfl)
theorem dX3_addVariable_1 : decode cX3_addVariable 1 = .ok (.getfield 128, 3) := dz_180 (bX3_addVariable_0 1 _ rfl) (bX3_addVariable_0 2 _ rfl) (bX3_addVariable_0 3 _ rfl)
theorem dX3_addVariable_4 : decode cX3_addVariable 4 = .ok (.aload_n 0, 1) := dz_42 (bX3_addVariable_0 4 _ rfl)
theorem dX3_addVariable_5 : decode cX3_addVariable 5 = .ok (.getfield 467, 3) := dz_180 (bX3_addVariable_0 5 _ rfl) (bX3_addVariable_0 6 _ rfl) (bX3_addVariable_0 7 _ rfl)
theorem dX3_addVariable_8 : decode cX3_addVariable 8 = .ok (.iload_n 1, 1) := dz_27 (bX3_addVariable_0 8 _ rfl)
theorem dX3_addVariable_9 : decode cX3_addVariable 9 = .ok (.iastore, 1) := dz_79 (bX3_addVariable_0 9 _ rfl)
theorem dX3_addVariable_10 : decode cX3_addVariable 10 = .ok (.aload_n 0, 1) := dz_42 (bX3_addVariable_0 10 _ rfl)
theorem dX3_addVariable_11 : decode cX3_addVariable 11 = .ok (.getfield 131, 3) := dz_180 (bX3_addVariable_0 11 _ rfl) (bX3_addVariable_0 12 _ rfl) (bX3_addVariable_0 13 _ rfl)
theorem dX3_addVariable_14 : decode cX3_addVariable 14 = .ok (.aload_n 0, 1) := dz_42 (bX3_addVariable_0 14 _ rfl)
theorem dX3_addVariable_15 : decode cX3_addVariable 15 = .ok (.getfield 467, 3) := dz_180 (bX3_addVariable_0 15 _ rfl) (bX3_addVariable_1 0 _ rfl) (bX3_addVariable_1 1 _ rfl)
theorem dX3_addVariable_18 : decode cX3_addVariable 18 = .ok (.iload_n 2, 1) := dz_28 (bX3_addVariable_1 2 _ rfl)
theorem dX3_addVariable_19 : decode cX3_addVariable 19 = .ok (.iastore, 1) := dz_79 (bX3_addVariable_1 3 _ rfl)
theorem dX3_addVariable_20 : decode cX3_addVariable 20 = .ok (.aload_n 0, 1) := dz_42 (bX3_addVariable_1 4 _ rfl)
theorem dX3_addVariable_21 : decode cX3_addVariable 21 = .ok (.getfield 134, 3) := dz_180 (bX3_addVariable_1 5 _ rfl) (bX3_addVariable_1 6 _ rfl) (bX3_addVariable_1 7 _ rfl)
theorem dX3_addVariable_24 : decode cX3_addVariable 24 = .ok (.aload_n 0, 1) := dz_42 (bX3_addVariable_1 8 _ rfl)
theorem dX3_addVariable_25 : decode cX3_addVariable 25 = .ok (.getfield 467, 3) := dz_180 (bX3_addVariable_1 9 _ rfl) (bX3_addVariable_1 10 _ rfl) (bX3_addVariable_1 11 _ rfl)
theorem dX3_addVariable_28 : decode cX3_addVariable 28 = .ok (.iload_n 3, 1) := dz_29 (bX3_addVariable_1 12 _ rfl)
theorem dX3_addVariable_29 : decode cX3_addVariable 29 = .ok (.bastore, 1) := dz_84 (bX3_addVariable_1 13 _ rfl)
theorem dX3_addVariable_30 : decode cX3_addVariable 30 = .ok (.aload_n 0, 1) := dz_42 (bX3_addVariable_1 14 _ rfl)
theorem dX3_addVariable_31 : decode cX3_addVariable 31 = .ok (.dup, 1) := dz_89 (bX3_addVariable_1 15 _ rfl)
theorem dX3_addVariable_32 : decode cX3_addVariable 32 = .ok (.getfield 467, 3) := dz_180 (bX3_addVariable_2 0 _ rfl) (bX3_addVariable_2 1 _ rfl) (bX3_addVariable_2 2 _ rfl)
theorem dX3_addVariable_35 : decode cX3_addVariable 35 = .ok (.iconst 1, 1) := dz_4 (bX3_addVariable_2 3 _ rfl)
theorem dX3_addVariable_36 : decode cX3_addVariable 36 = .ok (.iadd, 1) := dz_96 (bX3_addVariable_2 4 _ rfl)
theorem dX3_addVariable_37 : decode cX3_addVariable 37 = .ok (.putfield 467, 3) := dz_181 (bX3_addVariable_2 5 _ rfl) (bX3_addVariable_2 6 _ rfl) (bX3_addVariable_2 7 _ rfl)
theorem dX3_addVariable_40 : decode cX3_addVariable 40 = .ok (.return_, 1) := dz_177 (bX3_addVariable_2 8 _ rfl)
def m_X3_addVariable (x1 : Int32) (x2 : Int32) (x3 : Int32) (σ : ch_S) : Option (ch_S) := (ch_mw σ fX3_variableId (σ.1 fX3_variables) x1).bind fun σ1 => (ch_mw σ1 fX3_variableType (σ1.1 fX3_variables) x2).bind fun σ2 => (ch_bit x3).bind fun _ => (ch_mw σ2 fX3_isSet (σ2.1 fX3_variables) x3).bind fun σ3 => (ch_mI σ3 fX3_variables ((σ3.1 fX3_variables) + 1)).bind fun σ4 => some (σ4)
theorem s_X3_addVariable {g : State} {m : Nat} {w : ch_W} {x1 : Int32} {x2 : Int32} {x3 : Int32} {σ : ch_S} {res : ch_S} {Q : Outcome → ch_W → Prop} (h : m_X3_addVariable x1 x2 x3 σ = some res) (hk : (fun r => ch_eV Q (ch_put m w r)) res) : ch_CT g false yX3_addVariable 2 [.ref m, .int x1, .int x2, .int x3] (ch_put m w σ) Q := by
  unfold m_X3_addVariable at h
  refine ch_ctL mX3_addVariable (ls := [some (va_rf (some m)), some (.int x1), some (.int x2), some (.int x3)]) q2083 rfl (ch_lyr (r := some m) (ch_lyi (ch_lyi (ch_lyi ch_ly0)))) (Nat.le_of_ble_eq_true rfl) rfl ?_
  refine ch_aload_n 0 (some m) dX3_addVariable_0 rfl (mp_gA 63 dX3_addVariable_1 fl_X3_128 rfl (ch_aload_n 0 (some m) dX3_addVariable_4 rfl (mp_gI 62 dX3_addVariable_5 fl_X3_467 rfl (ch_iload_n 1 _ dX3_addVariable_8 rfl (mp_iast dX3_addVariable_9 mk_63 rfl h (fun σ1 h => ?_))))))
  refine ch_aload_n 0 (some m) dX3_addVariable_10 rfl (mp_gA 64 dX3_addVariable_11 fl_X3_131 rfl (ch_aload_n 0 (some m) dX3_addVariable_14 rfl (mp_gI 62 dX3_addVariable_15 fl_X3_467 rfl (ch_iload_n 2 _ dX3_addVariable_18 rfl (mp_iast dX3_addVariable_19 mk_64 rfl h (fun σ2 h => ?_))))))
  refine ch_aload_n 0 (some m) dX3_addVariable_20 rfl (mp_gA 65 dX3_addVariable_21 fl_X3_134 rfl (ch_aload_n 0 (some m) dX3_addVariable_24 rfl (mp_gI 62 dX3_addVariable_25 fl_X3_467 rfl (ch_iload_n 3 _ dX3_addVariable_28 rfl (mp_zast dX3_addVariable_29 mk_65 rfl h (fun σ3 h => ?_))))))
  refine ch_aload_n 0 (some m) dX3_addVariable_30 rfl (ch_dup dX3_addVariable_31 (ch_cat _) (mp_gI 62 dX3_addVariable_32 fl_X3_467 rfl (ch_iconst _ 1 dX3_addVariable_35 rfl (ch_iadd _ _ dX3_addVariable_36 (mp_pI (k := 62) dX3_addVariable_37 fl_X3_467 rfl rfl rfl h (fun σ4 h => ?_))))))
  obtain rfl := Option.some.inj h
  exact ch_return dX3_addVariable_40 rfl hk

theorem bX3_variableOf_0 : ch_ck cX3_variableOf 0 [42, 180, 1, 211, 4, 100, 61, 28, 155, 0, 19, 42, 180, 0, 128, 28] := ch_ckof (by decide +kernel)
theorem bX3_variableOf_1 : ch_ck cX3_variableOf 16 [46, 27, 159, 0, 9, 132, 2, 255, 167, 255, 239, 28, 172] := ch_ckof (by decide +kernel)
theorem dX3_variableOf_0 : decode cX3_variableOf 0 = .ok (.aload_n 0, 1) := dz_42 (bX3_variableOf_0 0 _ rfl)
theorem dX3_variableOf_1 : decode cX3_variableOf 1 = .ok (.getfield 467, 3) := dz_180 (bX3_variableOf_0 1 _ rfl) (bX3_variableOf_0 2 _ rfl) (bX3_variableOf_0 3 _ rfl)
theorem dX3_variableOf_4 : decode cX3_variableOf 4 = .ok (.iconst 1, 1) := dz_4 (bX3_variableOf_0 4 _ rfl)
theorem dX3_variableOf_5 : decode cX3_variableOf 5 = .ok (.isub, 1) := dz_100 (bX3_variableOf_0 5 _ rfl)
theorem dX3_variableOf_6 : decode cX3_variableOf 6 = .ok (.istore_n 2, 1) := dz_61 (bX3_variableOf_0 6 _ rfl)
theorem dX3_variableOf_7 : decode cX3_variableOf 7 = .ok (.iload_n 2, 1) := dz_28 (bX3_variableOf_0 7 _ rfl)
theorem dX3_variableOf_8 : decode cX3_variableOf 8 = .ok (.ifCond .lt 19, 3) := dz_155 (bX3_variableOf_0 8 _ rfl) (bX3_variableOf_0 9 _ rfl) (bX3_variableOf_0 10 _ rfl)
theorem dX3_variableOf_11 : decode cX3_variableOf 11 = .ok (.aload_n 0, 1) := dz_42 (bX3_variableOf_0 11 _ rfl)
theorem dX3_variableOf_12 : decode cX3_variableOf 12 = .ok (.getfield 128, 3) := dz_180 (bX3_variableOf_0 12 _ rfl) (bX3_variableOf_0 13 _ rfl) (bX3_variableOf_0 14 _ rfl)
theorem dX3_variableOf_15 : decode cX3_variableOf 15 = .ok (.iload_n 2, 1) := dz_28 (bX3_variableOf_0 15 _ rfl)
theorem dX3_variableOf_16 : decode cX3_variableOf 16 = .ok (.iaload, 1) := dz_46 (bX3_variableOf_1 0 _ rfl)
theorem dX3_variableOf_17 : decode cX3_variableOf 17 = .ok (.iload_n 1, 1) := dz_27 (bX3_variableOf_1 1 _ rfl)
theorem dX3_variableOf_18 : decode cX3_variableOf 18 = .ok (.if_icmp .eq 9, 3) := dz_159 (bX3_variableOf_1 2 _ rfl) (bX3_variableOf_1 3 _ rfl) (bX3_variableOf_1 4 _ rfl)
theorem dX3_variableOf_21 : decode cX3_variableOf 21 = .ok (.iinc 2 (-1), 3) := dz_132 (bX3_variableOf_1 5 _ rfl) (bX3_variableOf_1 6 _ rfl) (bX3_variableOf_1 7 _ rfl)
theorem dX3_variableOf_24 : decode cX3_variableOf 24 = .ok (.goto (-17), 3) := dz_167 (bX3_variableOf_1 8 _ rfl) (bX3_variableOf_1 9 _ rfl) (bX3_variableOf_1 10 _ rfl)
theorem dX3_variableOf_27 : decode cX3_variableOf 27 = .ok (.iload_n 2, 1) := dz_28 (bX3_variableOf_1 11 _ rfl)
theorem dX3_variableOf_28 : decode cX3_variableOf 28 = .ok (.ireturn, 1) := dz_172 (bX3_variableOf_1 12 _ rfl)
def m_X3_variableOf_7 (x1 : Int32) (x2 : Int32)  (σ : ch_S) : Option (Int32 ⊕ (Int32)) := if x2 < 0 then (some (.inr (x2))) else ((ch_ma σ fX3_variableId x2).bind fun v1 => if v1 = x1 then (some (.inr (x2))) else (some (.inl (x2 + (-1)))))
theorem s_X3_variableOf_7 {g : State} {m : Nat} {w : ch_W} {x1 : Int32} {x2 : Int32} {σ : ch_S} {res : Int32 ⊕ (Int32)} {Q : Outcome → ch_W → Prop} (h : m_X3_variableOf_7 x1 x2 σ = some res) (hk : (ch_sm (fun s => ch_FT g false mX3_variableOf 2 7 [some (va_rf (some m)), some (.int x1), some (.int s)] [] (ch_put m w σ) Q) (fun r => ch_eI Q (r, ch_put m w σ))) res) : ch_FT g false mX3_variableOf 2 7 [some (va_rf (some m)), some (.int x1), some (.int x2)] [] (ch_put m w σ) Q := by
  unfold m_X3_variableOf_7 at h
  refine ch_iload_n 2 _ dX3_variableOf_7 rfl (cp_if_lt _ (tgt := 27) dX3_variableOf_8 rfl h (fun h => ?_) (fun h => ?_))
  · obtain rfl := Option.some.inj h
    exact ch_iload_n 2 _ dX3_variableOf_27 rfl (ch_ireturn _ dX3_variableOf_28 rfl rfl hk)
  · refine ch_aload_n 0 (some m) dX3_variableOf_11 rfl (mp_gA 63 dX3_variableOf_12 fl_X3_128 rfl (ch_iload_n 2 _ dX3_variableOf_15 rfl (mp_iald dX3_variableOf_16 mk_63 h (fun v1 h => ?_))))
    refine ch_iload_n 1 _ dX3_variableOf_17 rfl (cp_icmp_eq _ _ (tgt := 27) dX3_variableOf_18 rfl h (fun h => ?_) (fun h => ?_))
    · obtain rfl := Option.some.inj h
      exact ch_iload_n 2 _ dX3_variableOf_27 rfl (ch_ireturn _ dX3_variableOf_28 rfl rfl hk)
    · refine ch_iinc 2 _ _ (x2 + (-1)) (ls1 := [some (va_rf (some m)), some (.int x1), some (.int (x2 + (-1)))]) dX3_variableOf_21 rfl rfl (Nat.le_of_ble_eq_true rfl) rfl (ch_goto 7 dX3_variableOf_24 rfl (ch_FT.wk (ch_wS (ch_wS (ch_wS ch_w0))) ?_))
      obtain rfl := Option.some.inj h
      exact hk
theorem sl_X3_variableOf_7 {g : State} {m : Nat} {w : ch_W} {x1 : Int32} {σ : ch_S} {a : Int32} {res : Int32} {Q : Outcome → ch_W → Prop} (h : ch_loop (fun (s : Int32) => m_X3_variableOf_7 x1 s σ) a = some res) (hk : (fun r => ch_eI Q (r, ch_put m w σ)) res) : ch_FT g false mX3_variableOf 2 7 [some (va_rf (some m)), some (.int x1), some (.int a)] [] (ch_put m w σ) Q := by
  refine ch_loop_ind (fun (a : Int32) (r : Int32) => (fun r => ch_eI Q (r, ch_put m w σ)) r → ch_FT g false mX3_variableOf 2 7 [some (va_rf (some m)), some (.int x1), some (.int a)] [] (ch_put m w σ) Q) ?_ ?_ a res h hk
  · intro a a2 b h1 ih hk
    exact s_X3_variableOf_7  h1 (ih hk)
  · intro a b h1 hk
    exact s_X3_variableOf_7  h1 hk

def m_X3_variableOf (x1 : Int32) (σ : ch_S) : Option (Int32) := ch_loop (fun (s : Int32) => m_X3_variableOf_7 x1 s σ) ((σ.1 fX3_variables) - 1)
theorem s_X3_variableOf {g : State} {m : Nat} {w : ch_W} {x1 : Int32} {σ : ch_S} {res : Int32} {Q : Outcome → ch_W → Prop} (h : m_X3_variableOf x1 σ = some res) (hk : (fun r => ch_eI Q (r, ch_put m w σ)) res) : ch_CT g false yX3_variableOf 2 [.ref m, .int x1] (ch_put m w σ) Q := by
  unfold m_X3_variableOf at h
  refine ch_ctL mX3_variableOf (ls := [some (va_rf (some m)), some (.int x1), none]) q2107 rfl (ch_lyr (r := some m) (ch_lyi ch_ly0)) (Nat.le_of_ble_eq_true rfl) rfl ?_
  exact ch_aload_n 0 (some m) dX3_variableOf_0 rfl (mp_gI 62 dX3_variableOf_1 fl_X3_467 rfl (ch_iconst _ 1 dX3_variableOf_4 rfl (ch_isub _ _ dX3_variableOf_5 (ch_istore_n 2 _ (ls1 := [some (va_rf (some m)), some (.int x1), some (.int ((σ.1 fX3_variables) - 1))]) dX3_variableOf_6 (Nat.le_of_ble_eq_true rfl) rfl (ch_FT.wk (ch_wS (ch_wS (ch_wS ch_w0))) (sl_X3_variableOf_7  h hk))))))

theorem bX3_named_0 : ch_ck cX3_named 0 [42, 42, 180, 0, 34, 28, 46, 182, 1, 240, 62, 29, 155, 0, 78, 42] := ch_ckof (by decide +kernel)
theorem bX3_named_1 : ch_ck cX3_named 16 [180, 0, 46, 27, 46, 16, 8, 160, 0, 17, 28, 42, 180, 0, 58, 27] := ch_ckof (by decide +kernel)
theorem bX3_named_2 : ch_ck cX3_named 32 [46, 160, 0, 7, 4, 167, 0, 4, 3, 54, 4, 42, 180, 0, 25, 28] := ch_ckof (by decide +kernel)
theorem bX3_named_3 : ch_ck cX3_named 48 [16, 19, 79, 42, 180, 0, 34, 28, 29, 79, 42, 180, 1, 220, 154, 0] := ch_ckof (by decide +kernel)
theorem bX3_named_4 : ch_ck cX3_named 64 [17, 42, 180, 0, 134, 29, 51, 154, 0, 8, 21, 4, 153, 0, 12, 42] := ch_ckof (by decide +kernel)
theorem bX3_named_5 : ch_ck cX3_named 80 [180, 0, 131, 29, 46, 167, 0, 4, 8, 172, 42, 42, 180, 1, 214, 42] := ch_ckof (by decide +kernel)
theorem bX3_named_6 : ch_ck cX3_named 96 [180, 0, 34, 28, 46, 3, 182, 1, 166, 54, 4, 21, 4, 156, 0, 5] := ch_ckof (by decide +kernel)
theorem bX3_named_7 : ch_ck cX3_named 112 [8, 172, 42, 180, 0, 25, 28, 16, 20, 79, 42, 180, 0, 34, 28, 42] := ch_ckof (by decide +kernel)
theorem bX3_named_8 : ch_ck cX3_named 128 [180, 0, 119, 21, 4, 46, 79, 42, 180, 0, 103, 21, 4, 46, 172] := ch_ckof (by decide +kernel)
theorem dX3_named_0 : decode cX3_named 0 = .ok (.aload_n 0, 1) := dz_42 (bX3_named_0 0 _ rfl)
theorem dX3_named_1 : decode cX3_named 1 = .ok (.aload_n 0, 1) := dz_42 (bX3_named_0 1 _ rfl)
theorem dX3_named_2 : decode cX3_named 2 = .ok (.getfield 34, 3) := dz_180 (bX3_named_0 2 _ rfl) (bX3_named_0 3 _ rfl) (bX3_named_0 4 _ rfl)
theorem dX3_named_5 : decode cX3_named 5 = .ok (.iload_n 2, 1) := dz_28 (bX3_named_0 5 _ rfl)
theorem dX3_named_6 : decode cX3_named 6 = .ok (.iaload, 1) := dz_46 (bX3_named_0 6 _ rfl)
theorem dX3_named_7 : decode cX3_named 7 = .ok (.invokevirtual 496, 3) := dz_182 (bX3_named_0 7 _ rfl) (bX3_named_0 8 _ rfl) (bX3_named_0 9 _ rfl)
theorem dX3_named_10 : decode cX3_named 10 = .ok (.istore_n 3, 1) := dz_62 (bX3_named_0 10 _ rfl)
theorem dX3_named_11 : decode cX3_named 11 = .ok (.iload_n 3, 1) := dz_29 (bX3_named_0 11 _ rfl)
theorem dX3_named_12 : decode cX3_named 12 = .ok (.ifCond .lt 78, 3) := dz_155 (bX3_named_0 12 _ rfl) (bX3_named_0 13 _ rfl) (bX3_named_0 14 _ rfl)
theorem dX3_named_15 : decode cX3_named 15 = .ok (.aload_n 0, 1) := dz_42 (bX3_named_0 15 _ rfl)
theorem dX3_named_16 : decode cX3_named 16 = .ok (.getfield 46, 3) := dz_180 (bX3_named_1 0 _ rfl) (bX3_named_1 1 _ rfl) (bX3_named_1 2 _ rfl)
theorem dX3_named_19 : decode cX3_named 19 = .ok (.iload_n 1, 1) := dz_27 (bX3_named_1 3 _ rfl)
theorem dX3_named_20 : decode cX3_named 20 = .ok (.iaload, 1) := dz_46 (bX3_named_1 4 _ rfl)
theorem dX3_named_21 : decode cX3_named 21 = .ok (.bipush 8, 2) := dz_16 (bX3_named_1 5 _ rfl) (bX3_named_1 6 _ rfl)
theorem dX3_named_23 : decode cX3_named 23 = .ok (.if_icmp .ne 17, 3) := dz_160 (bX3_named_1 7 _ rfl) (bX3_named_1 8 _ rfl) (bX3_named_1 9 _ rfl)
theorem dX3_named_26 : decode cX3_named 26 = .ok (.iload_n 2, 1) := dz_28 (bX3_named_1 10 _ rfl)
theorem dX3_named_27 : decode cX3_named 27 = .ok (.aload_n 0, 1) := dz_42 (bX3_named_1 11 _ rfl)
theorem dX3_named_28 : decode cX3_named 28 = .ok (.getfield 58, 3) := dz_180 (bX3_named_1 12 _ rfl) (bX3_named_1 13 _ rfl) (bX3_named_1 14 _ rfl)
theorem dX3_named_31 : decode cX3_named 31 = .ok (.iload_n 1, 1) := dz_27 (bX3_named_1 15 _ rfl)
theorem dX3_named_32 : decode cX3_named 32 = .ok (.iaload, 1) := dz_46 (bX3_named_2 0 _ rfl)
theorem dX3_named_33 : decode cX3_named 33 = .ok (.if_icmp .ne 7, 3) := dz_160 (bX3_named_2 1 _ rfl) (bX3_named_2 2 _ rfl) (bX3_named_2 3 _ rfl)
theorem dX3_named_36 : decode cX3_named 36 = .ok (.iconst 1, 1) := dz_4 (bX3_named_2 4 _ rfl)
theorem dX3_named_37 : decode cX3_named 37 = .ok (.goto 4, 3) := dz_167 (bX3_named_2 5 _ rfl) (bX3_named_2 6 _ rfl) (bX3_named_2 7 _ rfl)
theorem dX3_named_40 : decode cX3_named 40 = .ok (.iconst 0, 1) := dz_3 (bX3_named_2 8 _ rfl)
theorem dX3_named_41 : decode cX3_named 41 = .ok (.istore 4, 2) := dz_54 (bX3_named_2 9 _ rfl) (bX3_named_2 10 _ rfl)
theorem dX3_named_43 : decode cX3_named 43 = .ok (.aload_n 0, 1) := dz_42 (bX3_named_2 11 _ rfl)
theorem dX3_named_44 : decode cX3_named 44 = .ok (.getfield 25, 3) := dz_180 (bX3_named_2 12 _ rfl) (bX3_named_2 13 _ rfl) (bX3_named_2 14 _ rfl)
theorem dX3_named_47 : decode cX3_named 47 = .ok (.iload_n 2, 1) := dz_28 (bX3_named_2 15 _ rfl)
theorem dX3_named_48 : decode cX3_named 48 = .ok (.bipush 19, 2) := dz_16 (bX3_named_3 0 _ rfl) (bX3_named_3 1 _ rfl)
theorem dX3_named_50 : decode cX3_named 50 = .ok (.iastore, 1) := dz_79 (bX3_named_3 2 _ rfl)
theorem dX3_named_51 : decode cX3_named 51 = .ok (.aload_n 0, 1) := dz_42 (bX3_named_3 3 _ rfl)
theorem dX3_named_52 : decode cX3_named 52 = .ok (.getfield 34, 3) := dz_180 (bX3_named_3 4 _ rfl) (bX3_named_3 5 _ rfl) (bX3_named_3 6 _ rfl)
theorem dX3_named_55 : decode cX3_named 55 = .ok (.iload_n 2, 1) := dz_28 (bX3_named_3 7 _ rfl)
theorem dX3_named_56 : decode cX3_named 56 = .ok (.iload_n 3, 1) := dz_29 (bX3_named_3 8 _ rfl)
theorem dX3_named_57 : decode cX3_named 57 = .ok (.iastore, 1) := dz_79 (bX3_named_3 9 _ rfl)
theorem dX3_named_58 : decode cX3_named 58 = .ok (.aload_n 0, 1) := dz_42 (bX3_named_3 10 _ rfl)
theorem dX3_named_59 : decode cX3_named 59 = .ok (.getfield 476, 3) := dz_180 (bX3_named_3 11 _ rfl) (bX3_named_3 12 _ rfl) (bX3_named_3 13 _ rfl)
theorem dX3_named_62 : decode cX3_named 62 = .ok (.ifCond .ne 17, 3) := dz_154 (bX3_named_3 14 _ rfl) (bX3_named_3 15 _ rfl) (bX3_named_4 0 _ rfl)
theorem dX3_named_65 : decode cX3_named 65 = .ok (.aload_n 0, 1) := dz_42 (bX3_named_4 1 _ rfl)
theorem dX3_named_66 : decode cX3_named 66 = .ok (.getfield 134, 3) := dz_180 (bX3_named_4 2 _ rfl) (bX3_named_4 3 _ rfl) (bX3_named_4 4 _ rfl)
theorem dX3_named_69 : decode cX3_named 69 = .ok (.iload_n 3, 1) := dz_29 (bX3_named_4 5 _ rfl)
theorem dX3_named_70 : decode cX3_named 70 = .ok (.baload, 1) := dz_51 (bX3_named_4 6 _ rfl)
theorem dX3_named_71 : decode cX3_named 71 = .ok (.ifCond .ne 8, 3) := dz_154 (bX3_named_4 7 _ rfl) (bX3_named_4 8 _ rfl) (bX3_named_4 9 _ rfl)
theorem dX3_named_74 : decode cX3_named 74 = .ok (.iload 4, 2) := dz_21 (bX3_named_4 10 _ rfl) (bX3_named_4 11 _ rfl)
theorem dX3_named_76 : decode cX3_named 76 = .ok (.ifCond .eq 12, 3) := dz_153 (bX3_named_4 12 _ rfl) (bX3_named_4 13 _ rfl) (bX3_named_4 14 _ rfl)
theorem dX3_named_79 : decode cX3_named 79 = .ok (.aload_n 0, 1) := dz_42 (bX3_named_4 15 _ rfl)
theorem dX3_named_80 : decode cX3_named 80 = .ok (.getfield 131, 3) := dz_180 (bX3_named_5 0 _ rfl) (bX3_named_5 1 _ rfl) (bX3_named_5 2 _ rfl)
theorem dX3_named_83 : decode cX3_named 83 = .ok (.iload_n 3, 1) := dz_29 (bX3_named_5 3 _ rfl)
theorem dX3_named_84 : decode cX3_named 84 = .ok (.iaload, 1) := dz_46 (bX3_named_5 4 _ rfl)
theorem dX3_named_85 : decode cX3_named 85 = .ok (.goto 4, 3) := dz_167 (bX3_named_5 5 _ rfl) (bX3_named_5 6 _ rfl) (bX3_named_5 7 _ rfl)
theorem dX3_named_88 : decode cX3_named 88 = .ok (.iconst 5, 1) := dz_8 (bX3_named_5 8 _ rfl)
theorem dX3_named_89 : decode cX3_named 89 = .ok (.ireturn, 1) := dz_172 (bX3_named_5 9 _ rfl)
theorem dX3_named_90 : decode cX3_named 90 = .ok (.aload_n 0, 1) := dz_42 (bX3_named_5 10 _ rfl)
theorem dX3_named_91 : decode cX3_named 91 = .ok (.aload_n 0, 1) := dz_42 (bX3_named_5 11 _ rfl)
theorem dX3_named_92 : decode cX3_named 92 = .ok (.getfield 470, 3) := dz_180 (bX3_named_5 12 _ rfl) (bX3_named_5 13 _ rfl) (bX3_named_5 14 _ rfl)
theorem dX3_named_95 : decode cX3_named 95 = .ok (.aload_n 0, 1) := dz_42 (bX3_named_5 15 _ rfl)
theorem dX3_named_96 : decode cX3_named 96 = .ok (.getfield 34, 3) := dz_180 (bX3_named_6 0 _ rfl) (bX3_named_6 1 _ rfl) (bX3_named_6 2 _ rfl)
theorem dX3_named_99 : decode cX3_named 99 = .ok (.iload_n 2, 1) := dz_28 (bX3_named_6 3 _ rfl)
theorem dX3_named_100 : decode cX3_named 100 = .ok (.iaload, 1) := dz_46 (bX3_named_6 4 _ rfl)
theorem dX3_named_101 : decode cX3_named 101 = .ok (.iconst 0, 1) := dz_3 (bX3_named_6 5 _ rfl)
theorem dX3_named_102 : decode cX3_named 102 = .ok (.invokevirtual 422, 3) := dz_182 (bX3_named_6 6 _ rfl) (bX3_named_6 7 _ rfl) (bX3_named_6 8 _ rfl)
theorem dX3_named_105 : decode cX3_named 105 = .ok (.istore 4, 2) := dz_54 (bX3_named_6 9 _ rfl) (bX3_named_6 10 _ rfl)
theorem dX3_named_107 : decode cX3_named 107 = .ok (.iload 4, 2) := dz_21 (bX3_named_6 11 _ rfl) (bX3_named_6 12 _ rfl)
theorem dX3_named_109 : decode cX3_named 109 = .ok (.ifCond .ge 5, 3) := dz_156 (bX3_named_6 13 _ rfl) (bX3_named_6 14 _ rfl) (bX3_named_6 15 _ rfl)
theorem dX3_named_112 : decode cX3_named 112 = .ok (.iconst 5, 1) := dz_8 (bX3_named_7 0 _ rfl)
theorem dX3_named_113 : decode cX3_named 113 = .ok (.ireturn, 1) := dz_172 (bX3_named_7 1 _ rfl)
theorem dX3_named_114 : decode cX3_named 114 = .ok (.aload_n 0, 1) := dz_42 (bX3_named_7 2 _ rfl)
theorem dX3_named_115 : decode cX3_named 115 = .ok (.getfield 25, 3) := dz_180 (bX3_named_7 3 _ rfl) (bX3_named_7 4 _ rfl) (bX3_named_7 5 _ rfl)
theorem dX3_named_118 : decode cX3_named 118 = .ok (.iload_n 2, 1) := dz_28 (bX3_named_7 6 _ rfl)
theorem dX3_named_119 : decode cX3_named 119 = .ok (.bipush 20, 2) := dz_16 (bX3_named_7 7 _ rfl) (bX3_named_7 8 _ rfl)
theorem dX3_named_121 : decode cX3_named 121 = .ok (.iastore, 1) := dz_79 (bX3_named_7 9 _ rfl)
theorem dX3_named_122 : decode cX3_named 122 = .ok (.aload_n 0, 1) := dz_42 (bX3_named_7 10 _ rfl)
theorem dX3_named_123 : decode cX3_named 123 = .ok (.getfield 34, 3) := dz_180 (bX3_named_7 11 _ rfl) (bX3_named_7 12 _ rfl) (bX3_named_7 13 _ rfl)
theorem dX3_named_126 : decode cX3_named 126 = .ok (.iload_n 2, 1) := dz_28 (bX3_named_7 14 _ rfl)
theorem dX3_named_127 : decode cX3_named 127 = .ok (.aload_n 0, 1) := dz_42 (bX3_named_7 15 _ rfl)
theorem dX3_named_128 : decode cX3_named 128 = .ok (.getfield 119, 3) := dz_180 (bX3_named_8 0 _ rfl) (bX3_named_8 1 _ rfl) (bX3_named_8 2 _ rfl)
theorem dX3_named_131 : decode cX3_named 131 = .ok (.iload 4, 2) := dz_21 (bX3_named_8 3 _ rfl) (bX3_named_8 4 _ rfl)
theorem dX3_named_133 : decode cX3_named 133 = .ok (.iaload, 1) := dz_46 (bX3_named_8 5 _ rfl)
theorem dX3_named_134 : decode cX3_named 134 = .ok (.iastore, 1) := dz_79 (bX3_named_8 6 _ rfl)
theorem dX3_named_135 : decode cX3_named 135 = .ok (.aload_n 0, 1) := dz_42 (bX3_named_8 7 _ rfl)
theorem dX3_named_136 : decode cX3_named 136 = .ok (.getfield 103, 3) := dz_180 (bX3_named_8 8 _ rfl) (bX3_named_8 9 _ rfl) (bX3_named_8 10 _ rfl)
theorem dX3_named_139 : decode cX3_named 139 = .ok (.iload 4, 2) := dz_21 (bX3_named_8 11 _ rfl) (bX3_named_8 12 _ rfl)
theorem dX3_named_141 : decode cX3_named 141 = .ok (.iaload, 1) := dz_46 (bX3_named_8 13 _ rfl)
theorem dX3_named_142 : decode cX3_named 142 = .ok (.ireturn, 1) := dz_172 (bX3_named_8 14 _ rfl)
def m_X3_named_41 (x2 : Int32) (x3 : Int32) (y0 : Int32) (σ : ch_S) : Option (Int32 × ch_S) := (ch_mw σ fX3_is x2 19).bind fun σ1 => (ch_mw σ1 fX3_of x2 x3).bind fun σ2 => if (σ2.1 fX3_dead) = 0 then ((ch_ma σ2 fX3_isSet x3).bind fun v4 => if v4 = 0 then (if y0 = 0 then (some ((5, σ2))) else ((ch_ma σ2 fX3_variableType x3).bind fun v6 => some ((v6, σ2)))) else ((ch_ma σ2 fX3_variableType x3).bind fun v5 => some ((v5, σ2)))) else ((ch_ma σ2 fX3_variableType x3).bind fun v3 => some ((v3, σ2)))
theorem s_X3_named_41 {g : State} {m : Nat} {w : ch_W} {x2 : Int32} {x3 : Int32} {y0 : Int32} {σ : ch_S} {res : Int32 × ch_S} {Q : Outcome → ch_W → Prop} (h : m_X3_named_41 x2 x3 y0 σ = some res) (hk : (fun r => ch_eI Q (r.1, ch_put m w r.2)) res) : ch_FT g false mX3_named 3 41 [some (va_rf (some m)), none, some (.int x2), some (.int x3), none] [.int y0] (ch_put m w σ) Q := by
  unfold m_X3_named_41 at h
  refine ch_istore 4 _ (ls1 := [some (va_rf (some m)), none, some (.int x2), some (.int x3), some (.int y0)]) dX3_named_41 (Nat.le_of_ble_eq_true rfl) rfl (ch_aload_n 0 (some m) dX3_named_43 rfl (mp_gA 16 dX3_named_44 fl_X3_25 rfl (ch_iload_n 2 _ dX3_named_47 rfl (ch_bipush _ 19 dX3_named_48 rfl (mp_iast dX3_named_50 mk_16 rfl h (fun σ1 h => ?_))))))
  refine ch_aload_n 0 (some m) dX3_named_51 rfl (mp_gA 19 dX3_named_52 fl_X3_34 rfl (ch_iload_n 2 _ dX3_named_55 rfl (ch_iload_n 3 _ dX3_named_56 rfl (mp_iast dX3_named_57 mk_19 rfl h (fun σ2 h => ?_)))))
  refine ch_aload_n 0 (some m) dX3_named_58 rfl (mp_gI 66 dX3_named_59 fl_X3_476 rfl (cp_if_ne _ (tgt := 79) dX3_named_62 rfl h (fun h => ?_) (fun h => ?_)))
  · refine ch_aload_n 0 (some m) dX3_named_79 rfl (mp_gA 64 dX3_named_80 fl_X3_131 rfl (ch_iload_n 3 _ dX3_named_83 rfl (mp_iald dX3_named_84 mk_64 h (fun v3 h => ?_))))
    obtain rfl := Option.some.inj h
    exact ch_goto 89 dX3_named_85 rfl (ch_ireturn _ dX3_named_89 rfl rfl hk)
  · refine ch_aload_n 0 (some m) dX3_named_65 rfl (mp_gA 65 dX3_named_66 fl_X3_134 rfl (ch_iload_n 3 _ dX3_named_69 rfl (mp_zald dX3_named_70 mk_65 h (fun v4 h => ?_))))
    refine cp_if_ne _ (tgt := 79) dX3_named_71 rfl h (fun h => ?_) (fun h => ?_)
    · refine ch_aload_n 0 (some m) dX3_named_79 rfl (mp_gA 64 dX3_named_80 fl_X3_131 rfl (ch_iload_n 3 _ dX3_named_83 rfl (mp_iald dX3_named_84 mk_64 h (fun v5 h => ?_))))
      obtain rfl := Option.some.inj h
      exact ch_goto 89 dX3_named_85 rfl (ch_ireturn _ dX3_named_89 rfl rfl hk)
    · refine ch_iload 4 _ dX3_named_74 rfl (cp_if_eq _ (tgt := 88) dX3_named_76 rfl h (fun h => ?_) (fun h => ?_))
      · obtain rfl := Option.some.inj h
        exact ch_iconst _ 5 dX3_named_88 rfl (ch_ireturn _ dX3_named_89 rfl rfl hk)
      · refine ch_aload_n 0 (some m) dX3_named_79 rfl (mp_gA 64 dX3_named_80 fl_X3_131 rfl (ch_iload_n 3 _ dX3_named_83 rfl (mp_iald dX3_named_84 mk_64 h (fun v6 h => ?_))))
        obtain rfl := Option.some.inj h
        exact ch_goto 89 dX3_named_85 rfl (ch_ireturn _ dX3_named_89 rfl rfl hk)

def m_X3_named_40 (x2 : Int32) (x3 : Int32)  (σ : ch_S) : Option (Int32 × ch_S) := m_X3_named_41 x2 x3 0 σ
theorem s_X3_named_40 {g : State} {m : Nat} {w : ch_W} {x2 : Int32} {x3 : Int32} {σ : ch_S} {res : Int32 × ch_S} {Q : Outcome → ch_W → Prop} (h : m_X3_named_40 x2 x3 σ = some res) (hk : (fun r => ch_eI Q (r.1, ch_put m w r.2)) res) : ch_FT g false mX3_named 3 40 [some (va_rf (some m)), none, some (.int x2), some (.int x3), none] [] (ch_put m w σ) Q := by
  unfold m_X3_named_40 at h
  exact ch_iconst _ 0 dX3_named_40 rfl (ch_FT.wk (ch_wS (ch_wN (ch_wS (ch_wS (ch_wN ch_w0))))) (s_X3_named_41  h hk))

def m_X3_named (x1 : Int32) (x2 : Int32) (σ : ch_S) : Option (Int32 × ch_S) := (ch_ma σ fX3_of x2).bind fun v1 => (m_X3_variableOf v1 σ).bind fun v2 => if v2 < 0 then ((ch_ma σ fX3_of x2).bind fun v4 => (m_X3_memberOf (σ.1 fX3_here) v4 0 σ).bind fun v5 => if v5 < 0 then (some ((5, σ))) else ((ch_mw σ fX3_is x2 20).bind fun σ7 => (ch_ma σ7 fX3_slot v5).bind fun v8 => (ch_mw σ7 fX3_of x2 v8).bind fun σ9 => (ch_ma σ9 fX3_memberType v5).bind fun v10 => some ((v10, σ9)))) else ((ch_ma σ fX3_statementIs x1).bind fun v11 => if v11 = 8 then ((ch_ma σ fX3_target x1).bind fun v12 => if x2 = v12 then (m_X3_named_41 x2 v2 1 σ) else (m_X3_named_40 x2 v2 σ)) else (m_X3_named_40 x2 v2 σ))
theorem s_X3_named {g : State} {m : Nat} {w : ch_W} {x1 : Int32} {x2 : Int32} {σ : ch_S} {res : Int32 × ch_S} {Q : Outcome → ch_W → Prop} (h : m_X3_named x1 x2 σ = some res) (hk : (fun r => ch_eI Q (r.1, ch_put m w r.2)) res) : ch_CT g false yX3_named 3 [.ref m, .int x1, .int x2] (ch_put m w σ) Q := by
  unfold m_X3_named at h
  refine ch_ctL mX3_named (ls := [some (va_rf (some m)), some (.int x1), some (.int x2), none, none]) q2103 rfl (ch_lyr (r := some m) (ch_lyi (ch_lyi ch_ly0))) (Nat.le_of_ble_eq_true rfl) rfl ?_
  refine ch_aload_n 0 (some m) dX3_named_0 rfl (ch_aload_n 0 (some m) dX3_named_1 rfl (mp_gA 19 dX3_named_2 fl_X3_34 rfl (ch_iload_n 2 _ dX3_named_5 rfl (mp_iald dX3_named_6 mk_19 h (fun v1 h => ?_)))))
  obtain ⟨v2, hp3, h⟩ := ch_bd h
  refine ch_iv yX3_variableOf prog_14_method_54_code 3 (some .int) (ci := 3) (q := (RX3, TX3, 109)) (b := m) (d' := 2) (av := [.int v1]) (rest := []) rfl dX3_named_7 q2104 q2106 rfl qs155 q2107 can_X3_variableOf (Nat.le_of_ble_eq_true rfl) (Nat.le_of_ble_eq_true rfl) ch_put_tag (cp_kI (v := v2) (w1 := ch_put m w σ) (fun Q' hq => s_X3_variableOf hp3 hq) ?_)
  refine ch_istore_n 3 _ (ls1 := [some (va_rf (some m)), some (.int x1), some (.int x2), some (.int v2), none]) dX3_named_10 (Nat.le_of_ble_eq_true rfl) rfl (ch_iload_n 3 _ dX3_named_11 rfl (cp_if_lt _ (tgt := 90) dX3_named_12 rfl h (fun h => ?_) (fun h => ?_)))
  · refine ch_aload_n 0 (some m) dX3_named_90 rfl (ch_aload_n 0 (some m) dX3_named_91 rfl (mp_gI 60 dX3_named_92 fl_X3_470 rfl (ch_aload_n 0 (some m) dX3_named_95 rfl (mp_gA 19 dX3_named_96 fl_X3_34 rfl (ch_iload_n 2 _ dX3_named_99 rfl (mp_iald dX3_named_100 mk_19 h (fun v4 h => ?_)))))))
    obtain ⟨v5, hp6, h⟩ := ch_bd h
    refine ch_iconst _ 0 dX3_named_101 rfl (ch_iv yX3_memberOf prog_14_method_47_code 6 (some .int) (ci := 3) (q := (RX3, TX3, 109)) (b := m) (d' := 2) (av := [.int (σ.1 fX3_here), .int v4, .int 0]) (rest := []) rfl dX3_named_102 q2064 q2066 rfl qs145 q2067 can_X3_memberOf (Nat.le_of_ble_eq_true rfl) (Nat.le_of_ble_eq_true rfl) ch_put_tag (cp_kI (v := v5) (w1 := ch_put m w σ) (fun Q' hq => s_X3_memberOf hp6 hq) ?_))
    refine ch_istore 4 _ (ls1 := [some (va_rf (some m)), some (.int x1), some (.int x2), some (.int v2), some (.int v5)]) dX3_named_105 (Nat.le_of_ble_eq_true rfl) rfl (ch_iload 4 _ dX3_named_107 rfl (cp_if_ge _ (tgt := 114) dX3_named_109 rfl h (fun h => ?_) (fun h => ?_)))
    · refine ch_aload_n 0 (some m) dX3_named_114 rfl (mp_gA 16 dX3_named_115 fl_X3_25 rfl (ch_iload_n 2 _ dX3_named_118 rfl (ch_bipush _ 20 dX3_named_119 rfl (mp_iast dX3_named_121 mk_16 rfl h (fun σ7 h => ?_)))))
      refine ch_aload_n 0 (some m) dX3_named_122 rfl (mp_gA 19 dX3_named_123 fl_X3_34 rfl (ch_iload_n 2 _ dX3_named_126 rfl (ch_aload_n 0 (some m) dX3_named_127 rfl (mp_gA 52 dX3_named_128 fl_X3_119 rfl (ch_iload 4 _ dX3_named_131 rfl (mp_iald dX3_named_133 mk_52 h (fun v8 h => ?_)))))))
      refine mp_iast dX3_named_134 mk_19 rfl h (fun σ9 h => ?_)
      refine ch_aload_n 0 (some m) dX3_named_135 rfl (mp_gA 47 dX3_named_136 fl_X3_103 rfl (ch_iload 4 _ dX3_named_139 rfl (mp_iald dX3_named_141 mk_47 h (fun v10 h => ?_))))
      obtain rfl := Option.some.inj h
      exact ch_ireturn _ dX3_named_142 rfl rfl hk
    · obtain rfl := Option.some.inj h
      exact ch_iconst _ 5 dX3_named_112 rfl (ch_ireturn _ dX3_named_113 rfl rfl hk)
  · refine ch_aload_n 0 (some m) dX3_named_15 rfl (mp_gA 26 dX3_named_16 fl_X3_46 rfl (ch_iload_n 1 _ dX3_named_19 rfl (mp_iald dX3_named_20 mk_26 h (fun v11 h => ?_))))
    refine ch_bipush _ 8 dX3_named_21 rfl (cp_icmp_ne _ _ (tgt := 40) dX3_named_23 rfl h (fun h => ?_) (fun h => ?_))
    · exact ch_FT.wk (ch_wS (ch_wN (ch_wS (ch_wS (ch_wN ch_w0))))) (s_X3_named_40  h hk)
    · refine ch_iload_n 2 _ dX3_named_26 rfl (ch_aload_n 0 (some m) dX3_named_27 rfl (mp_gA 30 dX3_named_28 fl_X3_58 rfl (ch_iload_n 1 _ dX3_named_31 rfl (mp_iald dX3_named_32 mk_30 h (fun v12 h => ?_)))))
      refine cp_icmp_ne _ _ (tgt := 40) dX3_named_33 rfl h (fun h => ?_) (fun h => ?_)
      · exact ch_FT.wk (ch_wS (ch_wN (ch_wS (ch_wS (ch_wN ch_w0))))) (s_X3_named_40  h hk)
      · exact ch_iconst _ 1 dX3_named_36 rfl (ch_goto 41 dX3_named_37 rfl (ch_FT.wk (ch_wS (ch_wN (ch_wS (ch_wS (ch_wN ch_w0))))) (s_X3_named_41  h hk)))

theorem bX3_meantClass_0 : ch_ck cX3_meantClass 0 [42, 42, 180, 0, 34, 27, 46, 182, 1, 156, 61, 42, 180, 0, 34, 27] := ch_ckof (by decide +kernel)
theorem bX3_meantClass_1 : ch_ck cX3_meantClass 16 [28, 79, 28, 156, 0, 7, 8, 167, 0, 7, 16, 10, 28, 96, 172] := ch_ckof (by decide +kernel)
theorem dX3_meantClass_0 : decode cX3_meantClass 0 = .ok (.aload_n 0, 1) := dz_42 (bX3_meantClass_0 0 _ rfl)
theorem dX3_meantClass_1 : decode cX3_meantClass 1 = .ok (.aload_n 0, 1) := dz_42 (bX3_meantClass_0 1 _ rfl)
theorem dX3_meantClass_2 : decode cX3_meantClass 2 = .ok (.getfield 34, 3) := dz_180 (bX3_meantClass_0 2 _ rfl) (bX3_meantClass_0 3 _ rfl) (bX3_meantClass_0 4 _ rfl)
theorem dX3_meantClass_5 : decode cX3_meantClass 5 = .ok (.iload_n 1, 1) := dz_27 (bX3_meantClass_0 5 _ rfl)
theorem dX3_meantClass_6 : decode cX3_meantClass 6 = .ok (.iaload, 1) := dz_46 (bX3_meantClass_0 6 _ rfl)
theorem dX3_meantClass_7 : decode cX3_meantClass 7 = .ok (.invokevirtual 412, 3) := dz_182 (bX3_meantClass_0 7 _ rfl) (bX3_meantClass_0 8 _ rfl) (bX3_meantClass_0 9 _ rfl)
theorem dX3_meantClass_10 : decode cX3_meantClass 10 = .ok (.istore_n 2, 1) := dz_61 (bX3_meantClass_0 10 _ rfl)
theorem dX3_meantClass_11 : decode cX3_meantClass 11 = .ok (.aload_n 0, 1) := dz_42 (bX3_meantClass_0 11 _ rfl)
theorem dX3_meantClass_12 : decode cX3_meantClass 12 = .ok (.getfield 34, 3) := dz_180 (bX3_meantClass_0 12 _ rfl) (bX3_meantClass_0 13 _ rfl) (bX3_meantClass_0 14 _ rfl)
theorem dX3_meantClass_15 : decode cX3_meantClass 15 = .ok (.iload_n 1, 1) := dz_27 (bX3_meantClass_0 15 _ rfl)
theorem dX3_meantClass_16 : decode cX3_meantClass 16 = .ok (.iload_n 2, 1) := dz_28 (bX3_meantClass_1 0 _ rfl)
theorem dX3_meantClass_17 : decode cX3_meantClass 17 = .ok (.iastore, 1) := dz_79 (bX3_meantClass_1 1 _ rfl)
theorem dX3_meantClass_18 : decode cX3_meantClass 18 = .ok (.iload_n 2, 1) := dz_28 (bX3_meantClass_1 2 _ rfl)
theorem dX3_meantClass_19 : decode cX3_meantClass 19 = .ok (.ifCond .ge 7, 3) := dz_156 (bX3_meantClass_1 3 _ rfl) (bX3_meantClass_1 4 _ rfl) (bX3_meantClass_1 5 _ rfl)
theorem dX3_meantClass_22 : decode cX3_meantClass 22 = .ok (.iconst 5, 1) := dz_8 (bX3_meantClass_1 6 _ rfl)
theorem dX3_meantClass_23 : decode cX3_meantClass 23 = .ok (.goto 7, 3) := dz_167 (bX3_meantClass_1 7 _ rfl) (bX3_meantClass_1 8 _ rfl) (bX3_meantClass_1 9 _ rfl)
theorem dX3_meantClass_26 : decode cX3_meantClass 26 = .ok (.bipush 10, 2) := dz_16 (bX3_meantClass_1 10 _ rfl) (bX3_meantClass_1 11 _ rfl)
theorem dX3_meantClass_28 : decode cX3_meantClass 28 = .ok (.iload_n 2, 1) := dz_28 (bX3_meantClass_1 12 _ rfl)
theorem dX3_meantClass_29 : decode cX3_meantClass 29 = .ok (.iadd, 1) := dz_96 (bX3_meantClass_1 13 _ rfl)
theorem dX3_meantClass_30 : decode cX3_meantClass 30 = .ok (.ireturn, 1) := dz_172 (bX3_meantClass_1 14 _ rfl)
def m_X3_meantClass (x1 : Int32) (σ : ch_S) : Option (Int32 × ch_S) := (ch_ma σ fX3_of x1).bind fun v1 => (m_X3_classOf v1 σ).bind fun v2 => (ch_mw σ fX3_of x1 v2).bind fun σ4 => if v2 < 0 then (some ((5, σ4))) else (some ((10 + v2, σ4)))
theorem s_X3_meantClass {g : State} {m : Nat} {w : ch_W} {x1 : Int32} {σ : ch_S} {res : Int32 × ch_S} {Q : Outcome → ch_W → Prop} (h : m_X3_meantClass x1 σ = some res) (hk : (fun r => ch_eI Q (r.1, ch_put m w r.2)) res) : ch_CT g false yX3_meantClass 3 [.ref m, .int x1] (ch_put m w σ) Q := by
  unfold m_X3_meantClass at h
  refine ch_ctL mX3_meantClass (ls := [some (va_rf (some m)), some (.int x1), none]) q2111 rfl (ch_lyr (r := some m) (ch_lyi ch_ly0)) (Nat.le_of_ble_eq_true rfl) rfl ?_
  refine ch_aload_n 0 (some m) dX3_meantClass_0 rfl (ch_aload_n 0 (some m) dX3_meantClass_1 rfl (mp_gA 19 dX3_meantClass_2 fl_X3_34 rfl (ch_iload_n 1 _ dX3_meantClass_5 rfl (mp_iald dX3_meantClass_6 mk_19 h (fun v1 h => ?_)))))
  obtain ⟨v2, hp3, h⟩ := ch_bd h
  refine ch_iv yX3_classOf prog_14_method_43_code 3 (some .int) (ci := 3) (q := (RX3, TX3, 109)) (b := m) (d' := 2) (av := [.int v1]) (rest := []) rfl dX3_meantClass_7 q2044 q2046 rfl qs140 q2047 can_X3_classOf (Nat.le_of_ble_eq_true rfl) (Nat.le_of_ble_eq_true rfl) ch_put_tag (cp_kI (v := v2) (w1 := ch_put m w σ) (fun Q' hq => s_X3_classOf hp3 hq) ?_)
  refine ch_istore_n 2 _ (ls1 := [some (va_rf (some m)), some (.int x1), some (.int v2)]) dX3_meantClass_10 (Nat.le_of_ble_eq_true rfl) rfl (ch_aload_n 0 (some m) dX3_meantClass_11 rfl (mp_gA 19 dX3_meantClass_12 fl_X3_34 rfl (ch_iload_n 1 _ dX3_meantClass_15 rfl (ch_iload_n 2 _ dX3_meantClass_16 rfl (mp_iast dX3_meantClass_17 mk_19 rfl h (fun σ4 h => ?_))))))
  refine ch_iload_n 2 _ dX3_meantClass_18 rfl (cp_if_ge _ (tgt := 26) dX3_meantClass_19 rfl h (fun h => ?_) (fun h => ?_))
  · obtain rfl := Option.some.inj h
    exact ch_bipush _ 10 dX3_meantClass_26 rfl (ch_iload_n 2 _ dX3_meantClass_28 rfl (ch_iadd _ _ dX3_meantClass_29 (ch_ireturn _ dX3_meantClass_30 rfl rfl hk)))
  · obtain rfl := Option.some.inj h
    exact ch_iconst _ 5 dX3_meantClass_22 rfl (ch_goto 30 dX3_meantClass_23 rfl (ch_ireturn _ dX3_meantClass_30 rfl rfl hk))

theorem bX3_field_0 : ch_ck cX3_field 0 [42, 180, 0, 37, 28, 46, 62, 29, 5, 160, 0, 24, 42, 180, 0, 34] := ch_ckof (by decide +kernel)
theorem bX3_field_1 : ch_ck cX3_field 16 [27, 46, 16, 7, 160, 0, 13, 42, 180, 0, 25, 27, 16, 18, 79, 3] := ch_ckof (by decide +kernel)
theorem bX3_field_2 : ch_ck cX3_field 32 [172, 29, 16, 10, 162, 0, 7, 2, 167, 0, 18, 42, 29, 16, 10, 100] := ch_ckof (by decide +kernel)
theorem bX3_field_3 : ch_ck cX3_field 48 [42, 180, 0, 34, 27, 46, 3, 182, 1, 166, 54, 4, 21, 4, 156, 0] := ch_ckof (by decide +kernel)
theorem bX3_field_4 : ch_ck cX3_field 64 [5, 8, 172, 42, 180, 0, 34, 27, 42, 180, 0, 119, 21, 4, 46, 79] := ch_ckof (by decide +kernel)
theorem bX3_field_5 : ch_ck cX3_field 80 [42, 180, 0, 103, 21, 4, 46, 172] := ch_ckof (by decide +kernel)
theorem dX3_field_0 : decode cX3_field 0 = .ok (.aload_n 0, 1) := dz_42 (bX3_field_0 0 _ rfl)
theorem dX3_field_1 : decode cX3_field 1 = .ok (.getfield 37, 3) := dz_180 (bX3_field_0 1 _ rfl) (bX3_field_0 2 _ rfl) (bX3_field_0 3 _ rfl)
theorem dX3_field_4 : decode cX3_field 4 = .ok (.iload_n 2, 1) := dz_28 (bX3_field_0 4 _ rfl)
theorem dX3_field_5 : decode cX3_field 5 = .ok (.iaload, 1) := dz_46 (bX3_field_0 5 _ rfl)
theorem dX3_field_6 : decode cX3_field 6 = .ok (.istore_n 3, 1) := dz_62 (bX3_field_0 6 _ rfl)
theorem dX3_field_7 : decode cX3_field 7 = .ok (.iload_n 3, 1) := dz_29 (bX3_field_0 7 _ rfl)
theorem dX3_field_8 : decode cX3_field 8 = .ok (.iconst 2, 1) := dz_5 (bX3_field_0 8 _ rfl)
theorem dX3_field_9 : decode cX3_field 9 = .ok (.if_icmp .ne 24, 3) := dz_160 (bX3_field_0 9 _ rfl) (bX3_field_0 10 _ rfl) (bX3_field_0 11 _ rfl)
theorem dX3_field_12 : decode cX3_field 12 = .ok (.aload_n 0, 1) := dz_42 (bX3_field_0 12 _ rfl)
theorem dX3_field_13 : decode cX3_field 13 = .ok (.getfield 34, 3) := dz_180 (bX3_field_0 13 _ rfl) (bX3_field_0 14 _ rfl) (bX3_field_0 15 _ rfl)
theorem dX3_field_16 : decode cX3_field 16 = .ok (.iload_n 1, 1) := dz_27 (bX3_field_1 0 _ rfl)
theorem dX3_field_17 : decode cX3_field 17 = .ok (.iaload, 1) := dz_46 (bX3_field_1 1 _ rfl)
theorem dX3_field_18 : decode cX3_field 18 = .ok (.bipush 7, 2) := dz_16 (bX3_field_1 2 _ rfl) (bX3_field_1 3 _ rfl)
theorem dX3_field_20 : decode cX3_field 20 = .ok (.if_icmp .ne 13, 3) := dz_160 (bX3_field_1 4 _ rfl) (bX3_field_1 5 _ rfl) (bX3_field_1 6 _ rfl)
theorem dX3_field_23 : decode cX3_field 23 = .ok (.aload_n 0, 1) := dz_42 (bX3_field_1 7 _ rfl)
theorem dX3_field_24 : decode cX3_field 24 = .ok (.getfield 25, 3) := dz_180 (bX3_field_1 8 _ rfl) (bX3_field_1 9 _ rfl) (bX3_field_1 10 _ rfl)
theorem dX3_field_27 : decode cX3_field 27 = .ok (.iload_n 1, 1) := dz_27 (bX3_field_1 11 _ rfl)
theorem dX3_field_28 : decode cX3_field 28 = .ok (.bipush 18, 2) := dz_16 (bX3_field_1 12 _ rfl) (bX3_field_1 13 _ rfl)
theorem dX3_field_30 : decode cX3_field 30 = .ok (.iastore, 1) := dz_79 (bX3_field_1 14 _ rfl)
theorem dX3_field_31 : decode cX3_field 31 = .ok (.iconst 0, 1) := dz_3 (bX3_field_1 15 _ rfl)
theorem dX3_field_32 : decode cX3_field 32 = .ok (.ireturn, 1) := dz_172 (bX3_field_2 0 _ rfl)
theorem dX3_field_33 : decode cX3_field 33 = .ok (.iload_n 3, 1) := dz_29 (bX3_field_2 1 _ rfl)
theorem dX3_field_34 : decode cX3_field 34 = .ok (.bipush 10, 2) := dz_16 (bX3_field_2 2 _ rfl) (bX3_field_2 3 _ rfl)
theorem dX3_field_36 : decode cX3_field 36 = .ok (.if_icmp .ge 7, 3) := dz_162 (bX3_field_2 4 _ rfl) (bX3_field_2 5 _ rfl) (bX3_field_2 6 _ rfl)
theorem dX3_field_39 : decode cX3_field 39 = .ok (.iconst (-1), 1) := dz_2 (bX3_field_2 7 _ rfl)
theorem dX3_field_40 : decode cX3_field 40 = .ok (.goto 18, 3) := dz_167 (bX3_field_2 8 _ rfl) (bX3_field_2 9 _ rfl) (bX3_field_2 10 _ rfl)
theorem dX3_field_43 : decode cX3_field 43 = .ok (.aload_n 0, 1) := dz_42 (bX3_field_2 11 _ rfl)
theorem dX3_field_44 : decode cX3_field 44 = .ok (.iload_n 3, 1) := dz_29 (bX3_field_2 12 _ rfl)
theorem dX3_field_45 : decode cX3_field 45 = .ok (.bipush 10, 2) := dz_16 (bX3_field_2 13 _ rfl) (bX3_field_2 14 _ rfl)
theorem dX3_field_47 : decode cX3_field 47 = .ok (.isub, 1) := dz_100 (bX3_field_2 15 _ rfl)
theorem dX3_field_48 : decode cX3_field 48 = .ok (.aload_n 0, 1) := dz_42 (bX3_field_3 0 _ rfl)
theorem dX3_field_49 : decode cX3_field 49 = .ok (.getfield 34, 3) := dz_180 (bX3_field_3 1 _ rfl) (bX3_field_3 2 _ rfl) (bX3_field_3 3 _ rfl)
theorem dX3_field_52 : decode cX3_field 52 = .ok (.iload_n 1, 1) := dz_27 (bX3_field_3 4 _ rfl)
theorem dX3_field_53 : decode cX3_field 53 = .ok (.iaload, 1) := dz_46 (bX3_field_3 5 _ rfl)
theorem dX3_field_54 : decode cX3_field 54 = .ok (.iconst 0, 1) := dz_3 (bX3_field_3 6 _ rfl)
theorem dX3_field_55 : decode cX3_field 55 = .ok (.invokevirtual 422, 3) := dz_182 (bX3_field_3 7 _ rfl) (bX3_field_3 8 _ rfl) (bX3_field_3 9 _ rfl)
theorem dX3_field_58 : decode cX3_field 58 = .ok (.istore 4, 2) := dz_54 (bX3_field_3 10 _ rfl) (bX3_field_3 11 _ rfl)
theorem dX3_field_60 : decode cX3_field 60 = .ok (.iload 4, 2) := dz_21 (bX3_field_3 12 _ rfl) (bX3_field_3 13 _ rfl)
theorem dX3_field_62 : decode cX3_field 62 = .ok (.ifCond .ge 5, 3) := dz_156 (bX3_field_3 14 _ rfl) (bX3_field_3 15 _ rfl) (bX3_field_4 0 _ rfl)
theorem dX3_field_65 : decode cX3_field 65 = .ok (.iconst 5, 1) := dz_8 (bX3_field_4 1 _ rfl)
theorem dX3_field_66 : decode cX3_field 66 = .ok (.ireturn, 1) := dz_172 (bX3_field_4 2 _ rfl)
theorem dX3_field_67 : decode cX3_field 67 = .ok (.aload_n 0, 1) := dz_42 (bX3_field_4 3 _ rfl)
theorem dX3_field_68 : decode cX3_field 68 = .ok (.getfield 34, 3) := dz_180 (bX3_field_4 4 _ rfl) (bX3_field_4 5 _ rfl) (bX3_field_4 6 _ rfl)
theorem dX3_field_71 : decode cX3_field 71 = .ok (.iload_n 1, 1) := dz_27 (bX3_field_4 7 _ rfl)
theorem dX3_field_72 : decode cX3_field 72 = .ok (.aload_n 0, 1) := dz_42 (bX3_field_4 8 _ rfl)
theorem dX3_field_73 : decode cX3_field 73 = .ok (.getfield 119, 3) := dz_180 (bX3_field_4 9 _ rfl) (bX3_field_4 10 _ rfl) (bX3_field_4 11 _ rfl)
theorem dX3_field_76 : decode cX3_field 76 = .ok (.iload 4, 2) := dz_21 (bX3_field_4 12 _ rfl) (bX3_field_4 13 _ rfl)
theorem dX3_field_78 : decode cX3_field 78 = .ok (.iaload, 1) := dz_46 (bX3_field_4 14 _ rfl)
theorem dX3_field_79 : decode cX3_field 79 = .ok (.iastore, 1) := dz_79 (bX3_field_4 15 _ rfl)
theorem dX3_field_80 : decode cX3_field 80 = .ok (.aload_n 0, 1) := dz_42 (bX3_field_5 0 _ rfl)
theorem dX3_field_81 : decode cX3_field 81 = .ok (.getfield 103, 3) := dz_180 (bX3_field_5 1 _ rfl) (bX3_field_5 2 _ rfl) (bX3_field_5 3 _ rfl)
theorem dX3_field_84 : decode cX3_field 84 = .ok (.iload 4, 2) := dz_21 (bX3_field_5 4 _ rfl) (bX3_field_5 5 _ rfl)
theorem dX3_field_86 : decode cX3_field 86 = .ok (.iaload, 1) := dz_46 (bX3_field_5 6 _ rfl)
theorem dX3_field_87 : decode cX3_field 87 = .ok (.ireturn, 1) := dz_172 (bX3_field_5 7 _ rfl)
def m_X3_field_58 (x1 : Int32) (y0 : Int32) (σ : ch_S) : Option (Int32 × ch_S) := if y0 < 0 then (some ((5, σ))) else ((ch_ma σ fX3_slot y0).bind fun v1 => (ch_mw σ fX3_of x1 v1).bind fun σ2 => (ch_ma σ2 fX3_memberType y0).bind fun v3 => some ((v3, σ2)))
theorem s_X3_field_58 {g : State} {m : Nat} {w : ch_W} {x1 : Int32} {y0 : Int32} {σ : ch_S} {res : Int32 × ch_S} {Q : Outcome → ch_W → Prop} (h : m_X3_field_58 x1 y0 σ = some res) (hk : (fun r => ch_eI Q (r.1, ch_put m w r.2)) res) : ch_FT g false mX3_field 3 58 [some (va_rf (some m)), some (.int x1), none, none, none] [.int y0] (ch_put m w σ) Q := by
  unfold m_X3_field_58 at h
  refine ch_istore 4 _ (ls1 := [some (va_rf (some m)), some (.int x1), none, none, some (.int y0)]) dX3_field_58 (Nat.le_of_ble_eq_true rfl) rfl (ch_iload 4 _ dX3_field_60 rfl (cp_if_ge _ (tgt := 67) dX3_field_62 rfl h (fun h => ?_) (fun h => ?_)))
  · refine ch_aload_n 0 (some m) dX3_field_67 rfl (mp_gA 19 dX3_field_68 fl_X3_34 rfl (ch_iload_n 1 _ dX3_field_71 rfl (ch_aload_n 0 (some m) dX3_field_72 rfl (mp_gA 52 dX3_field_73 fl_X3_119 rfl (ch_iload 4 _ dX3_field_76 rfl (mp_iald dX3_field_78 mk_52 h (fun v1 h => ?_)))))))
    refine mp_iast dX3_field_79 mk_19 rfl h (fun σ2 h => ?_)
    refine ch_aload_n 0 (some m) dX3_field_80 rfl (mp_gA 47 dX3_field_81 fl_X3_103 rfl (ch_iload 4 _ dX3_field_84 rfl (mp_iald dX3_field_86 mk_47 h (fun v3 h => ?_))))
    obtain rfl := Option.some.inj h
    exact ch_ireturn _ dX3_field_87 rfl rfl hk
  · obtain rfl := Option.some.inj h
    exact ch_iconst _ 5 dX3_field_65 rfl (ch_ireturn _ dX3_field_66 rfl rfl hk)

def m_X3_field_33 (x1 : Int32) (x3 : Int32)  (σ : ch_S) : Option (Int32 × ch_S) := if x3 < 10 then (m_X3_field_58 x1 (-1) σ) else ((ch_ma σ fX3_of x1).bind fun v1 => (m_X3_memberOf (x3 - 10) v1 0 σ).bind fun v2 => m_X3_field_58 x1 v2 σ)
theorem s_X3_field_33 {g : State} {m : Nat} {w : ch_W} {x1 : Int32} {x3 : Int32} {σ : ch_S} {res : Int32 × ch_S} {Q : Outcome → ch_W → Prop} (h : m_X3_field_33 x1 x3 σ = some res) (hk : (fun r => ch_eI Q (r.1, ch_put m w r.2)) res) : ch_FT g false mX3_field 3 33 [some (va_rf (some m)), some (.int x1), none, some (.int x3), none] [] (ch_put m w σ) Q := by
  unfold m_X3_field_33 at h
  refine ch_iload_n 3 _ dX3_field_33 rfl (ch_bipush _ 10 dX3_field_34 rfl (cp_icmp_ge _ _ (tgt := 43) dX3_field_36 rfl h (fun h => ?_) (fun h => ?_)))
  · refine ch_aload_n 0 (some m) dX3_field_43 rfl (ch_iload_n 3 _ dX3_field_44 rfl (ch_bipush _ 10 dX3_field_45 rfl (ch_isub _ _ dX3_field_47 (ch_aload_n 0 (some m) dX3_field_48 rfl (mp_gA 19 dX3_field_49 fl_X3_34 rfl (ch_iload_n 1 _ dX3_field_52 rfl (mp_iald dX3_field_53 mk_19 h (fun v1 h => ?_))))))))
    obtain ⟨v2, hp3, h⟩ := ch_bd h
    refine ch_iconst _ 0 dX3_field_54 rfl (ch_iv yX3_memberOf prog_14_method_47_code 6 (some .int) (ci := 3) (q := (RX3, TX3, 109)) (b := m) (d' := 2) (av := [.int (x3 - 10), .int v1, .int 0]) (rest := []) rfl dX3_field_55 q2064 q2066 rfl qs145 q2067 can_X3_memberOf (Nat.le_of_ble_eq_true rfl) (Nat.le_of_ble_eq_true rfl) ch_put_tag (cp_kI (v := v2) (w1 := ch_put m w σ) (fun Q' hq => s_X3_memberOf hp3 hq) ?_))
    exact ch_FT.wk (ch_wS (ch_wS (ch_wN (ch_wN (ch_wN ch_w0))))) (s_X3_field_58  h hk)
  · exact ch_iconst _ (-1) dX3_field_39 rfl (ch_goto 58 dX3_field_40 rfl (ch_FT.wk (ch_wS (ch_wS (ch_wN (ch_wN (ch_wN ch_w0))))) (s_X3_field_58  h hk)))

def m_X3_field (x1 : Int32) (x2 : Int32) (σ : ch_S) : Option (Int32 × ch_S) := (ch_ma σ fX3_typeOf x2).bind fun v1 => if v1 = 2 then ((ch_ma σ fX3_of x1).bind fun v2 => if v2 = 7 then ((ch_mw σ fX3_is x1 18).bind fun σ3 => some ((0, σ3))) else (m_X3_field_33 x1 v1 σ)) else (m_X3_field_33 x1 v1 σ)
theorem s_X3_field {g : State} {m : Nat} {w : ch_W} {x1 : Int32} {x2 : Int32} {σ : ch_S} {res : Int32 × ch_S} {Q : Outcome → ch_W → Prop} (h : m_X3_field x1 x2 σ = some res) (hk : (fun r => ch_eI Q (r.1, ch_put m w r.2)) res) : ch_CT g false yX3_field 3 [.ref m, .int x1, .int x2] (ch_put m w σ) Q := by
  unfold m_X3_field at h
  refine ch_ctL mX3_field (ls := [some (va_rf (some m)), some (.int x1), some (.int x2), none, none]) q2115 rfl (ch_lyr (r := some m) (ch_lyi (ch_lyi ch_ly0))) (Nat.le_of_ble_eq_true rfl) rfl ?_
  refine ch_aload_n 0 (some m) dX3_field_0 rfl (mp_gA 20 dX3_field_1 fl_X3_37 rfl (ch_iload_n 2 _ dX3_field_4 rfl (mp_iald dX3_field_5 mk_20 h (fun v1 h => ?_))))
  refine ch_istore_n 3 _ (ls1 := [some (va_rf (some m)), some (.int x1), some (.int x2), some (.int v1), none]) dX3_field_6 (Nat.le_of_ble_eq_true rfl) rfl (ch_iload_n 3 _ dX3_field_7 rfl (ch_iconst _ 2 dX3_field_8 rfl (cp_icmp_ne _ _ (tgt := 33) dX3_field_9 rfl h (fun h => ?_) (fun h => ?_))))
  · exact ch_FT.wk (ch_wS (ch_wS (ch_wN (ch_wS (ch_wN ch_w0))))) (s_X3_field_33  h hk)
  · refine ch_aload_n 0 (some m) dX3_field_12 rfl (mp_gA 19 dX3_field_13 fl_X3_34 rfl (ch_iload_n 1 _ dX3_field_16 rfl (mp_iald dX3_field_17 mk_19 h (fun v2 h => ?_))))
    refine ch_bipush _ 7 dX3_field_18 rfl (cp_icmp_ne _ _ (tgt := 33) dX3_field_20 rfl h (fun h => ?_) (fun h => ?_))
    · exact ch_FT.wk (ch_wS (ch_wS (ch_wN (ch_wS (ch_wN ch_w0))))) (s_X3_field_33  h hk)
    · refine ch_aload_n 0 (some m) dX3_field_23 rfl (mp_gA 16 dX3_field_24 fl_X3_25 rfl (ch_iload_n 1 _ dX3_field_27 rfl (ch_bipush _ 18 dX3_field_28 rfl (mp_iast dX3_field_30 mk_16 rfl h (fun σ3 h => ?_)))))
      obtain rfl := Option.some.inj h
      exact ch_iconst _ 0 dX3_field_31 rfl (ch_ireturn _ dX3_field_32 rfl rfl hk)

theorem bX3_isUnder_0 : ch_ck cX3_isUnder 0 [27, 62, 29, 155, 0, 18, 29, 28, 159, 0, 13, 42, 180, 0, 88, 29] := ch_ckof (by decide +kernel)
theorem bX3_isUnder_1 : ch_ck cX3_isUnder 16 [46, 62, 167, 255, 240, 29, 28, 160, 0, 7, 4, 167, 0, 4, 3, 172] := ch_ckof (by decide +kernel)
theorem dX3_isUnder_0 : decode cX3_isUnder 0 = .ok (.iload_n 1, 1) := dz_27 (bX3_isUnder_0 0 _ rfl)
theorem dX3_isUnder_1 : decode cX3_isUnder 1 = .ok (.istore_n 3, 1) := dz_62 (bX3_isUnder_0 1 _ rfl)
theorem dX3_isUnder_2 : decode cX3_isUnder 2 = .ok (.iload_n 3, 1) := dz_29 (bX3_isUnder_0 2 _ rfl)
theorem dX3_isUnder_3 : decode cX3_isUnder 3 = .ok (.ifCond .lt 18, 3) := dz_155 (bX3_isUnder_0 3 _ rfl) (bX3_isUnder_0 4 _ rfl) (bX3_isUnder_0 5 _ rfl)
theorem dX3_isUnder_6 : decode cX3_isUnder 6 = .ok (.iload_n 3, 1) := dz_29 (bX3_isUnder_0 6 _ rfl)
theorem dX3_isUnder_7 : decode cX3_isUnder 7 = .ok (.iload_n 2, 1) := dz_28 (bX3_isUnder_0 7 _ rfl)
theorem dX3_isUnder_8 : decode cX3_isUnder 8 = .ok (.if_icmp .eq 13, 3) := dz_159 (bX3_isUnder_0 8 _ rfl) (bX3_isUnder_0 9 _ rfl) (bX3_isUnder_0 10 _ rfl)
theorem dX3_isUnder_11 : decode cX3_isUnder 11 = .ok (.aload_n 0, 1) := dz_42 (bX3_isUnder_0 11 _ rfl)
theorem dX3_isUnder_12 : decode cX3_isUnder 12 = .ok (.getfield 88, 3) := dz_180 (bX3_isUnder_0 12 _ rfl) (bX3_isUnder_0 13 _ rfl) (bX3_isUnder_0 14 _ rfl)
theorem dX3_isUnder_15 : decode cX3_isUnder 15 = .ok (.iload_n 3, 1) := dz_29 (bX3_isUnder_0 15 _ rfl)
theorem dX3_isUnder_16 : decode cX3_isUnder 16 = .ok (.iaload, 1) := dz_46 (bX3_isUnder_1 0 _ rfl)
theorem dX3_isUnder_17 : decode cX3_isUnder 17 = .ok (.istore_n 3, 1) := dz_62 (bX3_isUnder_1 1 _ rfl)
theorem dX3_isUnder_18 : decode cX3_isUnder 18 = .ok (.goto (-16), 3) := dz_167 (bX3_isUnder_1 2 _ rfl) (bX3_isUnder_1 3 _ rfl) (bX3_isUnder_1 4 _ rfl)
theorem dX3_isUnder_21 : decode cX3_isUnder 21 = .ok (.iload_n 3, 1) := dz_29 (bX3_isUnder_1 5 _ rfl)
theorem dX3_isUnder_22 : decode cX3_isUnder 22 = .ok (.iload_n 2, 1) := dz_28 (bX3_isUnder_1 6 _ rfl)
theorem dX3_isUnder_23 : decode cX3_isUnder 23 = .ok (.if_icmp .ne 7, 3) := dz_160 (bX3_isUnder_1 7 _ rfl) (bX3_isUnder_1 8 _ rfl) (bX3_isUnder_1 9 _ rfl)
theorem dX3_isUnder_26 : decode cX3_isUnder 26 = .ok (.iconst 1, 1) := dz_4 (bX3_isUnder_1 10 _ rfl)
theorem dX3_isUnder_27 : decode cX3_isUnder 27 = .ok (.goto 4, 3) := dz_167 (bX3_isUnder_1 11 _ rfl) (bX3_isUnder_1 12 _ rfl) (bX3_isUnder_1 13 _ rfl)
theorem dX3_isUnder_30 : decode cX3_isUnder 30 = .ok (.iconst 0, 1) := dz_3 (bX3_isUnder_1 14 _ rfl)
theorem dX3_isUnder_31 : decode cX3_isUnder 31 = .ok (.ireturn, 1) := dz_172 (bX3_isUnder_1 15 _ rfl)
def m_X3_isUnder_21 (x2 : Int32) (x3 : Int32)  (σ : ch_S) : Option (Int32) := if x3 = x2 then (some (1)) else (some (0))
theorem s_X3_isUnder_21 {g : State} {m : Nat} {w : ch_W} {x2 : Int32} {x3 : Int32} {σ : ch_S} {res : Int32} {Q : Outcome → ch_W → Prop} (h : m_X3_isUnder_21 x2 x3 σ = some res) (hk : (fun r => ch_eI Q (r, ch_put m w σ)) res) : ch_FT g false mX3_isUnder 2 21 [none, none, some (.int x2), some (.int x3)] [] (ch_put m w σ) Q := by
  unfold m_X3_isUnder_21 at h
  refine ch_iload_n 3 _ dX3_isUnder_21 rfl (ch_iload_n 2 _ dX3_isUnder_22 rfl (cp_icmp_ne _ _ (tgt := 30) dX3_isUnder_23 rfl h (fun h => ?_) (fun h => ?_)))
  · obtain rfl := Option.some.inj h
    exact ch_iconst _ 0 dX3_isUnder_30 rfl (ch_ireturn _ dX3_isUnder_31 rfl rfl hk)
  · obtain rfl := Option.some.inj h
    exact ch_iconst _ 1 dX3_isUnder_26 rfl (ch_goto 31 dX3_isUnder_27 rfl (ch_ireturn _ dX3_isUnder_31 rfl rfl hk))

def m_X3_isUnder_2 (x2 : Int32) (x3 : Int32)  (σ : ch_S) : Option (Int32 ⊕ (Int32)) := if x3 < 0 then ((m_X3_isUnder_21 x2 x3 σ).bind fun r => some (.inr (r))) else (if x3 = x2 then ((m_X3_isUnder_21 x2 x3 σ).bind fun r => some (.inr (r))) else ((ch_ma σ fX3_parent x3).bind fun v1 => some (.inl (v1))))
theorem s_X3_isUnder_2 {g : State} {m : Nat} {w : ch_W} {x2 : Int32} {x3 : Int32} {σ : ch_S} {res : Int32 ⊕ (Int32)} {Q : Outcome → ch_W → Prop} (h : m_X3_isUnder_2 x2 x3 σ = some res) (hk : (ch_sm (fun s => ch_FT g false mX3_isUnder 2 2 [some (va_rf (some m)), none, some (.int x2), some (.int s)] [] (ch_put m w σ) Q) (fun r => ch_eI Q (r, ch_put m w σ))) res) : ch_FT g false mX3_isUnder 2 2 [some (va_rf (some m)), none, some (.int x2), some (.int x3)] [] (ch_put m w σ) Q := by
  unfold m_X3_isUnder_2 at h
  refine ch_iload_n 3 _ dX3_isUnder_2 rfl (cp_if_lt _ (tgt := 21) dX3_isUnder_3 rfl h (fun h => ?_) (fun h => ?_))
  · obtain ⟨r, hr, h⟩ := ch_bd h
    obtain rfl := Option.some.inj h
    exact ch_FT.wk (ch_wN (ch_wN (ch_wS (ch_wS ch_w0)))) (s_X3_isUnder_21  hr hk)
  · refine ch_iload_n 3 _ dX3_isUnder_6 rfl (ch_iload_n 2 _ dX3_isUnder_7 rfl (cp_icmp_eq _ _ (tgt := 21) dX3_isUnder_8 rfl h (fun h => ?_) (fun h => ?_)))
    · obtain ⟨r, hr, h⟩ := ch_bd h
      obtain rfl := Option.some.inj h
      exact ch_FT.wk (ch_wN (ch_wN (ch_wS (ch_wS ch_w0)))) (s_X3_isUnder_21  hr hk)
    · refine ch_aload_n 0 (some m) dX3_isUnder_11 rfl (mp_gA 41 dX3_isUnder_12 fl_X3_88 rfl (ch_iload_n 3 _ dX3_isUnder_15 rfl (mp_iald dX3_isUnder_16 mk_41 h (fun v1 h => ?_))))
      refine ch_istore_n 3 _ (ls1 := [some (va_rf (some m)), none, some (.int x2), some (.int v1)]) dX3_isUnder_17 (Nat.le_of_ble_eq_true rfl) rfl (ch_goto 2 dX3_isUnder_18 rfl (ch_FT.wk (ch_wS (ch_wN (ch_wS (ch_wS ch_w0)))) ?_))
      obtain rfl := Option.some.inj h
      exact hk
theorem sl_X3_isUnder_2 {g : State} {m : Nat} {w : ch_W} {x2 : Int32} {σ : ch_S} {a : Int32} {res : Int32} {Q : Outcome → ch_W → Prop} (h : ch_loop (fun (s : Int32) => m_X3_isUnder_2 x2 s σ) a = some res) (hk : (fun r => ch_eI Q (r, ch_put m w σ)) res) : ch_FT g false mX3_isUnder 2 2 [some (va_rf (some m)), none, some (.int x2), some (.int a)] [] (ch_put m w σ) Q := by
  refine ch_loop_ind (fun (a : Int32) (r : Int32) => (fun r => ch_eI Q (r, ch_put m w σ)) r → ch_FT g false mX3_isUnder 2 2 [some (va_rf (some m)), none, some (.int x2), some (.int a)] [] (ch_put m w σ) Q) ?_ ?_ a res h hk
  · intro a a2 b h1 ih hk
    exact s_X3_isUnder_2  h1 (ih hk)
  · intro a b h1 hk
    exact s_X3_isUnder_2  h1 hk

def m_X3_isUnder (x1 : Int32) (x2 : Int32) (σ : ch_S) : Option (Int32) := ch_loop (fun (s : Int32) => m_X3_isUnder_2 x2 s σ) (x1)
theorem s_X3_isUnder {g : State} {m : Nat} {w : ch_W} {x1 : Int32} {x2 : Int32} {σ : ch_S} {res : Int32} {Q : Outcome → ch_W → Prop} (h : m_X3_isUnder x1 x2 σ = some res) (hk : (fun r => ch_eI Q (r, ch_put m w σ)) res) : ch_CT g false yX3_isUnder 2 [.ref m, .int x1, .int x2] (ch_put m w σ) Q := by
  unfold m_X3_isUnder at h
  refine ch_ctL mX3_isUnder (ls := [some (va_rf (some m)), some (.int x1), some (.int x2), none]) q2127 rfl (ch_lyr (r := some m) (ch_lyi (ch_lyi ch_ly0))) (Nat.le_of_ble_eq_true rfl) rfl ?_
  exact ch_iload_n 1 _ dX3_isUnder_0 rfl (ch_istore_n 3 _ (ls1 := [some (va_rf (some m)), some (.int x1), some (.int x2), some (.int x1)]) dX3_isUnder_1 (Nat.le_of_ble_eq_true rfl) rfl (ch_FT.wk (ch_wS (ch_wN (ch_wS (ch_wS ch_w0)))) (sl_X3_isUnder_2  h hk)))

theorem bX3_isSub_0 : ch_ck cX3_isSub 0 [27, 7, 160, 0, 25, 28, 16, 10, 162, 0, 13, 28, 5, 159, 0, 8] := ch_ckof (by decide +kernel)
theorem bX3_isSub_1 : ch_ck cX3_isSub 16 [28, 7, 160, 0, 7, 4, 167, 0, 4, 3, 172, 27, 28, 160, 0, 8] := ch_ckof (by decide +kernel)
theorem bX3_isSub_2 : ch_ck cX3_isSub 32 [27, 8, 160, 0, 30, 27, 16, 10, 161, 0, 28, 28, 16, 10, 161, 0] := ch_ckof (by decide +kernel)
theorem bX3_isSub_3 : ch_ck cX3_isSub 48 [22, 42, 27, 16, 10, 100, 28, 16, 10, 100, 182, 1, 159, 153, 0, 7] := ch_ckof (by decide +kernel)
theorem bX3_isSub_4 : ch_ck cX3_isSub 64 [4, 167, 0, 4, 3, 172] := ch_ckof (by decide +kernel)
theorem dX3_isSub_0 : decode cX3_isSub 0 = .ok (.iload_n 1, 1) := dz_27 (bX3_isSub_0 0 _ rfl)
theorem dX3_isSub_1 : decode cX3_isSub 1 = .ok (.iconst 4, 1) := dz_7 (bX3_isSub_0 1 _ rfl)
theorem dX3_isSub_2 : decode cX3_isSub 2 = .ok (.if_icmp .ne 25, 3) := dz_160 (bX3_isSub_0 2 _ rfl) (bX3_isSub_0 3 _ rfl) (bX3_isSub_0 4 _ rfl)
theorem dX3_isSub_5 : decode cX3_isSub 5 = .ok (.iload_n 2, 1) := dz_28 (bX3_isSub_0 5 _ rfl)
theorem dX3_isSub_6 : decode cX3_isSub 6 = .ok (.bipush 10, 2) := dz_16 (bX3_isSub_0 6 _ rfl) (bX3_isSub_0 7 _ rfl)
theorem dX3_isSub_8 : decode cX3_isSub 8 = .ok (.if_icmp .ge 13, 3) := dz_162 (bX3_isSub_0 8 _ rfl) (bX3_isSub_0 9 _ rfl) (bX3_isSub_0 10 _ rfl)
theorem dX3_isSub_11 : decode cX3_isSub 11 = .ok (.iload_n 2, 1) := dz_28 (bX3_isSub_0 11 _ rfl)
theorem dX3_isSub_12 : decode cX3_isSub 12 = .ok (.iconst 2, 1) := dz_5 (bX3_isSub_0 12 _ rfl)
theorem dX3_isSub_13 : decode cX3_isSub 13 = .ok (.if_icmp .eq 8, 3) := dz_159 (bX3_isSub_0 13 _ rfl) (bX3_isSub_0 14 _ rfl) (bX3_isSub_0 15 _ rfl)
theorem dX3_isSub_16 : decode cX3_isSub 16 = .ok (.iload_n 2, 1) := dz_28 (bX3_isSub_1 0 _ rfl)
theorem dX3_isSub_17 : decode cX3_isSub 17 = .ok (.iconst 4, 1) := dz_7 (bX3_isSub_1 1 _ rfl)
theorem dX3_isSub_18 : decode cX3_isSub 18 = .ok (.if_icmp .ne 7, 3) := dz_160 (bX3_isSub_1 2 _ rfl) (bX3_isSub_1 3 _ rfl) (bX3_isSub_1 4 _ rfl)
theorem dX3_isSub_21 : decode cX3_isSub 21 = .ok (.iconst 1, 1) := dz_4 (bX3_isSub_1 5 _ rfl)
theorem dX3_isSub_22 : decode cX3_isSub 22 = .ok (.goto 4, 3) := dz_167 (bX3_isSub_1 6 _ rfl) (bX3_isSub_1 7 _ rfl) (bX3_isSub_1 8 _ rfl)
theorem dX3_isSub_25 : decode cX3_isSub 25 = .ok (.iconst 0, 1) := dz_3 (bX3_isSub_1 9 _ rfl)
theorem dX3_isSub_26 : decode cX3_isSub 26 = .ok (.ireturn, 1) := dz_172 (bX3_isSub_1 10 _ rfl)
theorem dX3_isSub_27 : decode cX3_isSub 27 = .ok (.iload_n 1, 1) := dz_27 (bX3_isSub_1 11 _ rfl)
theorem dX3_isSub_28 : decode cX3_isSub 28 = .ok (.iload_n 2, 1) := dz_28 (bX3_isSub_1 12 _ rfl)
theorem dX3_isSub_29 : decode cX3_isSub 29 = .ok (.if_icmp .ne 8, 3) := dz_160 (bX3_isSub_1 13 _ rfl) (bX3_isSub_1 14 _ rfl) (bX3_isSub_1 15 _ rfl)
theorem dX3_isSub_32 : decode cX3_isSub 32 = .ok (.iload_n 1, 1) := dz_27 (bX3_isSub_2 0 _ rfl)
theorem dX3_isSub_33 : decode cX3_isSub 33 = .ok (.iconst 5, 1) := dz_8 (bX3_isSub_2 1 _ rfl)
theorem dX3_isSub_34 : decode cX3_isSub 34 = .ok (.if_icmp .ne 30, 3) := dz_160 (bX3_isSub_2 2 _ rfl) (bX3_isSub_2 3 _ rfl) (bX3_isSub_2 4 _ rfl)
theorem dX3_isSub_37 : decode cX3_isSub 37 = .ok (.iload_n 1, 1) := dz_27 (bX3_isSub_2 5 _ rfl)
theorem dX3_isSub_38 : decode cX3_isSub 38 = .ok (.bipush 10, 2) := dz_16 (bX3_isSub_2 6 _ rfl) (bX3_isSub_2 7 _ rfl)
theorem dX3_isSub_40 : decode cX3_isSub 40 = .ok (.if_icmp .lt 28, 3) := dz_161 (bX3_isSub_2 8 _ rfl) (bX3_isSub_2 9 _ rfl) (bX3_isSub_2 10 _ rfl)
theorem dX3_isSub_43 : decode cX3_isSub 43 = .ok (.iload_n 2, 1) := dz_28 (bX3_isSub_2 11 _ rfl)
theorem dX3_isSub_44 : decode cX3_isSub 44 = .ok (.bipush 10, 2) := dz_16 (bX3_isSub_2 12 _ rfl) (bX3_isSub_2 13 _ rfl)
theorem dX3_isSub_46 : decode cX3_isSub 46 = .ok (.if_icmp .lt 22, 3) := dz_161 (bX3_isSub_2 14 _ rfl) (bX3_isSub_2 15 _ rfl) (bX3_isSub_3 0 _ rfl)
theorem dX3_isSub_49 : decode cX3_isSub 49 = .ok (.aload_n 0, 1) := dz_42 (bX3_isSub_3 1 _ rfl)
theorem dX3_isSub_50 : decode cX3_isSub 50 = .ok (.iload_n 1, 1) := dz_27 (bX3_isSub_3 2 _ rfl)
theorem dX3_isSub_51 : decode cX3_isSub 51 = .ok (.bipush 10, 2) := dz_16 (bX3_isSub_3 3 _ rfl) (bX3_isSub_3 4 _ rfl)
theorem dX3_isSub_53 : decode cX3_isSub 53 = .ok (.isub, 1) := dz_100 (bX3_isSub_3 5 _ rfl)
theorem dX3_isSub_54 : decode cX3_isSub 54 = .ok (.iload_n 2, 1) := dz_28 (bX3_isSub_3 6 _ rfl)
theorem dX3_isSub_55 : decode cX3_isSub 55 = .ok (.bipush 10, 2) := dz_16 (bX3_isSub_3 7 _ rfl) (bX3_isSub_3 8 _ rfl)
theorem dX3_isSub_57 : decode cX3_isSub 57 = .ok (.isub, 1) := dz_100 (bX3_isSub_3 9 _ rfl)
theorem dX3_isSub_58 : decode cX3_isSub 58 = .ok (.invokevirtual 415, 3) := dz_182 (bX3_isSub_3 10 _ rfl) (bX3_isSub_3 11 _ rfl) (bX3_isSub_3 12 _ rfl)
theorem dX3_isSub_61 : decode cX3_isSub 61 = .ok (.ifCond .eq 7, 3) := dz_153 (bX3_isSub_3 13 _ rfl) (bX3_isSub_3 14 _ rfl) (bX3_isSub_3 15 _ rfl)
theorem dX3_isSub_64 : decode cX3_isSub 64 = .ok (.iconst 1, 1) := dz_4 (bX3_isSub_4 0 _ rfl)
theorem dX3_isSub_65 : decode cX3_isSub 65 = .ok (.goto 4, 3) := dz_167 (bX3_isSub_4 1 _ rfl) (bX3_isSub_4 2 _ rfl) (bX3_isSub_4 3 _ rfl)
theorem dX3_isSub_68 : decode cX3_isSub 68 = .ok (.iconst 0, 1) := dz_3 (bX3_isSub_4 4 _ rfl)
theorem dX3_isSub_69 : decode cX3_isSub 69 = .ok (.ireturn, 1) := dz_172 (bX3_isSub_4 5 _ rfl)
def m_X3_isSub_37 (x1 : Int32) (x2 : Int32)  (σ : ch_S) : Option (Int32) := if x1 < 10 then (some (0)) else (if x2 < 10 then (some (0)) else ((m_X3_isUnder (x1 - 10) (x2 - 10) σ).bind fun v1 => if v1 = 0 then (some (0)) else (some (1))))
theorem s_X3_isSub_37 {g : State} {m : Nat} {w : ch_W} {x1 : Int32} {x2 : Int32} {σ : ch_S} {res : Int32} {Q : Outcome → ch_W → Prop} (h : m_X3_isSub_37 x1 x2 σ = some res) (hk : (fun r => ch_eI Q (r, ch_put m w σ)) res) : ch_FT g false mX3_isSub 3 37 [some (va_rf (some m)), some (.int x1), some (.int x2)] [] (ch_put m w σ) Q := by
  unfold m_X3_isSub_37 at h
  refine ch_iload_n 1 _ dX3_isSub_37 rfl (ch_bipush _ 10 dX3_isSub_38 rfl (cp_icmp_lt _ _ (tgt := 68) dX3_isSub_40 rfl h (fun h => ?_) (fun h => ?_)))
  · obtain rfl := Option.some.inj h
    exact ch_iconst _ 0 dX3_isSub_68 rfl (ch_ireturn _ dX3_isSub_69 rfl rfl hk)
  · refine ch_iload_n 2 _ dX3_isSub_43 rfl (ch_bipush _ 10 dX3_isSub_44 rfl (cp_icmp_lt _ _ (tgt := 68) dX3_isSub_46 rfl h (fun h => ?_) (fun h => ?_)))
    · obtain rfl := Option.some.inj h
      exact ch_iconst _ 0 dX3_isSub_68 rfl (ch_ireturn _ dX3_isSub_69 rfl rfl hk)
    · obtain ⟨v1, hp2, h⟩ := ch_bd h
      refine ch_aload_n 0 (some m) dX3_isSub_49 rfl (ch_iload_n 1 _ dX3_isSub_50 rfl (ch_bipush _ 10 dX3_isSub_51 rfl (ch_isub _ _ dX3_isSub_53 (ch_iload_n 2 _ dX3_isSub_54 rfl (ch_bipush _ 10 dX3_isSub_55 rfl (ch_isub _ _ dX3_isSub_57 (ch_iv yX3_isUnder prog_14_method_45_code 4 (some .boolean) (ci := 3) (q := (RX3, TX3, 109)) (b := m) (d' := 2) (av := [.int (x1 - 10), .int (x2 - 10)]) (rest := []) rfl dX3_isSub_58 q2124 q2126 rfl qs160 q2127 can_X3_isUnder (Nat.le_of_ble_eq_true rfl) (Nat.le_of_ble_eq_true rfl) ch_put_tag (cp_kI (v := v1) (w1 := ch_put m w σ) (fun Q' hq => s_X3_isUnder hp2 hq) ?_))))))))
      refine cp_if_eq _ (tgt := 68) dX3_isSub_61 rfl h (fun h => ?_) (fun h => ?_)
      · obtain rfl := Option.some.inj h
        exact ch_iconst _ 0 dX3_isSub_68 rfl (ch_ireturn _ dX3_isSub_69 rfl rfl hk)
      · obtain rfl := Option.some.inj h
        exact ch_iconst _ 1 dX3_isSub_64 rfl (ch_goto 69 dX3_isSub_65 rfl (ch_ireturn _ dX3_isSub_69 rfl rfl hk))

def m_X3_isSub (x1 : Int32) (x2 : Int32) (σ : ch_S) : Option (Int32) := if x1 = 4 then (if x2 < 10 then (if x2 = 2 then (some (1)) else (if x2 = 4 then (some (1)) else (some (0)))) else (some (1))) else (if x1 = x2 then (if x1 = 5 then (m_X3_isSub_37 x1 x2 σ) else (some (1))) else (m_X3_isSub_37 x1 x2 σ))
theorem s_X3_isSub {g : State} {m : Nat} {w : ch_W} {x1 : Int32} {x2 : Int32} {σ : ch_S} {res : Int32} {Q : Outcome → ch_W → Prop} (h : m_X3_isSub x1 x2 σ = some res) (hk : (fun r => ch_eI Q (r, ch_put m w σ)) res) : ch_CT g false yX3_isSub 3 [.ref m, .int x1, .int x2] (ch_put m w σ) Q := by
  unfold m_X3_isSub at h
  refine ch_ctL mX3_isSub (ls := [some (va_rf (some m)), some (.int x1), some (.int x2)]) q2123 rfl (ch_lyr (r := some m) (ch_lyi (ch_lyi ch_ly0))) (Nat.le_of_ble_eq_true rfl) rfl ?_
  refine ch_iload_n 1 _ dX3_isSub_0 rfl (ch_iconst _ 4 dX3_isSub_1 rfl (cp_icmp_ne _ _ (tgt := 27) dX3_isSub_2 rfl h (fun h => ?_) (fun h => ?_)))
  · refine ch_iload_n 1 _ dX3_isSub_27 rfl (ch_iload_n 2 _ dX3_isSub_28 rfl (cp_icmp_ne _ _ (tgt := 37) dX3_isSub_29 rfl h (fun h => ?_) (fun h => ?_)))
    · exact ch_FT.wk (ch_wS (ch_wS (ch_wS ch_w0))) (s_X3_isSub_37  h hk)
    · refine ch_iload_n 1 _ dX3_isSub_32 rfl (ch_iconst _ 5 dX3_isSub_33 rfl (cp_icmp_ne _ _ (tgt := 64) dX3_isSub_34 rfl h (fun h => ?_) (fun h => ?_)))
      · obtain rfl := Option.some.inj h
        exact ch_iconst _ 1 dX3_isSub_64 rfl (ch_goto 69 dX3_isSub_65 rfl (ch_ireturn _ dX3_isSub_69 rfl rfl hk))
      · exact ch_FT.wk (ch_wS (ch_wS (ch_wS ch_w0))) (s_X3_isSub_37  h hk)
  · refine ch_iload_n 2 _ dX3_isSub_5 rfl (ch_bipush _ 10 dX3_isSub_6 rfl (cp_icmp_ge _ _ (tgt := 21) dX3_isSub_8 rfl h (fun h => ?_) (fun h => ?_)))
    · obtain rfl := Option.some.inj h
      exact ch_iconst _ 1 dX3_isSub_21 rfl (ch_goto 26 dX3_isSub_22 rfl (ch_ireturn _ dX3_isSub_26 rfl rfl hk))
    · refine ch_iload_n 2 _ dX3_isSub_11 rfl (ch_iconst _ 2 dX3_isSub_12 rfl (cp_icmp_eq _ _ (tgt := 21) dX3_isSub_13 rfl h (fun h => ?_) (fun h => ?_)))
      · obtain rfl := Option.some.inj h
        exact ch_iconst _ 1 dX3_isSub_21 rfl (ch_goto 26 dX3_isSub_22 rfl (ch_ireturn _ dX3_isSub_26 rfl rfl hk))
      · refine ch_iload_n 2 _ dX3_isSub_16 rfl (ch_iconst _ 4 dX3_isSub_17 rfl (cp_icmp_ne _ _ (tgt := 25) dX3_isSub_18 rfl h (fun h => ?_) (fun h => ?_)))
        · obtain rfl := Option.some.inj h
          exact ch_iconst _ 0 dX3_isSub_25 rfl (ch_ireturn _ dX3_isSub_26 rfl rfl hk)
        · obtain rfl := Option.some.inj h
          exact ch_iconst _ 1 dX3_isSub_21 rfl (ch_goto 26 dX3_isSub_22 rfl (ch_ireturn _ dX3_isSub_26 rfl rfl hk))

theorem bX3_call_0 : ch_ck cX3_call 0 [42, 180, 0, 25, 27, 46, 16, 9, 160, 0, 13, 16, 10, 42, 180, 1] := ch_ckof (by decide +kernel)
theorem bX3_call_1 : ch_ck cX3_call 16 [214, 96, 167, 0, 9, 42, 180, 0, 37, 28, 46, 62, 29, 16, 10, 162] := ch_ckof (by decide +kernel)
theorem bX3_call_2 : ch_ck cX3_call 32 [0, 7, 2, 167, 0, 18, 42, 29, 16, 10, 100, 42, 180, 0, 34, 27] := ch_ckof (by decide +kernel)
theorem bX3_call_3 : ch_ck cX3_call 48 [46, 4, 182, 1, 166, 54, 4, 42, 180, 0, 37, 27, 46, 54, 5, 42] := ch_ckof (by decide +kernel)
theorem bX3_call_4 : ch_ck cX3_call 64 [180, 0, 141, 27, 21, 5, 79, 21, 4, 155, 0, 25, 42, 180, 0, 110] := ch_ckof (by decide +kernel)
theorem bX3_call_5 : ch_ck cX3_call 80 [21, 4, 4, 96, 46, 42, 180, 0, 110, 21, 4, 46, 100, 21, 5, 159] := ch_ckof (by decide +kernel)
theorem bX3_call_6 : ch_ck cX3_call 96 [0, 5, 8, 172, 4, 54, 6, 3, 54, 7, 21, 7, 21, 5, 162, 0] := ch_ckof (by decide +kernel)
theorem bX3_call_7 : ch_ck cX3_call 112 [62, 21, 6, 153, 0, 48, 42, 42, 180, 0, 37, 42, 180, 0, 40, 42] := ch_ckof (by decide +kernel)
theorem bX3_call_8 : ch_ck cX3_call 128 [180, 0, 31, 27, 46, 21, 7, 96, 46, 46, 42, 180, 0, 122, 42, 180] := ch_ckof (by decide +kernel)
theorem bX3_call_9 : ch_ck cX3_call 144 [0, 110, 21, 4, 46, 21, 7, 96, 46, 182, 1, 243, 153, 0, 7, 4] := ch_ckof (by decide +kernel)
theorem bX3_call_10 : ch_ck cX3_call 160 [167, 0, 4, 3, 54, 6, 132, 7, 1, 167, 255, 193, 21, 6, 153, 0] := ch_ckof (by decide +kernel)
theorem bX3_call_11 : ch_ck cX3_call 176 [13, 42, 180, 0, 103, 21, 4, 46, 167, 0, 4, 8, 172] := ch_ckof (by decide +kernel)
theorem dX3_call_0 : decode cX3_call 0 = .ok (.aload_n 0, 1) := dz_42 (bX3_call_0 0 _ rfl)
theorem dX3_call_1 : decode cX3_call 1 = .ok (.getfield 25, 3) := dz_180 (bX3_call_0 1 _ rfl) (bX3_call_0 2 _ rfl) (bX3_call_0 3 _ rfl)
theorem dX3_call_4 : decode cX3_call 4 = .ok (.iload_n 1, 1) := dz_27 (bX3_call_0 4 _ rfl)
theorem dX3_call_5 : decode cX3_call 5 = .ok (.iaload, 1) := dz_46 (bX3_call_0 5 _ rfl)
theorem dX3_call_6 : decode cX3_call 6 = .ok (.bipush 9, 2) := dz_16 (bX3_call_0 6 _ rfl) (bX3_call_0 7 _ rfl)
theorem dX3_call_8 : decode cX3_call 8 = .ok (.if_icmp .ne 13, 3) := dz_160 (bX3_call_0 8 _ rfl) (bX3_call_0 9 _ rfl) (bX3_call_0 10 _ rfl)
theorem dX3_call_11 : decode cX3_call 11 = .ok (.bipush 10, 2) := dz_16 (bX3_call_0 11 _ rfl) (bX3_call_0 12 _ rfl)
theorem dX3_call_13 : decode cX3_call 13 = .ok (.aload_n 0, 1) := dz_42 (bX3_call_0 13 _ rfl)
theorem dX3_call_14 : decode cX3_call 14 = .ok (.getfield 470, 3) := dz_180 (bX3_call_0 14 _ rfl) (bX3_call_0 15 _ rfl) (bX3_call_1 0 _ rfl)
theorem dX3_call_17 : decode cX3_call 17 = .ok (.iadd, 1) := dz_96 (bX3_call_1 1 _ rfl)
theorem dX3_call_18 : decode cX3_call 18 = .ok (.goto 9, 3) := dz_167 (bX3_call_1 2 _ rfl) (bX3_call_1 3 _ rfl) (bX3_call_1 4 _ rfl)
theorem dX3_call_21 : decode cX3_call 21 = .ok (.aload_n 0, 1) := dz_42 (bX3_call_1 5 _ rfl)
theorem dX3_call_22 : decode cX3_call 22 = .ok (.getfield 37, 3) := dz_180 (bX3_call_1 6 _ rfl) (bX3_call_1 7 _ rfl) (bX3_call_1 8 _ rfl)
theorem dX3_call_25 : decode cX3_call 25 = .ok (.iload_n 2, 1) := dz_28 (bX3_call_1 9 _ rfl)
theorem dX3_call_26 : decode cX3_call 26 = .ok (.iaload, 1) := dz_46 (bX3_call_1 10 _ rfl)
theorem dX3_call_27 : decode cX3_call 27 = .ok (.istore_n 3, 1) := dz_62 (bX3_call_1 11 _ rfl)
theorem dX3_call_28 : decode cX3_call 28 = .ok (.iload_n 3, 1) := dz_29 (bX3_call_1 12 _ rfl)
theorem dX3_call_29 : decode cX3_call 29 = .ok (.bipush 10, 2) := dz_16 (bX3_call_1 13 _ rfl) (bX3_call_1 14 _ rfl)
theorem dX3_call_31 : decode cX3_call 31 = .ok (.if_icmp .ge 7, 3) := dz_162 (bX3_call_1 15 _ rfl) (bX3_call_2 0 _ rfl) (bX3_call_2 1 _ rfl)
theorem dX3_call_34 : decode cX3_call 34 = .ok (.iconst (-1), 1) := dz_2 (bX3_call_2 2 _ rfl)
theorem dX3_call_35 : decode cX3_call 35 = .ok (.goto 18, 3) := dz_167 (bX3_call_2 3 _ rfl) (bX3_call_2 4 _ rfl) (bX3_call_2 5 _ rfl)
theorem dX3_call_38 : decode cX3_call 38 = .ok (.aload_n 0, 1) := dz_42 (bX3_call_2 6 _ rfl)
theorem dX3_call_39 : decode cX3_call 39 = .ok (.iload_n 3, 1) := dz_29 (bX3_call_2 7 _ rfl)
theorem dX3_call_40 : decode cX3_call 40 = .ok (.bipush 10, 2) := dz_16 (bX3_call_2 8 _ rfl) (bX3_call_2 9 _ rfl)
theorem dX3_call_42 : decode cX3_call 42 = .ok (.isub, 1) := dz_100 (bX3_call_2 10 _ rfl)
theorem dX3_call_43 : decode cX3_call 43 = .ok (.aload_n 0, 1) := dz_42 (bX3_call_2 11 _ rfl)
theorem dX3_call_44 : decode cX3_call 44 = .ok (.getfield 34, 3) := dz_180 (bX3_call_2 12 _ rfl) (bX3_call_2 13 _ rfl) (bX3_call_2 14 _ rfl)
theorem dX3_call_47 : decode cX3_call 47 = .ok (.iload_n 1, 1) := dz_27 (bX3_call_2 15 _ rfl)
theorem dX3_call_48 : decode cX3_call 48 = .ok (.iaload, 1) := dz_46 (bX3_call_3 0 _ rfl)
theorem dX3_call_49 : decode cX3_call 49 = .ok (.iconst 1, 1) := dz_4 (bX3_call_3 1 _ rfl)
theorem dX3_call_50 : decode cX3_call 50 = .ok (.invokevirtual 422, 3) := dz_182 (bX3_call_3 2 _ rfl) (bX3_call_3 3 _ rfl) (bX3_call_3 4 _ rfl)
theorem dX3_call_53 : decode cX3_call 53 = .ok (.istore 4, 2) := dz_54 (bX3_call_3 5 _ rfl) (bX3_call_3 6 _ rfl)
theorem dX3_call_55 : decode cX3_call 55 = .ok (.aload_n 0, 1) := dz_42 (bX3_call_3 7 _ rfl)
theorem dX3_call_56 : decode cX3_call 56 = .ok (.getfield 37, 3) := dz_180 (bX3_call_3 8 _ rfl) (bX3_call_3 9 _ rfl) (bX3_call_3 10 _ rfl)
theorem dX3_call_59 : decode cX3_call 59 = .ok (.iload_n 1, 1) := dz_27 (bX3_call_3 11 _ rfl)
theorem dX3_call_60 : decode cX3_call 60 = .ok (.iaload, 1) := dz_46 (bX3_call_3 12 _ rfl)
theorem dX3_call_61 : decode cX3_call 61 = .ok (.istore 5, 2) := dz_54 (bX3_call_3 13 _ rfl) (bX3_call_3 14 _ rfl)
theorem dX3_call_63 : decode cX3_call 63 = .ok (.aload_n 0, 1) := dz_42 (bX3_call_3 15 _ rfl)
theorem dX3_call_64 : decode cX3_call 64 = .ok (.getfield 141, 3) := dz_180 (bX3_call_4 0 _ rfl) (bX3_call_4 1 _ rfl) (bX3_call_4 2 _ rfl)
theorem dX3_call_67 : decode cX3_call 67 = .ok (.iload_n 1, 1) := dz_27 (bX3_call_4 3 _ rfl)
theorem dX3_call_68 : decode cX3_call 68 = .ok (.iload 5, 2) := dz_21 (bX3_call_4 4 _ rfl) (bX3_call_4 5 _ rfl)
theorem dX3_call_70 : decode cX3_call 70 = .ok (.iastore, 1) := dz_79 (bX3_call_4 6 _ rfl)
theorem dX3_call_71 : decode cX3_call 71 = .ok (.iload 4, 2) := dz_21 (bX3_call_4 7 _ rfl) (bX3_call_4 8 _ rfl)
theorem dX3_call_73 : decode cX3_call 73 = .ok (.ifCond .lt 25, 3) := dz_155 (bX3_call_4 9 _ rfl) (bX3_call_4 10 _ rfl) (bX3_call_4 11 _ rfl)
theorem dX3_call_76 : decode cX3_call 76 = .ok (.aload_n 0, 1) := dz_42 (bX3_call_4 12 _ rfl)
theorem dX3_call_77 : decode cX3_call 77 = .ok (.getfield 110, 3) := dz_180 (bX3_call_4 13 _ rfl) (bX3_call_4 14 _ rfl) (bX3_call_4 15 _ rfl)
theorem dX3_call_80 : decode cX3_call 80 = .ok (.iload 4, 2) := dz_21 (bX3_call_5 0 _ rfl) (bX3_call_5 1 _ rfl)
theorem dX3_call_82 : decode cX3_call 82 = .ok (.iconst 1, 1) := dz_4 (bX3_call_5 2 _ rfl)
theorem dX3_call_83 : decode cX3_call 83 = .ok (.iadd, 1) := dz_96 (bX3_call_5 3 _ rfl)
theorem dX3_call_84 : decode cX3_call 84 = .ok (.iaload, 1) := dz_46 (bX3_call_5 4 _ rfl)
theorem dX3_call_85 : decode cX3_call 85 = .ok (.aload_n 0, 1) := dz_42 (bX3_call_5 5 _ rfl)
theorem dX3_call_86 : decode cX3_call 86 = .ok (.getfield 110, 3) := dz_180 (bX3_call_5 6 _ rfl) (bX3_call_5 7 _ rfl) (bX3_call_5 8 _ rfl)
theorem dX3_call_89 : decode cX3_call 89 = .ok (.iload 4, 2) := dz_21 (bX3_call_5 9 _ rfl) (bX3_call_5 10 _ rfl)
theorem dX3_call_91 : decode cX3_call 91 = .ok (.iaload, 1) := dz_46 (bX3_call_5 11 _ rfl)
theorem dX3_call_92 : decode cX3_call 92 = .ok (.isub, 1) := dz_100 (bX3_call_5 12 _ rfl)
theorem dX3_call_93 : decode cX3_call 93 = .ok (.iload 5, 2) := dz_21 (bX3_call_5 13 _ rfl) (bX3_call_5 14 _ rfl)
theorem dX3_call_95 : decode cX3_call 95 = .ok (.if_icmp .eq 5, 3) := dz_159 (bX3_call_5 15 _ rfl) (bX3_call_6 0 _ rfl) (bX3_call_6 1 _ rfl)
theorem dX3_call_98 : decode cX3_call 98 = .ok (.iconst 5, 1) := dz_8 (bX3_call_6 2 _ rfl)
theorem dX3_call_99 : decode cX3_call 99 = .ok (.ireturn, 1) := dz_172 (bX3_call_6 3 _ rfl)
theorem dX3_call_100 : decode cX3_call 100 = .ok (.iconst 1, 1) := dz_4 (bX3_call_6 4 _ rfl)
theorem dX3_call_101 : decode cX3_call 101 = .ok (.istore 6, 2) := dz_54 (bX3_call_6 5 _ rfl) (bX3_call_6 6 _ rfl)
theorem dX3_call_103 : decode cX3_call 103 = .ok (.iconst 0, 1) := dz_3 (bX3_call_6 7 _ rfl)
theorem dX3_call_104 : decode cX3_call 104 = .ok (.istore 7, 2) := dz_54 (bX3_call_6 8 _ rfl) (bX3_call_6 9 _ rfl)
theorem dX3_call_106 : decode cX3_call 106 = .ok (.iload 7, 2) := dz_21 (bX3_call_6 10 _ rfl) (bX3_call_6 11 _ rfl)
theorem dX3_call_108 : decode cX3_call 108 = .ok (.iload 5, 2) := dz_21 (bX3_call_6 12 _ rfl) (bX3_call_6 13 _ rfl)
theorem dX3_call_110 : decode cX3_call 110 = .ok (.if_icmp .ge 62, 3) := dz_162 (bX3_call_6 14 _ rfl) (bX3_call_6 15 _ rfl) (bX3_call_7 0 _ rfl)
theorem dX3_call_113 : decode cX3_call 113 = .ok (.iload 6, 2) := dz_21 (bX3_call_7 1 _ rfl) (bX3_call_7 2 _ rfl)
theorem dX3_call_115 : decode cX3_call 115 = .ok (.ifCond .eq 48, 3) := dz_153 (bX3_call_7 3 _ rfl) (bX3_call_7 4 _ rfl) (bX3_call_7 5 _ rfl)
theorem dX3_call_118 : decode cX3_call 118 = .ok (.aload_n 0, 1) := dz_42 (bX3_call_7 6 _ rfl)
theorem dX3_call_119 : decode cX3_call 119 = .ok (.aload_n 0, 1) := dz_42 (bX3_call_7 7 _ rfl)
theorem dX3_call_120 : decode cX3_call 120 = .ok (.getfield 37, 3) := dz_180 (bX3_call_7 8 _ rfl) (bX3_call_7 9 _ rfl) (bX3_call_7 10 _ rfl)
theorem dX3_call_123 : decode cX3_call 123 = .ok (.aload_n 0, 1) := dz_42 (bX3_call_7 11 _ rfl)
theorem dX3_call_124 : decode cX3_call 124 = .ok (.getfield 40, 3) := dz_180 (bX3_call_7 12 _ rfl) (bX3_call_7 13 _ rfl) (bX3_call_7 14 _ rfl)
theorem dX3_call_127 : decode cX3_call 127 = .ok (.aload_n 0, 1) := dz_42 (bX3_call_7 15 _ rfl)
theorem dX3_call_128 : decode cX3_call 128 = .ok (.getfield 31, 3) := dz_180 (bX3_call_8 0 _ rfl) (bX3_call_8 1 _ rfl) (bX3_call_8 2 _ rfl)
theorem dX3_call_131 : decode cX3_call 131 = .ok (.iload_n 1, 1) := dz_27 (bX3_call_8 3 _ rfl)
theorem dX3_call_132 : decode cX3_call 132 = .ok (.iaload, 1) := dz_46 (bX3_call_8 4 _ rfl)
theorem dX3_call_133 : decode cX3_call 133 = .ok (.iload 7, 2) := dz_21 (bX3_call_8 5 _ rfl) (bX3_call_8 6 _ rfl)
theorem dX3_call_135 : decode cX3_call 135 = .ok (.iadd, 1) := dz_96 (bX3_call_8 7 _ rfl)
theorem dX3_call_136 : decode cX3_call 136 = .ok (.iaload, 1) := dz_46 (bX3_call_8 8 _ rfl)
theorem dX3_call_137 : decode cX3_call 137 = .ok (.iaload, 1) := dz_46 (bX3_call_8 9 _ rfl)
theorem dX3_call_138 : decode cX3_call 138 = .ok (.aload_n 0, 1) := dz_42 (bX3_call_8 10 _ rfl)
theorem dX3_call_139 : decode cX3_call 139 = .ok (.getfield 122, 3) := dz_180 (bX3_call_8 11 _ rfl) (bX3_call_8 12 _ rfl) (bX3_call_8 13 _ rfl)
theorem dX3_call_142 : decode cX3_call 142 = .ok (.aload_n 0, 1) := dz_42 (bX3_call_8 14 _ rfl)
theorem dX3_call_143 : decode cX3_call 143 = .ok (.getfield 110, 3) := dz_180 (bX3_call_8 15 _ rfl) (bX3_call_9 0 _ rfl) (bX3_call_9 1 _ rfl)
theorem dX3_call_146 : decode cX3_call 146 = .ok (.iload 4, 2) := dz_21 (bX3_call_9 2 _ rfl) (bX3_call_9 3 _ rfl)
theorem dX3_call_148 : decode cX3_call 148 = .ok (.iaload, 1) := dz_46 (bX3_call_9 4 _ rfl)
theorem dX3_call_149 : decode cX3_call 149 = .ok (.iload 7, 2) := dz_21 (bX3_call_9 5 _ rfl) (bX3_call_9 6 _ rfl)
theorem dX3_call_151 : decode cX3_call 151 = .ok (.iadd, 1) := dz_96 (bX3_call_9 7 _ rfl)
theorem dX3_call_152 : decode cX3_call 152 = .ok (.iaload, 1) := dz_46 (bX3_call_9 8 _ rfl)
theorem dX3_call_153 : decode cX3_call 153 = .ok (.invokevirtual 499, 3) := dz_182 (bX3_call_9 9 _ rfl) (bX3_call_9 10 _ rfl) (bX3_call_9 11 _ rfl)
theorem dX3_call_156 : decode cX3_call 156 = .ok (.ifCond .eq 7, 3) := dz_153 (bX3_call_9 12 _ rfl) (bX3_call_9 13 _ rfl) (bX3_call_9 14 _ rfl)
theorem dX3_call_159 : decode cX3_call 159 = .ok (.iconst 1, 1) := dz_4 (bX3_call_9 15 _ rfl)
theorem dX3_call_160 : decode cX3_call 160 = .ok (.goto 4, 3) := dz_167 (bX3_call_10 0 _ rfl) (bX3_call_10 1 _ rfl) (bX3_call_10 2 _ rfl)
theorem dX3_call_163 : decode cX3_call 163 = .ok (.iconst 0, 1) := dz_3 (bX3_call_10 3 _ rfl)
theorem dX3_call_164 : decode cX3_call 164 = .ok (.istore 6, 2) := dz_54 (bX3_call_10 4 _ rfl) (bX3_call_10 5 _ rfl)
theorem dX3_call_166 : decode cX3_call 166 = .ok (.iinc 7 1, 3) := dz_132 (bX3_call_10 6 _ rfl) (bX3_call_10 7 _ rfl) (bX3_call_10 8 _ rfl)
theorem dX3_call_169 : decode cX3_call 169 = .ok (.goto (-63), 3) := dz_167 (bX3_call_10 9 _ rfl) (bX3_call_10 10 _ rfl) (bX3_call_10 11 _ rfl)
theorem dX3_call_172 : decode cX3_call 172 = .ok (.iload 6, 2) := dz_21 (bX3_call_10 12 _ rfl) (bX3_call_10 13 _ rfl)
theorem dX3_call_174 : decode cX3_call 174 = .ok (.ifCond .eq 13, 3) := dz_153 (bX3_call_10 14 _ rfl) (bX3_call_10 15 _ rfl) (bX3_call_11 0 _ rfl)
theorem dX3_call_177 : decode cX3_call 177 = .ok (.aload_n 0, 1) := dz_42 (bX3_call_11 1 _ rfl)
theorem dX3_call_178 : decode cX3_call 178 = .ok (.getfield 103, 3) := dz_180 (bX3_call_11 2 _ rfl) (bX3_call_11 3 _ rfl) (bX3_call_11 4 _ rfl)
theorem dX3_call_181 : decode cX3_call 181 = .ok (.iload 4, 2) := dz_21 (bX3_call_11 5 _ rfl) (bX3_call_11 6 _ rfl)
theorem dX3_call_183 : decode cX3_call 183 = .ok (.iaload, 1) := dz_46 (bX3_call_11 7 _ rfl)
theorem dX3_call_184 : decode cX3_call 184 = .ok (.goto 4, 3) := dz_167 (bX3_call_11 8 _ rfl) (bX3_call_11 9 _ rfl) (bX3_call_11 10 _ rfl)
theorem dX3_call_187 : decode cX3_call 187 = .ok (.iconst 5, 1) := dz_8 (bX3_call_11 11 _ rfl)
theorem dX3_call_188 : decode cX3_call 188 = .ok (.ireturn, 1) := dz_172 (bX3_call_11 12 _ rfl)
def m_X3_call_106 (x1 : Int32) (x4 : Int32) (x5 : Int32) (x6 : Int32) (x7 : Int32)  (σ : ch_S) : Option ((Int32 × Int32) ⊕ (Int32 × ch_S)) := if x7 < x5 then (if x6 = 0 then (some (.inl (0, x7 + 1))) else ((ch_ma σ fX3_two x1).bind fun v2 => (ch_ma σ fX3_list (v2 + x7)).bind fun v3 => (ch_ma σ fX3_typeOf v3).bind fun v4 => (ch_ma σ fX3_parameterFrom x4).bind fun v5 => (ch_ma σ fX3_parameterType (v5 + x7)).bind fun v6 => (m_X3_isSub v4 v6 σ).bind fun v7 => if v7 = 0 then (some (.inl (0, x7 + 1))) else (some (.inl (1, x7 + 1))))) else (if x6 = 0 then (some (.inr ((5, σ)))) else ((ch_ma σ fX3_memberType x4).bind fun v1 => some (.inr ((v1, σ)))))
theorem s_X3_call_106 {g : State} {m : Nat} {w : ch_W} {x1 : Int32} {x4 : Int32} {x5 : Int32} {x6 : Int32} {x7 : Int32} {σ : ch_S} {res : (Int32 × Int32) ⊕ (Int32 × ch_S)} {Q : Outcome → ch_W → Prop} (h : m_X3_call_106 x1 x4 x5 x6 x7 σ = some res) (hk : (ch_sm (fun s => ch_FT g false mX3_call 4 106 [some (va_rf (some m)), some (.int x1), none, none, some (.int x4), some (.int x5), some (.int s.1), some (.int s.2)] [] (ch_put m w σ) Q) (fun r => ch_eI Q (r.1, ch_put m w r.2))) res) : ch_FT g false mX3_call 4 106 [some (va_rf (some m)), some (.int x1), none, none, some (.int x4), some (.int x5), some (.int x6), some (.int x7)] [] (ch_put m w σ) Q := by
  unfold m_X3_call_106 at h
  refine ch_iload 7 _ dX3_call_106 rfl (ch_iload 5 _ dX3_call_108 rfl (cp_icmp_ge _ _ (tgt := 172) dX3_call_110 rfl h (fun h => ?_) (fun h => ?_)))
  · refine ch_iload 6 _ dX3_call_172 rfl (cp_if_eq _ (tgt := 187) dX3_call_174 rfl h (fun h => ?_) (fun h => ?_))
    · obtain rfl := Option.some.inj h
      exact ch_iconst _ 5 dX3_call_187 rfl (ch_ireturn _ dX3_call_188 rfl rfl hk)
    · refine ch_aload_n 0 (some m) dX3_call_177 rfl (mp_gA 47 dX3_call_178 fl_X3_103 rfl (ch_iload 4 _ dX3_call_181 rfl (mp_iald dX3_call_183 mk_47 h (fun v1 h => ?_))))
      obtain rfl := Option.some.inj h
      exact ch_goto 188 dX3_call_184 rfl (ch_ireturn _ dX3_call_188 rfl rfl hk)
  · refine ch_iload 6 _ dX3_call_113 rfl (cp_if_eq _ (tgt := 163) dX3_call_115 rfl h (fun h => ?_) (fun h => ?_))
    · refine ch_iconst _ 0 dX3_call_163 rfl (ch_istore 6 _ (ls1 := [some (va_rf (some m)), some (.int x1), none, none, some (.int x4), some (.int x5), some (.int 0), some (.int x7)]) dX3_call_164 (Nat.le_of_ble_eq_true rfl) rfl (ch_iinc 7 _ _ (x7 + 1) (ls1 := [some (va_rf (some m)), some (.int x1), none, none, some (.int x4), some (.int x5), some (.int 0), some (.int (x7 + 1))]) dX3_call_166 rfl rfl (Nat.le_of_ble_eq_true rfl) rfl (ch_goto 106 dX3_call_169 rfl (ch_FT.wk (ch_wS (ch_wS (ch_wN (ch_wN (ch_wS (ch_wS (ch_wS (ch_wS ch_w0)))))))) ?_))))
      obtain rfl := Option.some.inj h
      exact hk
    · refine ch_aload_n 0 (some m) dX3_call_118 rfl (ch_aload_n 0 (some m) dX3_call_119 rfl (mp_gA 20 dX3_call_120 fl_X3_37 rfl (ch_aload_n 0 (some m) dX3_call_123 rfl (mp_gA 22 dX3_call_124 fl_X3_40 rfl (ch_aload_n 0 (some m) dX3_call_127 rfl (mp_gA 18 dX3_call_128 fl_X3_31 rfl (ch_iload_n 1 _ dX3_call_131 rfl (?_))))))))
      refine mp_iald dX3_call_132 mk_18 h (fun v2 h => ?_)
      refine ch_iload 7 _ dX3_call_133 rfl (ch_iadd _ _ dX3_call_135 (mp_iald dX3_call_136 mk_22 h (fun v3 h => ?_)))
      refine mp_iald dX3_call_137 mk_20 h (fun v4 h => ?_)
      refine ch_aload_n 0 (some m) dX3_call_138 rfl (mp_gA 54 dX3_call_139 fl_X3_122 rfl (ch_aload_n 0 (some m) dX3_call_142 rfl (mp_gA 49 dX3_call_143 fl_X3_110 rfl (ch_iload 4 _ dX3_call_146 rfl (mp_iald dX3_call_148 mk_49 h (fun v5 h => ?_))))))
      refine ch_iload 7 _ dX3_call_149 rfl (ch_iadd _ _ dX3_call_151 (mp_iald dX3_call_152 mk_54 h (fun v6 h => ?_)))
      obtain ⟨v7, hp8, h⟩ := ch_bd h
      refine ch_iv yX3_isSub prog_14_method_46_code 3 (some .boolean) (ci := 3) (q := (RX3, TX3, 109)) (b := m) (d' := 3) (av := [.int v4, .int v6]) (rest := []) rfl dX3_call_153 q2120 q2122 rfl qs159 q2123 can_X3_isSub (Nat.le_of_ble_eq_true rfl) (Nat.le_of_ble_eq_true rfl) ch_put_tag (cp_kI (v := v7) (w1 := ch_put m w σ) (fun Q' hq => s_X3_isSub hp8 hq) ?_)
      refine cp_if_eq _ (tgt := 163) dX3_call_156 rfl h (fun h => ?_) (fun h => ?_)
      · refine ch_iconst _ 0 dX3_call_163 rfl (ch_istore 6 _ (ls1 := [some (va_rf (some m)), some (.int x1), none, none, some (.int x4), some (.int x5), some (.int 0), some (.int x7)]) dX3_call_164 (Nat.le_of_ble_eq_true rfl) rfl (ch_iinc 7 _ _ (x7 + 1) (ls1 := [some (va_rf (some m)), some (.int x1), none, none, some (.int x4), some (.int x5), some (.int 0), some (.int (x7 + 1))]) dX3_call_166 rfl rfl (Nat.le_of_ble_eq_true rfl) rfl (ch_goto 106 dX3_call_169 rfl (ch_FT.wk (ch_wS (ch_wS (ch_wN (ch_wN (ch_wS (ch_wS (ch_wS (ch_wS ch_w0)))))))) ?_))))
        obtain rfl := Option.some.inj h
        exact hk
      · refine ch_iconst _ 1 dX3_call_159 rfl (ch_goto 164 dX3_call_160 rfl (ch_istore 6 _ (ls1 := [some (va_rf (some m)), some (.int x1), none, none, some (.int x4), some (.int x5), some (.int 1), some (.int x7)]) dX3_call_164 (Nat.le_of_ble_eq_true rfl) rfl (ch_iinc 7 _ _ (x7 + 1) (ls1 := [some (va_rf (some m)), some (.int x1), none, none, some (.int x4), some (.int x5), some (.int 1), some (.int (x7 + 1))]) dX3_call_166 rfl rfl (Nat.le_of_ble_eq_true rfl) rfl (ch_goto 106 dX3_call_169 rfl (ch_FT.wk (ch_wS (ch_wS (ch_wN (ch_wN (ch_wS (ch_wS (ch_wS (ch_wS ch_w0)))))))) ?_)))))
        obtain rfl := Option.some.inj h
        exact hk
theorem sl_X3_call_106 {g : State} {m : Nat} {w : ch_W} {x1 : Int32} {x4 : Int32} {x5 : Int32} {σ : ch_S} {a : Int32 × Int32} {res : Int32 × ch_S} {Q : Outcome → ch_W → Prop} (h : ch_loop (fun (s : Int32 × Int32) => m_X3_call_106 x1 x4 x5 s.1 s.2 σ) a = some res) (hk : (fun r => ch_eI Q (r.1, ch_put m w r.2)) res) : ch_FT g false mX3_call 4 106 [some (va_rf (some m)), some (.int x1), none, none, some (.int x4), some (.int x5), some (.int a.1), some (.int a.2)] [] (ch_put m w σ) Q := by
  refine ch_loop_ind (fun (a : Int32 × Int32) (r : Int32 × ch_S) => (fun r => ch_eI Q (r.1, ch_put m w r.2)) r → ch_FT g false mX3_call 4 106 [some (va_rf (some m)), some (.int x1), none, none, some (.int x4), some (.int x5), some (.int a.1), some (.int a.2)] [] (ch_put m w σ) Q) ?_ ?_ a res h hk
  · intro a a2 b h1 ih hk
    exact s_X3_call_106  h1 (ih hk)
  · intro a b h1 hk
    exact s_X3_call_106  h1 hk

def m_X3_call_53 (x1 : Int32) (y0 : Int32) (σ : ch_S) : Option (Int32 × ch_S) := (ch_ma σ fX3_typeOf x1).bind fun v1 => (ch_mw σ fX3_manyOf x1 v1).bind fun σ2 => if y0 < 0 then (some ((5, σ2))) else ((ch_ma σ2 fX3_parameterFrom (y0 + 1)).bind fun v3 => (ch_ma σ2 fX3_parameterFrom y0).bind fun v4 => if (v3 - v4) = v1 then (ch_loop (fun (s : Int32 × Int32) => m_X3_call_106 x1 y0 v1 s.1 s.2 σ2) (1, 0)) else (some ((5, σ2))))
theorem s_X3_call_53 {g : State} {m : Nat} {w : ch_W} {x1 : Int32} {y0 : Int32} {σ : ch_S} {res : Int32 × ch_S} {Q : Outcome → ch_W → Prop} (h : m_X3_call_53 x1 y0 σ = some res) (hk : (fun r => ch_eI Q (r.1, ch_put m w r.2)) res) : ch_FT g false mX3_call 4 53 [some (va_rf (some m)), some (.int x1), none, none, none, none, none, none] [.int y0] (ch_put m w σ) Q := by
  unfold m_X3_call_53 at h
  refine ch_istore 4 _ (ls1 := [some (va_rf (some m)), some (.int x1), none, none, some (.int y0), none, none, none]) dX3_call_53 (Nat.le_of_ble_eq_true rfl) rfl (ch_aload_n 0 (some m) dX3_call_55 rfl (mp_gA 20 dX3_call_56 fl_X3_37 rfl (ch_iload_n 1 _ dX3_call_59 rfl (mp_iald dX3_call_60 mk_20 h (fun v1 h => ?_)))))
  refine ch_istore 5 _ (ls1 := [some (va_rf (some m)), some (.int x1), none, none, some (.int y0), some (.int v1), none, none]) dX3_call_61 (Nat.le_of_ble_eq_true rfl) rfl (ch_aload_n 0 (some m) dX3_call_63 rfl (mp_gA 68 dX3_call_64 fl_X3_141 rfl (ch_iload_n 1 _ dX3_call_67 rfl (ch_iload 5 _ dX3_call_68 rfl (mp_iast dX3_call_70 mk_68 rfl h (fun σ2 h => ?_))))))
  refine ch_iload 4 _ dX3_call_71 rfl (cp_if_lt _ (tgt := 98) dX3_call_73 rfl h (fun h => ?_) (fun h => ?_))
  · obtain rfl := Option.some.inj h
    exact ch_iconst _ 5 dX3_call_98 rfl (ch_ireturn _ dX3_call_99 rfl rfl hk)
  · refine ch_aload_n 0 (some m) dX3_call_76 rfl (mp_gA 49 dX3_call_77 fl_X3_110 rfl (ch_iload 4 _ dX3_call_80 rfl (ch_iconst _ 1 dX3_call_82 rfl (ch_iadd _ _ dX3_call_83 (mp_iald dX3_call_84 mk_49 h (fun v3 h => ?_))))))
    refine ch_aload_n 0 (some m) dX3_call_85 rfl (mp_gA 49 dX3_call_86 fl_X3_110 rfl (ch_iload 4 _ dX3_call_89 rfl (mp_iald dX3_call_91 mk_49 h (fun v4 h => ?_))))
    refine ch_isub _ _ dX3_call_92 (ch_iload 5 _ dX3_call_93 rfl (cp_icmp_eq _ _ (tgt := 100) dX3_call_95 rfl h (fun h => ?_) (fun h => ?_)))
    · exact ch_iconst _ 1 dX3_call_100 rfl (ch_istore 6 _ (ls1 := [some (va_rf (some m)), some (.int x1), none, none, some (.int y0), some (.int v1), some (.int 1), none]) dX3_call_101 (Nat.le_of_ble_eq_true rfl) rfl (ch_iconst _ 0 dX3_call_103 rfl (ch_istore 7 _ (ls1 := [some (va_rf (some m)), some (.int x1), none, none, some (.int y0), some (.int v1), some (.int 1), some (.int 0)]) dX3_call_104 (Nat.le_of_ble_eq_true rfl) rfl (ch_FT.wk (ch_wS (ch_wS (ch_wN (ch_wN (ch_wS (ch_wS (ch_wS (ch_wS ch_w0)))))))) (sl_X3_call_106  h hk)))))
    · obtain rfl := Option.some.inj h
      exact ch_iconst _ 5 dX3_call_98 rfl (ch_ireturn _ dX3_call_99 rfl rfl hk)

def m_X3_call_27 (x1 : Int32) (y0 : Int32) (σ : ch_S) : Option (Int32 × ch_S) := if y0 < 10 then (m_X3_call_53 x1 (-1) σ) else ((ch_ma σ fX3_of x1).bind fun v1 => (m_X3_memberOf (y0 - 10) v1 1 σ).bind fun v2 => m_X3_call_53 x1 v2 σ)
theorem s_X3_call_27 {g : State} {m : Nat} {w : ch_W} {x1 : Int32} {y0 : Int32} {σ : ch_S} {res : Int32 × ch_S} {Q : Outcome → ch_W → Prop} (h : m_X3_call_27 x1 y0 σ = some res) (hk : (fun r => ch_eI Q (r.1, ch_put m w r.2)) res) : ch_FT g false mX3_call 4 27 [some (va_rf (some m)), some (.int x1), none, none, none, none, none, none] [.int y0] (ch_put m w σ) Q := by
  unfold m_X3_call_27 at h
  refine ch_istore_n 3 _ (ls1 := [some (va_rf (some m)), some (.int x1), none, some (.int y0), none, none, none, none]) dX3_call_27 (Nat.le_of_ble_eq_true rfl) rfl (ch_iload_n 3 _ dX3_call_28 rfl (ch_bipush _ 10 dX3_call_29 rfl (cp_icmp_ge _ _ (tgt := 38) dX3_call_31 rfl h (fun h => ?_) (fun h => ?_))))
  · refine ch_aload_n 0 (some m) dX3_call_38 rfl (ch_iload_n 3 _ dX3_call_39 rfl (ch_bipush _ 10 dX3_call_40 rfl (ch_isub _ _ dX3_call_42 (ch_aload_n 0 (some m) dX3_call_43 rfl (mp_gA 19 dX3_call_44 fl_X3_34 rfl (ch_iload_n 1 _ dX3_call_47 rfl (mp_iald dX3_call_48 mk_19 h (fun v1 h => ?_))))))))
    obtain ⟨v2, hp3, h⟩ := ch_bd h
    refine ch_iconst _ 1 dX3_call_49 rfl (ch_iv yX3_memberOf prog_14_method_47_code 6 (some .int) (ci := 3) (q := (RX3, TX3, 109)) (b := m) (d' := 2) (av := [.int (y0 - 10), .int v1, .int 1]) (rest := []) rfl dX3_call_50 q2064 q2066 rfl qs145 q2067 can_X3_memberOf (Nat.le_of_ble_eq_true rfl) (Nat.le_of_ble_eq_true rfl) ch_put_tag (cp_kI (v := v2) (w1 := ch_put m w σ) (fun Q' hq => s_X3_memberOf hp3 hq) ?_))
    exact ch_FT.wk (ch_wS (ch_wS (ch_wN (ch_wN (ch_wN (ch_wN (ch_wN (ch_wN ch_w0)))))))) (s_X3_call_53  h hk)
  · exact ch_iconst _ (-1) dX3_call_34 rfl (ch_goto 53 dX3_call_35 rfl (ch_FT.wk (ch_wS (ch_wS (ch_wN (ch_wN (ch_wN (ch_wN (ch_wN (ch_wN ch_w0)))))))) (s_X3_call_53  h hk)))

def m_X3_call (x1 : Int32) (x2 : Int32) (σ : ch_S) : Option (Int32 × ch_S) := (ch_ma σ fX3_is x1).bind fun v1 => if v1 = 9 then (m_X3_call_27 x1 (10 + (σ.1 fX3_here)) σ) else ((ch_ma σ fX3_typeOf x2).bind fun v2 => m_X3_call_27 x1 v2 σ)
theorem s_X3_call {g : State} {m : Nat} {w : ch_W} {x1 : Int32} {x2 : Int32} {σ : ch_S} {res : Int32 × ch_S} {Q : Outcome → ch_W → Prop} (h : m_X3_call x1 x2 σ = some res) (hk : (fun r => ch_eI Q (r.1, ch_put m w r.2)) res) : ch_CT g false yX3_call 4 [.ref m, .int x1, .int x2] (ch_put m w σ) Q := by
  unfold m_X3_call at h
  refine ch_ctL mX3_call (ls := [some (va_rf (some m)), some (.int x1), some (.int x2), none, none, none, none, none]) q2119 rfl (ch_lyr (r := some m) (ch_lyi (ch_lyi ch_ly0))) (Nat.le_of_ble_eq_true rfl) rfl ?_
  refine ch_aload_n 0 (some m) dX3_call_0 rfl (mp_gA 16 dX3_call_1 fl_X3_25 rfl (ch_iload_n 1 _ dX3_call_4 rfl (mp_iald dX3_call_5 mk_16 h (fun v1 h => ?_))))
  refine ch_bipush _ 9 dX3_call_6 rfl (cp_icmp_ne _ _ (tgt := 21) dX3_call_8 rfl h (fun h => ?_) (fun h => ?_))
  · refine ch_aload_n 0 (some m) dX3_call_21 rfl (mp_gA 20 dX3_call_22 fl_X3_37 rfl (ch_iload_n 2 _ dX3_call_25 rfl (mp_iald dX3_call_26 mk_20 h (fun v2 h => ?_))))
    exact ch_FT.wk (ch_wS (ch_wS (ch_wN (ch_wN (ch_wN (ch_wN (ch_wN (ch_wN ch_w0)))))))) (s_X3_call_27  h hk)
  · exact ch_bipush _ 10 dX3_call_11 rfl (ch_aload_n 0 (some m) dX3_call_13 rfl (mp_gI 60 dX3_call_14 fl_X3_470 rfl (ch_iadd _ _ dX3_call_17 (ch_goto 27 dX3_call_18 rfl (ch_FT.wk (ch_wS (ch_wS (ch_wN (ch_wN (ch_wN (ch_wN (ch_wN (ch_wN ch_w0)))))))) (s_X3_call_27  h hk))))))

