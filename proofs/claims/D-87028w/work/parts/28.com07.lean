/-! printed by tools/dec.py -/
set_option maxRecDepth 100000
theorem bX1_lands_0 : ch_ck cX1_lands 0 [42, 180, 0, 81, 158, 0, 202, 42, 180, 0, 24, 42, 180, 0, 81, 4] := ch_ckof (by decide +kernel)
theorem bX1_lands_1 : ch_ck cX1_lands 16 [100, 50, 78, 42, 180, 0, 28, 42, 180, 0, 81, 4, 100, 46, 54, 4] := ch_ckof (by decide +kernel)
theorem bX1_lands_2 : ch_ck cX1_lands 32 [45, 180, 0, 224, 58, 5, 3, 54, 6, 21, 6, 25, 5, 180, 0, 228] := ch_ckof (by decide +kernel)
theorem bX1_lands_3 : ch_ck cX1_lands 48 [162, 0, 151, 21, 4, 25, 5, 21, 6, 182, 0, 231, 161, 0, 133, 21] := ch_ckof (by decide +kernel)
theorem bX1_lands_4 : ch_ck cX1_lands 64 [4, 25, 5, 21, 6, 4, 96, 182, 0, 231, 162, 0, 119, 42, 31, 25] := ch_ckof (by decide +kernel)
theorem bX1_lands_5 : ch_ck cX1_lands 80 [5, 21, 6, 5, 96, 182, 0, 231, 182, 0, 233, 153, 0, 102, 25, 5] := ch_ckof (by decide +kernel)
theorem bX1_lands_6 : ch_ck cX1_lands 96 [21, 6, 7, 96, 182, 0, 231, 54, 7, 42, 180, 0, 32, 42, 180, 0] := ch_ckof (by decide +kernel)
theorem bX1_lands_7 : ch_ck cX1_lands 112 [81, 4, 100, 46, 54, 8, 21, 7, 54, 9, 21, 9, 45, 180, 0, 197] := ch_ckof (by decide +kernel)
theorem bX1_lands_8 : ch_ck cX1_lands 128 [163, 0, 20, 42, 180, 0, 19, 21, 8, 21, 9, 96, 9, 80, 132, 9] := ch_ckof (by decide +kernel)
theorem bX1_lands_9 : ch_ck cX1_lands 144 [1, 167, 255, 233, 42, 21, 8, 4, 96, 45, 180, 0, 197, 96, 181, 0] := ch_ckof (by decide +kernel)
theorem bX1_lands_10 : ch_ck cX1_lands 160 [78, 42, 180, 0, 19, 21, 8, 21, 7, 96, 31, 80, 42, 180, 0, 28] := ch_ckof (by decide +kernel)
theorem bX1_lands_11 : ch_ck cX1_lands 176 [42, 180, 0, 81, 4, 100, 25, 5, 21, 6, 6, 96, 182, 0, 231, 79] := ch_ckof (by decide +kernel)
theorem bX1_lands_12 : ch_ck cX1_lands 192 [177, 132, 6, 5, 167, 255, 101, 42, 182, 0, 237, 167, 255, 53, 42, 42] := ch_ckof (by decide +kernel)
theorem bX1_lands_13 : ch_ck cX1_lands 208 [31, 184, 0, 172, 182, 0, 200, 181, 0, 99, 42, 5, 182, 0, 221, 177] := ch_ckof (by decide +kernel)
theorem dX1_lands_0 : decode cX1_lands 0 = .ok (.aload_n 0, 1) := dz_42 (bX1_lands_0 0 _ rfl)
theorem dX1_lands_1 : decode cX1_lands 1 = .ok (.getfield 81, 3) := dz_180 (bX1_lands_0 1 _ rfl) (bX1_lands_0 2 _ rfl) (bX1_lands_0 3 _ rfl)
theorem dX1_lands_4 : decode cX1_lands 4 = .ok (.ifCond .le 202, 3) := dz_158 (bX1_lands_0 4 _ rfl) (bX1_lands_0 5 _ rfl) (bX1_lands_0 6 _ rfl)
theorem dX1_lands_7 : decode cX1_lands 7 = .ok (.aload_n 0, 1) := dz_42 (bX1_lands_0 7 _ rfl)
theorem dX1_lands_8 : decode cX1_lands 8 = .ok (.getfield 24, 3) := dz_180 (bX1_lands_0 8 _ rfl) (bX1_lands_0 9 _ rfl) (bX1_lands_0 10 _ rfl)
theorem dX1_lands_11 : decode cX1_lands 11 = .ok (.aload_n 0, 1) := dz_42 (bX1_lands_0 11 _ rfl)
theorem dX1_lands_12 : decode cX1_lands 12 = .ok (.getfield 81, 3) := dz_180 (bX1_lands_0 12 _ rfl) (bX1_lands_0 13 _ rfl) (bX1_lands_0 14 _ rfl)
theorem dX1_lands_15 : decode cX1_lands 15 = .ok (.iconst 1, 1) := dz_4 (bX1_lands_0 15 _ rfl)
theorem dX1_lands_16 : decode cX1_lands 16 = .ok (.isub, 1) := dz_100 (bX1_lands_1 0 _ rfl)
theorem dX1_lands_17 : decode cX1_lands 17 = .ok (.aaload, 1) := dz_50 (bX1_lands_1 1 _ rfl)
theorem dX1_lands_18 : decode cX1_lands 18 = .ok (.astore_n 3, 1) := dz_78 (bX1_lands_1 2 _ rfl)
theorem dX1_lands_19 : decode cX1_lands 19 = .ok (.aload_n 0, 1) := dz_42 (bX1_lands_1 3 _ rfl)
theorem dX1_lands_20 : decode cX1_lands 20 = .ok (.getfield 28, 3) := dz_180 (bX1_lands_1 4 _ rfl) (bX1_lands_1 5 _ rfl) (bX1_lands_1 6 _ rfl)
theorem dX1_lands_23 : decode cX1_lands 23 = .ok (.aload_n 0, 1) := dz_42 (bX1_lands_1 7 _ rfl)
theorem dX1_lands_24 : decode cX1_lands 24 = .ok (.getfield 81, 3) := dz_180 (bX1_lands_1 8 _ rfl) (bX1_lands_1 9 _ rfl) (bX1_lands_1 10 _ rfl)
theorem dX1_lands_27 : decode cX1_lands 27 = .ok (.iconst 1, 1) := dz_4 (bX1_lands_1 11 _ rfl)
theorem dX1_lands_28 : decode cX1_lands 28 = .ok (.isub, 1) := dz_100 (bX1_lands_1 12 _ rfl)
theorem dX1_lands_29 : decode cX1_lands 29 = .ok (.iaload, 1) := dz_46 (bX1_lands_1 13 _ rfl)
theorem dX1_lands_30 : decode cX1_lands 30 = .ok (.istore 4, 2) := dz_54 (bX1_lands_1 14 _ rfl) (bX1_lands_1 15 _ rfl)
theorem dX1_lands_32 : decode cX1_lands 32 = .ok (.aload_n 3, 1) := dz_45 (bX1_lands_2 0 _ rfl)
theorem dX1_lands_33 : decode cX1_lands 33 = .ok (.getfield 224, 3) := dz_180 (bX1_lands_2 1 _ rfl) (bX1_lands_2 2 _ rfl) (bX1_lands_2 3 _ rfl)
theorem dX1_lands_36 : decode cX1_lands 36 = .ok (.astore 5, 2) := dz_58 (bX1_lands_2 4 _ rfl) (bX1_lands_2 5 _ rfl)
theorem dX1_lands_38 : decode cX1_lands 38 = .ok (.iconst 0, 1) := dz_3 (bX1_lands_2 6 _ rfl)
theorem dX1_lands_39 : decode cX1_lands 39 = .ok (.istore 6, 2) := dz_54 (bX1_lands_2 7 _ rfl) (bX1_lands_2 8 _ rfl)
theorem dX1_lands_41 : decode cX1_lands 41 = .ok (.iload 6, 2) := dz_21 (bX1_lands_2 9 _ rfl) (bX1_lands_2 10 _ rfl)
theorem dX1_lands_43 : decode cX1_lands 43 = .ok (.aload 5, 2) := dz_25 (bX1_lands_2 11 _ rfl) (bX1_lands_2 12 _ rfl)
theorem dX1_lands_45 : decode cX1_lands 45 = .ok (.getfield 228, 3) := dz_180 (bX1_lands_2 13 _ rfl) (bX1_lands_2 14 _ rfl) (bX1_lands_2 15 _ rfl)
theorem dX1_lands_48 : decode cX1_lands 48 = .ok (.if_icmp .ge 151, 3) := dz_162 (bX1_lands_3 0 _ rfl) (bX1_lands_3 1 _ rfl) (bX1_lands_3 2 _ rfl)
theorem dX1_lands_51 : decode cX1_lands 51 = .ok (.iload 4, 2) := dz_21 (bX1_lands_3 3 _ rfl) (bX1_lands_3 4 _ rfl)
theorem dX1_lands_53 : decode cX1_lands 53 = .ok (.aload 5, 2) := dz_25 (bX1_lands_3 5 _ rfl) (bX1_lands_3 6 _ rfl)
theorem dX1_lands_55 : decode cX1_lands 55 = .ok (.iload 6, 2) := dz_21 (bX1_lands_3 7 _ rfl) (bX1_lands_3 8 _ rfl)
theorem dX1_lands_57 : decode cX1_lands 57 = .ok (.invokevirtual 231, 3) := dz_182 (bX1_lands_3 9 _ rfl) (bX1_lands_3 10 _ rfl) (bX1_lands_3 11 _ rfl)
theorem dX1_lands_60 : decode cX1_lands 60 = .ok (.if_icmp .lt 133, 3) := dz_161 (bX1_lands_3 12 _ rfl) (bX1_lands_3 13 _ rfl) (bX1_lands_3 14 _ rfl)
theorem dX1_lands_63 : decode cX1_lands 63 = .ok (.iload 4, 2) := dz_21 (bX1_lands_3 15 _ rfl) (bX1_lands_4 0 _ rfl)
theorem dX1_lands_65 : decode cX1_lands 65 = .ok (.aload 5, 2) := dz_25 (bX1_lands_4 1 _ rfl) (bX1_lands_4 2 _ rfl)
theorem dX1_lands_67 : decode cX1_lands 67 = .ok (.iload 6, 2) := dz_21 (bX1_lands_4 3 _ rfl) (bX1_lands_4 4 _ rfl)
theorem dX1_lands_69 : decode cX1_lands 69 = .ok (.iconst 1, 1) := dz_4 (bX1_lands_4 5 _ rfl)
theorem dX1_lands_70 : decode cX1_lands 70 = .ok (.iadd, 1) := dz_96 (bX1_lands_4 6 _ rfl)
theorem dX1_lands_71 : decode cX1_lands 71 = .ok (.invokevirtual 231, 3) := dz_182 (bX1_lands_4 7 _ rfl) (bX1_lands_4 8 _ rfl) (bX1_lands_4 9 _ rfl)
theorem dX1_lands_74 : decode cX1_lands 74 = .ok (.if_icmp .ge 119, 3) := dz_162 (bX1_lands_4 10 _ rfl) (bX1_lands_4 11 _ rfl) (bX1_lands_4 12 _ rfl)
theorem dX1_lands_77 : decode cX1_lands 77 = .ok (.aload_n 0, 1) := dz_42 (bX1_lands_4 13 _ rfl)
theorem dX1_lands_78 : decode cX1_lands 78 = .ok (.lload_n 1, 1) := dz_31 (bX1_lands_4 14 _ rfl)
theorem dX1_lands_79 : decode cX1_lands 79 = .ok (.aload 5, 2) := dz_25 (bX1_lands_4 15 _ rfl) (bX1_lands_5 0 _ rfl)
theorem dX1_lands_81 : decode cX1_lands 81 = .ok (.iload 6, 2) := dz_21 (bX1_lands_5 1 _ rfl) (bX1_lands_5 2 _ rfl)
theorem dX1_lands_83 : decode cX1_lands 83 = .ok (.iconst 2, 1) := dz_5 (bX1_lands_5 3 _ rfl)
theorem dX1_lands_84 : decode cX1_lands 84 = .ok (.iadd, 1) := dz_96 (bX1_lands_5 4 _ rfl)
theorem dX1_lands_85 : decode cX1_lands 85 = .ok (.invokevirtual 231, 3) := dz_182 (bX1_lands_5 5 _ rfl) (bX1_lands_5 6 _ rfl) (bX1_lands_5 7 _ rfl)
theorem dX1_lands_88 : decode cX1_lands 88 = .ok (.invokevirtual 233, 3) := dz_182 (bX1_lands_5 8 _ rfl) (bX1_lands_5 9 _ rfl) (bX1_lands_5 10 _ rfl)
theorem dX1_lands_91 : decode cX1_lands 91 = .ok (.ifCond .eq 102, 3) := dz_153 (bX1_lands_5 11 _ rfl) (bX1_lands_5 12 _ rfl) (bX1_lands_5 13 _ rfl)
theorem dX1_lands_94 : decode cX1_lands 94 = .ok (.aload 5, 2) := dz_25 (bX1_lands_5 14 _ rfl) (bX1_lands_5 15 _ rfl)
theorem dX1_lands_96 : decode cX1_lands 96 = .ok (.iload 6, 2) := dz_21 (bX1_lands_6 0 _ rfl) (bX1_lands_6 1 _ rfl)
theorem dX1_lands_98 : decode cX1_lands 98 = .ok (.iconst 4, 1) := dz_7 (bX1_lands_6 2 _ rfl)
theorem dX1_lands_99 : decode cX1_lands 99 = .ok (.iadd, 1) := dz_96 (bX1_lands_6 3 _ rfl)
theorem dX1_lands_100 : decode cX1_lands 100 = .ok (.invokevirtual 231, 3) := dz_182 (bX1_lands_6 4 _ rfl) (bX1_lands_6 5 _ rfl) (bX1_lands_6 6 _ rfl)
theorem dX1_lands_103 : decode cX1_lands 103 = .ok (.istore 7, 2) := dz_54 (bX1_lands_6 7 _ rfl) (bX1_lands_6 8 _ rfl)
theorem dX1_lands_105 : decode cX1_lands 105 = .ok (.aload_n 0, 1) := dz_42 (bX1_lands_6 9 _ rfl)
theorem dX1_lands_106 : decode cX1_lands 106 = .ok (.getfield 32, 3) := dz_180 (bX1_lands_6 10 _ rfl) (bX1_lands_6 11 _ rfl) (bX1_lands_6 12 _ rfl)
theorem dX1_lands_109 : decode cX1_lands 109 = .ok (.aload_n 0, 1) := dz_42 (bX1_lands_6 13 _ rfl)
theorem dX1_lands_110 : decode cX1_lands 110 = .ok (.getfield 81, 3) := dz_180 (bX1_lands_6 14 _ rfl) (bX1_lands_6 15 _ rfl) (bX1_lands_7 0 _ rfl)
theorem dX1_lands_113 : decode cX1_lands 113 = .ok (.iconst 1, 1) := dz_4 (bX1_lands_7 1 _ rfl)
theorem dX1_lands_114 : decode cX1_lands 114 = .ok (.isub, 1) := dz_100 (bX1_lands_7 2 _ rfl)
theorem dX1_lands_115 : decode cX1_lands 115 = .ok (.iaload, 1) := dz_46 (bX1_lands_7 3 _ rfl)
theorem dX1_lands_116 : decode cX1_lands 116 = .ok (.istore 8, 2) := dz_54 (bX1_lands_7 4 _ rfl) (bX1_lands_7 5 _ rfl)
theorem dX1_lands_118 : decode cX1_lands 118 = .ok (.iload 7, 2) := dz_21 (bX1_lands_7 6 _ rfl) (bX1_lands_7 7 _ rfl)
theorem dX1_lands_120 : decode cX1_lands 120 = .ok (.istore 9, 2) := dz_54 (bX1_lands_7 8 _ rfl) (bX1_lands_7 9 _ rfl)
theorem dX1_lands_122 : decode cX1_lands 122 = .ok (.iload 9, 2) := dz_21 (bX1_lands_7 10 _ rfl) (bX1_lands_7 11 _ rfl)
theorem dX1_lands_124 : decode cX1_lands 124 = .ok (.aload_n 3, 1) := dz_45 (bX1_lands_7 12 _ rfl)
theorem dX1_lands_125 : decode cX1_lands 125 = .ok (.getfield 197, 3) := dz_180 (bX1_lands_7 13 _ rfl) (bX1_lands_7 14 _ rfl) (bX1_lands_7 15 _ rfl)
theorem dX1_lands_128 : decode cX1_lands 128 = .ok (.if_icmp .gt 20, 3) := dz_163 (bX1_lands_8 0 _ rfl) (bX1_lands_8 1 _ rfl) (bX1_lands_8 2 _ rfl)
theorem dX1_lands_131 : decode cX1_lands 131 = .ok (.aload_n 0, 1) := dz_42 (bX1_lands_8 3 _ rfl)
theorem dX1_lands_132 : decode cX1_lands 132 = .ok (.getfield 19, 3) := dz_180 (bX1_lands_8 4 _ rfl) (bX1_lands_8 5 _ rfl) (bX1_lands_8 6 _ rfl)
theorem dX1_lands_135 : decode cX1_lands 135 = .ok (.iload 8, 2) := dz_21 (bX1_lands_8 7 _ rfl) (bX1_lands_8 8 _ rfl)
theorem dX1_lands_137 : decode cX1_lands 137 = .ok (.iload 9, 2) := dz_21 (bX1_lands_8 9 _ rfl) (bX1_lands_8 10 _ rfl)
theorem dX1_lands_139 : decode cX1_lands 139 = .ok (.iadd, 1) := dz_96 (bX1_lands_8 11 _ rfl)
theorem dX1_lands_140 : decode cX1_lands 140 = .ok (.lconst 0, 1) := dz_9 (bX1_lands_8 12 _ rfl)
theorem dX1_lands_141 : decode cX1_lands 141 = .ok (.lastore, 1) := dz_80 (bX1_lands_8 13 _ rfl)
theorem dX1_lands_142 : decode cX1_lands 142 = .ok (.iinc 9 1, 3) := dz_132 (bX1_lands_8 14 _ rfl) (bX1_lands_8 15 _ rfl) (bX1_lands_9 0 _ rfl)
theorem dX1_lands_145 : decode cX1_lands 145 = .ok (.goto (-23), 3) := dz_167 (bX1_lands_9 1 _ rfl) (bX1_lands_9 2 _ rfl) (bX1_lands_9 3 _ rfl)
theorem dX1_lands_148 : decode cX1_lands 148 = .ok (.aload_n 0, 1) := dz_42 (bX1_lands_9 4 _ rfl)
theorem dX1_lands_149 : decode cX1_lands 149 = .ok (.iload 8, 2) := dz_21 (bX1_lands_9 5 _ rfl) (bX1_lands_9 6 _ rfl)
theorem dX1_lands_151 : decode cX1_lands 151 = .ok (.iconst 1, 1) := dz_4 (bX1_lands_9 7 _ rfl)
theorem dX1_lands_152 : decode cX1_lands 152 = .ok (.iadd, 1) := dz_96 (bX1_lands_9 8 _ rfl)
theorem dX1_lands_153 : decode cX1_lands 153 = .ok (.aload_n 3, 1) := dz_45 (bX1_lands_9 9 _ rfl)
theorem dX1_lands_154 : decode cX1_lands 154 = .ok (.getfield 197, 3) := dz_180 (bX1_lands_9 10 _ rfl) (bX1_lands_9 11 _ rfl) (bX1_lands_9 12 _ rfl)
theorem dX1_lands_157 : decode cX1_lands 157 = .ok (.iadd, 1) := dz_96 (bX1_lands_9 13 _ rfl)
theorem dX1_lands_158 : decode cX1_lands 158 = .ok (.putfield 78, 3) := dz_181 (bX1_lands_9 14 _ rfl) (bX1_lands_9 15 _ rfl) (bX1_lands_10 0 _ rfl)
theorem dX1_lands_161 : decode cX1_lands 161 = .ok (.aload_n 0, 1) := dz_42 (bX1_lands_10 1 _ rfl)
theorem dX1_lands_162 : decode cX1_lands 162 = .ok (.getfield 19, 3) := dz_180 (bX1_lands_10 2 _ rfl) (bX1_lands_10 3 _ rfl) (bX1_lands_10 4 _ rfl)
theorem dX1_lands_165 : decode cX1_lands 165 = .ok (.iload 8, 2) := dz_21 (bX1_lands_10 5 _ rfl) (bX1_lands_10 6 _ rfl)
theorem dX1_lands_167 : decode cX1_lands 167 = .ok (.iload 7, 2) := dz_21 (bX1_lands_10 7 _ rfl) (bX1_lands_10 8 _ rfl)
theorem dX1_lands_169 : decode cX1_lands 169 = .ok (.iadd, 1) := dz_96 (bX1_lands_10 9 _ rfl)
theorem dX1_lands_170 : decode cX1_lands 170 = .ok (.lload_n 1, 1) := dz_31 (bX1_lands_10 10 _ rfl)
theorem dX1_lands_171 : decode cX1_lands 171 = .ok (.lastore, 1) := dz_80 (bX1_lands_10 11 _ rfl)
theorem dX1_lands_172 : decode cX1_lands 172 = .ok (.aload_n 0, 1) := dz_42 (bX1_lands_10 12 _ rfl)
theorem dX1_lands_173 : decode cX1_lands 173 = .ok (.getfield 28, 3) := dz_180 (bX1_lands_10 13 _ rfl) (bX1_lands_10 14 _ rfl) (bX1_lands_10 15 _ rfl)
theorem dX1_lands_176 : decode cX1_lands 176 = .ok (.aload_n 0, 1) := dz_42 (bX1_lands_11 0 _ rfl)
theorem dX1_lands_177 : decode cX1_lands 177 = .ok (.getfield 81, 3) := dz_180 (bX1_lands_11 1 _ rfl) (bX1_lands_11 2 _ rfl) (bX1_lands_11 3 _ rfl)
theorem dX1_lands_180 : decode cX1_lands 180 = .ok (.iconst 1, 1) := dz_4 (bX1_lands_11 4 _ rfl)
theorem dX1_lands_181 : decode cX1_lands 181 = .ok (.isub, 1) := dz_100 (bX1_lands_11 5 _ rfl)
theorem dX1_lands_182 : decode cX1_lands 182 = .ok (.aload 5, 2) := dz_25 (bX1_lands_11 6 _ rfl) (bX1_lands_11 7 _ rfl)
theorem dX1_lands_184 : decode cX1_lands 184 = .ok (.iload 6, 2) := dz_21 (bX1_lands_11 8 _ rfl) (bX1_lands_11 9 _ rfl)
theorem dX1_lands_186 : decode cX1_lands 186 = .ok (.iconst 3, 1) := dz_6 (bX1_lands_11 10 _ rfl)
theorem dX1_lands_187 : decode cX1_lands 187 = .ok (.iadd, 1) := dz_96 (bX1_lands_11 11 _ rfl)
theorem dX1_lands_188 : decode cX1_lands 188 = .ok (.invokevirtual 231, 3) := dz_182 (bX1_lands_11 12 _ rfl) (bX1_lands_11 13 _ rfl) (bX1_lands_11 14 _ rfl)
theorem dX1_lands_191 : decode cX1_lands 191 = .ok (.iastore, 1) := dz_79 (bX1_lands_11 15 _ rfl)
theorem dX1_lands_192 : decode cX1_lands 192 = .ok (.return_, 1) := dz_177 (bX1_lands_12 0 _ rfl)
theorem dX1_lands_193 : decode cX1_lands 193 = .ok (.iinc 6 5, 3) := dz_132 (bX1_lands_12 1 _ rfl) (bX1_lands_12 2 _ rfl) (bX1_lands_12 3 _ rfl)
theorem dX1_lands_196 : decode cX1_lands 196 = .ok (.goto (-155), 3) := dz_167 (bX1_lands_12 4 _ rfl) (bX1_lands_12 5 _ rfl) (bX1_lands_12 6 _ rfl)
theorem dX1_lands_199 : decode cX1_lands 199 = .ok (.aload_n 0, 1) := dz_42 (bX1_lands_12 7 _ rfl)
theorem dX1_lands_200 : decode cX1_lands 200 = .ok (.invokevirtual 237, 3) := dz_182 (bX1_lands_12 8 _ rfl) (bX1_lands_12 9 _ rfl) (bX1_lands_12 10 _ rfl)
theorem dX1_lands_203 : decode cX1_lands 203 = .ok (.goto (-203), 3) := dz_167 (bX1_lands_12 11 _ rfl) (bX1_lands_12 12 _ rfl) (bX1_lands_12 13 _ rfl)
theorem dX1_lands_206 : decode cX1_lands 206 = .ok (.aload_n 0, 1) := dz_42 (bX1_lands_12 14 _ rfl)
theorem dX1_lands_207 : decode cX1_lands 207 = .ok (.aload_n 0, 1) := dz_42 (bX1_lands_12 15 _ rfl)
theorem dX1_lands_208 : decode cX1_lands 208 = .ok (.lload_n 1, 1) := dz_31 (bX1_lands_13 0 _ rfl)
theorem dX1_lands_209 : decode cX1_lands 209 = .ok (.invokestatic 172, 3) := dz_184 (bX1_lands_13 1 _ rfl) (bX1_lands_13 2 _ rfl) (bX1_lands_13 3 _ rfl)
theorem dX1_lands_212 : decode cX1_lands 212 = .ok (.invokevirtual 200, 3) := dz_182 (bX1_lands_13 4 _ rfl) (bX1_lands_13 5 _ rfl) (bX1_lands_13 6 _ rfl)
theorem dX1_lands_215 : decode cX1_lands 215 = .ok (.putfield 99, 3) := dz_181 (bX1_lands_13 7 _ rfl) (bX1_lands_13 8 _ rfl) (bX1_lands_13 9 _ rfl)
theorem dX1_lands_218 : decode cX1_lands 218 = .ok (.aload_n 0, 1) := dz_42 (bX1_lands_13 10 _ rfl)
theorem dX1_lands_219 : decode cX1_lands 219 = .ok (.iconst 2, 1) := dz_5 (bX1_lands_13 11 _ rfl)
theorem dX1_lands_220 : decode cX1_lands 220 = .ok (.invokevirtual 221, 3) := dz_182 (bX1_lands_13 12 _ rfl) (bX1_lands_13 13 _ rfl) (bX1_lands_13 14 _ rfl)
theorem dX1_lands_223 : decode cX1_lands 223 = .ok (.return_, 1) := dz_177 (bX1_lands_13 15 _ rfl)
def c_X1_lands_122 (t0 : Nat) (x1 : Int64) (x3 : Option Nat) (x5 : Option Nat) (x6 : Int32) (x7 : Int32) (x8 : Int32) (x9 : Int32)  (w : ch_W) : Option ((Int32 × ch_W) ⊕ (ch_W)) := (ch_gI w x3 8 fX7_slots).bind fun v1 => if v1 < x9 then ((ch_gI w x3 8 fX7_slots).bind fun v2 => (ch_pI w (some t0) 2 fX1_top ((x8 + 1) + v2)).bind fun w3 => (ch_gR w3 (some t0) 2 fX1_pile).bind fun v4 => (ch_wL w3 v4 24 (x8 + x7) x1).bind fun w5 => (ch_gR w5 (some t0) 2 fX1_places).bind fun v6 => (ch_gI w5 (some t0) 2 fX1_open).bind fun v7 => (ch_rc w5 x5 9).bind fun b9 => (c_X8_get b9 (x6 + 3) w5).bind fun v10 => (ch_wI w5 v6 21 (v7 - 1) v10).bind fun w12 => some (.inr (w12))) else ((ch_gR w (some t0) 2 fX1_pile).bind fun v13 => (ch_wL w v13 24 (x8 + x9) 0).bind fun w14 => some (.inl (x9 + 1, w14)))
theorem s_X1_lands_122 {g : State} {t0 : Nat} {x1 : Int64} {x3 : Option Nat} {x5 : Option Nat} {x6 : Int32} {x7 : Int32} {x8 : Int32} {x9 : Int32} {w : ch_W} {res : (Int32 × ch_W) ⊕ (ch_W)} {Q : Outcome → ch_W → Prop} (h : c_X1_lands_122 t0 x1 x3 x5 x6 x7 x8 x9 w = some res) (hk : (ch_sm (fun s => ch_FT g true mX1_lands 4 122 [some (va_rf (some t0)), some (.long x1), none, some (va_rf x3), none, some (va_rf x5), some (.int x6), some (.int x7), some (.int x8), some (.int s.1)] [] (s.2) Q) (ch_eV Q)) res) : ch_FT g true mX1_lands 4 122 [some (va_rf (some t0)), some (.long x1), none, some (va_rf x3), none, some (va_rf x5), some (.int x6), some (.int x7), some (.int x8), some (.int x9)] [] (w) Q := by
  unfold c_X1_lands_122 at h
  refine ch_iload 9 _ dX1_lands_122 rfl (ch_aload_n 3 x3 dX1_lands_124 rfl (cp_gI (ci := 7) (k := 9) dX1_lands_125 fl_X1_197 rfl h (fun v1 h => ?_)))
  refine cp_icmp_gt _ _ (tgt := 148) dX1_lands_128 rfl h (fun h => ?_) (fun h => ?_)
  · refine ch_aload_n 0 (some t0) dX1_lands_148 rfl (ch_iload 8 _ dX1_lands_149 rfl (ch_iconst _ 1 dX1_lands_151 rfl (ch_iadd _ _ dX1_lands_152 (ch_aload_n 3 x3 dX1_lands_153 rfl (cp_gI (ci := 7) (k := 9) dX1_lands_154 fl_X1_197 rfl h (fun v2 h => ?_))))))
    refine ch_iadd _ _ dX1_lands_157 (cp_pI (ci := 1) (k := 6) dX1_lands_158 fl_X1_78 rfl rfl rfl h (fun w3 h => ?_))
    refine ch_aload_n 0 (some t0) dX1_lands_161 rfl (cp_gR (ci := 1) (k := 5) dX1_lands_162 fl_X1_19 rfl h (fun v4 h => ?_))
    refine ch_iload 8 _ dX1_lands_165 rfl (ch_iload 7 _ dX1_lands_167 rfl (ch_iadd _ _ dX1_lands_169 (ch_lload_n 1 _ dX1_lands_170 rfl (cp_last (t := 24) dX1_lands_171 rfl (Nat.le_of_ble_eq_true rfl) rfl h (fun w5 h => ?_)))))
    refine ch_aload_n 0 (some t0) dX1_lands_172 rfl (cp_gR (ci := 1) (k := 8) dX1_lands_173 fl_X1_28 rfl h (fun v6 h => ?_))
    refine ch_aload_n 0 (some t0) dX1_lands_176 rfl (cp_gI (ci := 1) (k := 10) dX1_lands_177 fl_X1_81 rfl h (fun v7 h => ?_))
    obtain ⟨b9, hb8, h⟩ := ch_bd h
    obtain ⟨v10, hp11, h⟩ := ch_bd h
    refine ch_iconst _ 1 dX1_lands_180 rfl (ch_isub _ _ dX1_lands_181 (ch_aload 5 x5 dX1_lands_182 rfl (ch_iload 6 _ dX1_lands_184 rfl (ch_iconst _ 3 dX1_lands_186 rfl (ch_iadd _ _ dX1_lands_187 (ch_iv yX8_get prog_9_method_3_code 2 (some .int) (ci := 8) (q := (RX8, TX8, 2)) (b := b9) (d' := 2) (av := [.int (x6 + 3)]) (rest := [.int (v7 - 1), va_rf v6]) (by rw [ch_rs hb8]; rfl) dX1_lands_188 q1389 q1152 rfl q1153 q1154 can_X8_get (Nat.le_of_ble_eq_true rfl) (ch_hw (Nat.le_of_ble_eq_true rfl)) (ch_rtg hb8) (cp_kI (v := v10) (w1 := w5) (fun Q' hq => s_X8_get hp11 hq) ?_)))))))
    refine cp_iast (t := 21) dX1_lands_191 rfl (Nat.le_of_ble_eq_true rfl) rfl h (fun w12 h => ?_)
    obtain rfl := Option.some.inj h
    exact ch_return dX1_lands_192 rfl hk
  · refine ch_aload_n 0 (some t0) dX1_lands_131 rfl (cp_gR (ci := 1) (k := 5) dX1_lands_132 fl_X1_19 rfl h (fun v13 h => ?_))
    refine ch_iload 8 _ dX1_lands_135 rfl (ch_iload 9 _ dX1_lands_137 rfl (ch_iadd _ _ dX1_lands_139 (ch_lconst _ 0 dX1_lands_140 rfl (cp_last (t := 24) dX1_lands_141 rfl (Nat.le_of_ble_eq_true rfl) rfl h (fun w14 h => ?_)))))
    refine ch_iinc 9 _ _ (x9 + 1) (ls1 := [some (va_rf (some t0)), some (.long x1), none, some (va_rf x3), none, some (va_rf x5), some (.int x6), some (.int x7), some (.int x8), some (.int (x9 + 1))]) dX1_lands_142 rfl rfl (Nat.le_of_ble_eq_true rfl) rfl (ch_goto 122 dX1_lands_145 rfl (ch_FT.wk (ch_wS (ch_wS (ch_wN (ch_wS (ch_wN (ch_wS (ch_wS (ch_wS (ch_wS (ch_wS ch_w0)))))))))) ?_))
    obtain rfl := Option.some.inj h
    exact hk
theorem sl_X1_lands_122 {g : State} {t0 : Nat} {x1 : Int64} {x3 : Option Nat} {x5 : Option Nat} {x6 : Int32} {x7 : Int32} {x8 : Int32} {a : Int32 × ch_W} {res : ch_W} {Q : Outcome → ch_W → Prop} (h : ch_loop (fun (s : Int32 × ch_W) => c_X1_lands_122 t0 x1 x3 x5 x6 x7 x8 s.1 s.2) a = some res) (hk : (ch_eV Q) res) : ch_FT g true mX1_lands 4 122 [some (va_rf (some t0)), some (.long x1), none, some (va_rf x3), none, some (va_rf x5), some (.int x6), some (.int x7), some (.int x8), some (.int a.1)] [] (a.2) Q := by
  refine ch_loop_ind (fun (a : Int32 × ch_W) (r : ch_W) => (ch_eV Q) r → ch_FT g true mX1_lands 4 122 [some (va_rf (some t0)), some (.long x1), none, some (va_rf x3), none, some (va_rf x5), some (.int x6), some (.int x7), some (.int x8), some (.int a.1)] [] (a.2) Q) ?_ ?_ a res h hk
  · intro a a2 b h1 ih hk
    exact s_X1_lands_122  h1 (ih hk)
  · intro a b h1 hk
    exact s_X1_lands_122  h1 hk

def c_X1_lands_41 (t0 : Nat) (x1 : Int64) (x3 : Option Nat) (x4 : Int32) (x5 : Option Nat) (x6 : Int32)  (w : ch_W) : Option (Int32 ⊕ (ch_W ⊕ (ch_W))) := (ch_gI w x5 9 fX8_size).bind fun v1 => if x6 < v1 then ((ch_rc w x5 9).bind fun b6 => (c_X8_get b6 x6 w).bind fun v7 => if x4 < v7 then (some (.inl (x6 + 5))) else ((ch_rc w x5 9).bind fun b10 => (c_X8_get b10 (x6 + 1) w).bind fun v11 => if x4 < v11 then ((ch_rc w x5 9).bind fun b14 => (c_X8_get b14 (x6 + 2) w).bind fun v15 => (ch_rc w (some t0) 2).bind fun _ => (c_X1_isOf t0 x1 v15 w).bind fun v18 => if v18 = 0 then (some (.inl (x6 + 5))) else ((ch_rc w x5 9).bind fun b21 => (c_X8_get b21 (x6 + 4) w).bind fun v22 => (ch_gR w (some t0) 2 fX1_bases).bind fun v24 => (ch_gI w (some t0) 2 fX1_open).bind fun v25 => (ch_lI w v24 21 (v25 - 1)).bind fun v26 => (ch_loop (fun (s : Int32 × ch_W) => c_X1_lands_122 t0 x1 x3 x5 x6 v22 v26 s.1 s.2) (v22, w)).bind fun r => some (.inr (.inr (r))))) else (some (.inl (x6 + 5))))) else ((ch_rc w (some t0) 2).bind fun _ => (c_X1_leave t0 w).bind fun p3 => some (.inr (.inl (p3))))
theorem s_X1_lands_41 {g : State} {t0 : Nat} {x1 : Int64} {x3 : Option Nat} {x4 : Int32} {x5 : Option Nat} {x6 : Int32} {w : ch_W} {res : Int32 ⊕ (ch_W ⊕ (ch_W))} {Q : Outcome → ch_W → Prop} (h : c_X1_lands_41 t0 x1 x3 x4 x5 x6 w = some res) (hk : (ch_sm (fun s => ch_FT g true mX1_lands 4 41 [some (va_rf (some t0)), some (.long x1), none, some (va_rf x3), some (.int x4), some (va_rf x5), some (.int s), none, none, none] [] (w) Q) (ch_sm (fun s => ch_FT g true mX1_lands 4 0 [some (va_rf (some t0)), some (.long x1), none, none, none, none, none, none, none, none] [] (s) Q) (ch_eV Q))) res) : ch_FT g true mX1_lands 4 41 [some (va_rf (some t0)), some (.long x1), none, some (va_rf x3), some (.int x4), some (va_rf x5), some (.int x6), none, none, none] [] (w) Q := by
  unfold c_X1_lands_41 at h
  refine ch_iload 6 _ dX1_lands_41 rfl (ch_aload 5 x5 dX1_lands_43 rfl (cp_gI (ci := 8) (k := 1) dX1_lands_45 fl_X1_228 rfl h (fun v1 h => ?_)))
  refine cp_icmp_ge _ _ (tgt := 199) dX1_lands_48 rfl h (fun h => ?_) (fun h => ?_)
  · obtain ⟨_, hb2, h⟩ := ch_bd h
    obtain ⟨p3, hp4, h⟩ := ch_bd h
    refine ch_aload_n 0 (some t0) dX1_lands_199 rfl (ch_iv yX1_leave prog_5_method_16_code 1 none (ci := 1) (q := (RX1, TX1, 22)) (b := t0) (d' := 2) (av := []) (rest := []) rfl dX1_lands_200 q1394 q1396 rfl qs76 q1397 can_X1_leave (Nat.le_of_ble_eq_true rfl) (Nat.le_of_ble_eq_true rfl) (ch_rts hb2) (cp_kV (w1 := p3) (fun Q' hq => s_X1_leave hp4 hq) ?_))
    refine ch_goto 0 dX1_lands_203 rfl (ch_FT.wk (ch_wS (ch_wS (ch_wN (ch_wN (ch_wN (ch_wN (ch_wN (ch_wN (ch_wN (ch_wN ch_w0)))))))))) ?_)
    obtain rfl := Option.some.inj h
    exact hk
  · obtain ⟨b6, hb5, h⟩ := ch_bd h
    obtain ⟨v7, hp8, h⟩ := ch_bd h
    refine ch_iload 4 _ dX1_lands_51 rfl (ch_aload 5 x5 dX1_lands_53 rfl (ch_iload 6 _ dX1_lands_55 rfl (ch_iv yX8_get prog_9_method_3_code 2 (some .int) (ci := 8) (q := (RX8, TX8, 2)) (b := b6) (d' := 2) (av := [.int x6]) (rest := [.int x4]) (by rw [ch_rs hb5]; rfl) dX1_lands_57 q1389 q1152 rfl q1153 q1154 can_X8_get (Nat.le_of_ble_eq_true rfl) (ch_hw (Nat.le_of_ble_eq_true rfl)) (ch_rtg hb5) (cp_kI (v := v7) (w1 := w) (fun Q' hq => s_X8_get hp8 hq) ?_))))
    refine cp_icmp_lt _ _ (tgt := 193) dX1_lands_60 rfl h (fun h => ?_) (fun h => ?_)
    · refine ch_iinc 6 _ _ (x6 + 5) (ls1 := [some (va_rf (some t0)), some (.long x1), none, some (va_rf x3), some (.int x4), some (va_rf x5), some (.int (x6 + 5)), none, none, none]) dX1_lands_193 rfl rfl (Nat.le_of_ble_eq_true rfl) (ch_s1o rfl rfl) (ch_goto 41 dX1_lands_196 rfl (ch_FT.wk (ch_wS (ch_wS (ch_wN (ch_wS (ch_wS (ch_wS (ch_wS (ch_wN (ch_wN (ch_wN ch_w0)))))))))) ?_))
      obtain rfl := Option.some.inj h
      exact hk
    · obtain ⟨b10, hb9, h⟩ := ch_bd h
      obtain ⟨v11, hp12, h⟩ := ch_bd h
      refine ch_iload 4 _ dX1_lands_63 rfl (ch_aload 5 x5 dX1_lands_65 rfl (ch_iload 6 _ dX1_lands_67 rfl (ch_iconst _ 1 dX1_lands_69 rfl (ch_iadd _ _ dX1_lands_70 (ch_iv yX8_get prog_9_method_3_code 2 (some .int) (ci := 8) (q := (RX8, TX8, 2)) (b := b10) (d' := 2) (av := [.int (x6 + 1)]) (rest := [.int x4]) (by rw [ch_rs hb9]; rfl) dX1_lands_71 q1389 q1152 rfl q1153 q1154 can_X8_get (Nat.le_of_ble_eq_true rfl) (ch_hw (Nat.le_of_ble_eq_true rfl)) (ch_rtg hb9) (cp_kI (v := v11) (w1 := w) (fun Q' hq => s_X8_get hp12 hq) ?_))))))
      refine cp_icmp_ge _ _ (tgt := 193) dX1_lands_74 rfl h (fun h => ?_) (fun h => ?_)
      · refine ch_iinc 6 _ _ (x6 + 5) (ls1 := [some (va_rf (some t0)), some (.long x1), none, some (va_rf x3), some (.int x4), some (va_rf x5), some (.int (x6 + 5)), none, none, none]) dX1_lands_193 rfl rfl (Nat.le_of_ble_eq_true rfl) (ch_s1o rfl rfl) (ch_goto 41 dX1_lands_196 rfl (ch_FT.wk (ch_wS (ch_wS (ch_wN (ch_wS (ch_wS (ch_wS (ch_wS (ch_wN (ch_wN (ch_wN ch_w0)))))))))) ?_))
        obtain rfl := Option.some.inj h
        exact hk
      · obtain ⟨b14, hb13, h⟩ := ch_bd h
        obtain ⟨v15, hp16, h⟩ := ch_bd h
        refine ch_aload_n 0 (some t0) dX1_lands_77 rfl (ch_lload_n 1 _ dX1_lands_78 rfl (ch_aload 5 x5 dX1_lands_79 rfl (ch_iload 6 _ dX1_lands_81 rfl (ch_iconst _ 2 dX1_lands_83 rfl (ch_iadd _ _ dX1_lands_84 (ch_iv yX8_get prog_9_method_3_code 2 (some .int) (ci := 8) (q := (RX8, TX8, 2)) (b := b14) (d' := 2) (av := [.int (x6 + 2)]) (rest := [.long x1, va_rf (some t0)]) (by rw [ch_rs hb13]; rfl) dX1_lands_85 q1389 q1152 rfl q1153 q1154 can_X8_get (Nat.le_of_ble_eq_true rfl) (ch_hw (Nat.le_of_ble_eq_true rfl)) (ch_rtg hb13) (cp_kI (v := v15) (w1 := w) (fun Q' hq => s_X8_get hp16 hq) ?_)))))))
        obtain ⟨_, hb17, h⟩ := ch_bd h
        obtain ⟨v18, hp19, h⟩ := ch_bd h
        refine ch_iv yX1_isOf prog_5_method_19_code 5 (some .boolean) (ci := 1) (q := (RX1, TX1, 22)) (b := t0) (d' := 3) (av := [.long x1, .int v15]) (rest := []) rfl dX1_lands_88 q1468 q1470 rfl qs91 q1471 can_X1_isOf (Nat.le_of_ble_eq_true rfl) (Nat.le_of_ble_eq_true rfl) (ch_rts hb17) (cp_kI (v := v18) (w1 := w) (fun Q' hq => s_X1_isOf hp19 hq) ?_)
        refine cp_if_eq _ (tgt := 193) dX1_lands_91 rfl h (fun h => ?_) (fun h => ?_)
        · refine ch_iinc 6 _ _ (x6 + 5) (ls1 := [some (va_rf (some t0)), some (.long x1), none, some (va_rf x3), some (.int x4), some (va_rf x5), some (.int (x6 + 5)), none, none, none]) dX1_lands_193 rfl rfl (Nat.le_of_ble_eq_true rfl) (ch_s1o rfl rfl) (ch_goto 41 dX1_lands_196 rfl (ch_FT.wk (ch_wS (ch_wS (ch_wN (ch_wS (ch_wS (ch_wS (ch_wS (ch_wN (ch_wN (ch_wN ch_w0)))))))))) ?_))
          obtain rfl := Option.some.inj h
          exact hk
        · obtain ⟨b21, hb20, h⟩ := ch_bd h
          obtain ⟨v22, hp23, h⟩ := ch_bd h
          refine ch_aload 5 x5 dX1_lands_94 rfl (ch_iload 6 _ dX1_lands_96 rfl (ch_iconst _ 4 dX1_lands_98 rfl (ch_iadd _ _ dX1_lands_99 (ch_iv yX8_get prog_9_method_3_code 2 (some .int) (ci := 8) (q := (RX8, TX8, 2)) (b := b21) (d' := 2) (av := [.int (x6 + 4)]) (rest := []) (by rw [ch_rs hb20]; rfl) dX1_lands_100 q1389 q1152 rfl q1153 q1154 can_X8_get (Nat.le_of_ble_eq_true rfl) (Nat.le_of_ble_eq_true rfl) (ch_rtg hb20) (cp_kI (v := v22) (w1 := w) (fun Q' hq => s_X8_get hp23 hq) ?_)))))
          refine ch_istore 7 _ (ls1 := [some (va_rf (some t0)), some (.long x1), none, some (va_rf x3), some (.int x4), some (va_rf x5), some (.int x6), some (.int v22), none, none]) dX1_lands_103 (Nat.le_of_ble_eq_true rfl) rfl (ch_aload_n 0 (some t0) dX1_lands_105 rfl (cp_gR (ci := 1) (k := 9) dX1_lands_106 fl_X1_32 rfl h (fun v24 h => ?_)))
          refine ch_aload_n 0 (some t0) dX1_lands_109 rfl (cp_gI (ci := 1) (k := 10) dX1_lands_110 fl_X1_81 rfl h (fun v25 h => ?_))
          refine ch_iconst _ 1 dX1_lands_113 rfl (ch_isub _ _ dX1_lands_114 (cp_iald (t := 21) dX1_lands_115 rfl rfl h (fun v26 h => ?_)))
          obtain ⟨r, hr, h⟩ := ch_bd h
          obtain rfl := Option.some.inj h
          exact ch_istore 8 _ (ls1 := [some (va_rf (some t0)), some (.long x1), none, some (va_rf x3), some (.int x4), some (va_rf x5), some (.int x6), some (.int v22), some (.int v26), none]) dX1_lands_116 (Nat.le_of_ble_eq_true rfl) rfl (ch_iload 7 _ dX1_lands_118 rfl (ch_istore 9 _ (ls1 := [some (va_rf (some t0)), some (.long x1), none, some (va_rf x3), some (.int x4), some (va_rf x5), some (.int x6), some (.int v22), some (.int v26), some (.int v22)]) dX1_lands_120 (Nat.le_of_ble_eq_true rfl) rfl (ch_FT.wk (ch_wS (ch_wS (ch_wN (ch_wS (ch_wN (ch_wS (ch_wS (ch_wS (ch_wS (ch_wS ch_w0)))))))))) (sl_X1_lands_122  hr hk))))
theorem sl_X1_lands_41 {g : State} {t0 : Nat} {x1 : Int64} {x3 : Option Nat} {x4 : Int32} {x5 : Option Nat} {w : ch_W} {a : Int32} {res : ch_W ⊕ (ch_W)} {Q : Outcome → ch_W → Prop} (h : ch_loop (fun (s : Int32) => c_X1_lands_41 t0 x1 x3 x4 x5 s w) a = some res) (hk : (ch_sm (fun s => ch_FT g true mX1_lands 4 0 [some (va_rf (some t0)), some (.long x1), none, none, none, none, none, none, none, none] [] (s) Q) (ch_eV Q)) res) : ch_FT g true mX1_lands 4 41 [some (va_rf (some t0)), some (.long x1), none, some (va_rf x3), some (.int x4), some (va_rf x5), some (.int a), none, none, none] [] (w) Q := by
  refine ch_loop_ind (fun (a : Int32) (r : ch_W ⊕ (ch_W)) => (ch_sm (fun s => ch_FT g true mX1_lands 4 0 [some (va_rf (some t0)), some (.long x1), none, none, none, none, none, none, none, none] [] (s) Q) (ch_eV Q)) r → ch_FT g true mX1_lands 4 41 [some (va_rf (some t0)), some (.long x1), none, some (va_rf x3), some (.int x4), some (va_rf x5), some (.int a), none, none, none] [] (w) Q) ?_ ?_ a res h hk
  · intro a a2 b h1 ih hk
    exact s_X1_lands_41  h1 (ih hk)
  · intro a b h1 hk
    exact s_X1_lands_41  h1 hk

def c_X1_lands_0 (t0 : Nat) (x1 : Int64)  (w : ch_W) : Option (ch_W ⊕ (ch_W)) := (ch_gI w (some t0) 2 fX1_open).bind fun v1 => if 0 < v1 then ((ch_gR w (some t0) 2 fX1_methods).bind fun v11 => (ch_gI w (some t0) 2 fX1_open).bind fun v12 => (ch_lR w v11 26 (v12 - 1)).bind fun v13 => (ch_gR w (some t0) 2 fX1_places).bind fun v14 => (ch_gI w (some t0) 2 fX1_open).bind fun v15 => (ch_lI w v14 21 (v15 - 1)).bind fun v16 => (ch_gR w v13 8 fX7_catches).bind fun v17 => ch_loop (fun (s : Int32) => c_X1_lands_41 t0 x1 v13 v16 v17 s w) (0)) else ((c_X0_placeOf x1 w).bind fun v2 => (ch_rc w (some t0) 2).bind fun _ => (c_X1_classOf t0 v2 w).bind fun v5 => (ch_pI w (some t0) 2 fX1_result v5).bind fun w7 => (ch_rc w7 (some t0) 2).bind fun _ => (c_X1_end t0 2 w7).bind fun p9 => some (.inr (p9)))
theorem s_X1_lands_0 {g : State} {t0 : Nat} {x1 : Int64} {w : ch_W} {res : ch_W ⊕ (ch_W)} {Q : Outcome → ch_W → Prop} (h : c_X1_lands_0 t0 x1 w = some res) (hk : (ch_sm (fun s => ch_FT g true mX1_lands 4 0 [some (va_rf (some t0)), some (.long x1), none, none, none, none, none, none, none, none] [] (s) Q) (ch_eV Q)) res) : ch_FT g true mX1_lands 4 0 [some (va_rf (some t0)), some (.long x1), none, none, none, none, none, none, none, none] [] (w) Q := by
  unfold c_X1_lands_0 at h
  refine ch_aload_n 0 (some t0) dX1_lands_0 rfl (cp_gI (ci := 1) (k := 10) dX1_lands_1 fl_X1_81 rfl h (fun v1 h => ?_))
  refine cp_if_le _ (tgt := 206) dX1_lands_4 rfl h (fun h => ?_) (fun h => ?_)
  · obtain ⟨v2, hp3, h⟩ := ch_bd h
    refine ch_aload_n 0 (some t0) dX1_lands_206 rfl (ch_aload_n 0 (some t0) dX1_lands_207 rfl (ch_lload_n 1 _ dX1_lands_208 rfl (ch_isT yX0_placeOf prog_1_method_3_code 2 (some .int) (d' := 2) (av := [.long x1]) (rest := [va_rf (some t0), va_rf (some t0)]) rfl dX1_lands_209 q1338 q1339 q200 q1340 can_X0_placeOf (Nat.le_of_ble_eq_true rfl) (ch_hw (Nat.le_of_ble_eq_true rfl)) (cp_kI (v := v2) (w1 := w) (fun Q' hq => s_X0_placeOf hp3 hq) ?_))))
    obtain ⟨_, hb4, h⟩ := ch_bd h
    obtain ⟨v5, hp6, h⟩ := ch_bd h
    refine ch_iv yX1_classOf prog_5_method_18_code 2 (some .int) (ci := 1) (q := (RX1, TX1, 22)) (b := t0) (d' := 2) (av := [.int v2]) (rest := [va_rf (some t0)]) rfl dX1_lands_212 q1472 q1474 rfl qs92 q1475 can_X1_classOf (Nat.le_of_ble_eq_true rfl) (ch_hw (Nat.le_of_ble_eq_true rfl)) (ch_rts hb4) (cp_kI (v := v5) (w1 := w) (fun Q' hq => s_X1_classOf hp6 hq) ?_)
    refine cp_pI (ci := 1) (k := 20) dX1_lands_215 fl_X1_99 rfl rfl rfl h (fun w7 h => ?_)
    obtain ⟨_, hb8, h⟩ := ch_bd h
    obtain ⟨p9, hp10, h⟩ := ch_bd h
    refine ch_aload_n 0 (some t0) dX1_lands_218 rfl (ch_iconst _ 2 dX1_lands_219 rfl (ch_iv yX1_end prog_5_method_21_code 2 none (ci := 1) (q := (RX1, TX1, 22)) (b := t0) (d' := 2) (av := [.int 2]) (rest := []) rfl dX1_lands_220 q1506 q1508 rfl qs100 q1509 can_X1_end (Nat.le_of_ble_eq_true rfl) (Nat.le_of_ble_eq_true rfl) (ch_rts hb8) (cp_kV (w1 := p9) (fun Q' hq => s_X1_end hp10 hq) ?_)))
    obtain rfl := Option.some.inj h
    exact ch_return dX1_lands_223 rfl hk
  · refine ch_aload_n 0 (some t0) dX1_lands_7 rfl (cp_gR (ci := 1) (k := 7) dX1_lands_8 fl_X1_24 rfl h (fun v11 h => ?_))
    refine ch_aload_n 0 (some t0) dX1_lands_11 rfl (cp_gI (ci := 1) (k := 10) dX1_lands_12 fl_X1_81 rfl h (fun v12 h => ?_))
    refine ch_iconst _ 1 dX1_lands_15 rfl (ch_isub _ _ dX1_lands_16 (cp_aald (t := 26) dX1_lands_17 rfl rfl h (fun v13 h => ?_)))
    refine ch_astore_n 3 v13 (ls1 := [some (va_rf (some t0)), some (.long x1), none, some (va_rf v13), none, none, none, none, none, none]) dX1_lands_18 (Nat.le_of_ble_eq_true rfl) rfl (ch_aload_n 0 (some t0) dX1_lands_19 rfl (cp_gR (ci := 1) (k := 8) dX1_lands_20 fl_X1_28 rfl h (fun v14 h => ?_)))
    refine ch_aload_n 0 (some t0) dX1_lands_23 rfl (cp_gI (ci := 1) (k := 10) dX1_lands_24 fl_X1_81 rfl h (fun v15 h => ?_))
    refine ch_iconst _ 1 dX1_lands_27 rfl (ch_isub _ _ dX1_lands_28 (cp_iald (t := 21) dX1_lands_29 rfl rfl h (fun v16 h => ?_)))
    refine ch_istore 4 _ (ls1 := [some (va_rf (some t0)), some (.long x1), none, some (va_rf v13), some (.int v16), none, none, none, none, none]) dX1_lands_30 (Nat.le_of_ble_eq_true rfl) (ch_s1o rfl rfl) (ch_aload_n 3 v13 dX1_lands_32 rfl (cp_gR (ci := 7) (k := 10) dX1_lands_33 fl_X1_224 rfl h (fun v17 h => ?_)))
    exact ch_astore 5 v17 (ls1 := [some (va_rf (some t0)), some (.long x1), none, some (va_rf v13), some (.int v16), some (va_rf v17), none, none, none, none]) dX1_lands_36 (Nat.le_of_ble_eq_true rfl) rfl (ch_iconst _ 0 dX1_lands_38 rfl (ch_istore 6 _ (ls1 := [some (va_rf (some t0)), some (.long x1), none, some (va_rf v13), some (.int v16), some (va_rf v17), some (.int 0), none, none, none]) dX1_lands_39 (Nat.le_of_ble_eq_true rfl) (ch_s1o rfl rfl) (ch_FT.wk (ch_wS (ch_wS (ch_wN (ch_wS (ch_wS (ch_wS (ch_wS (ch_wN (ch_wN (ch_wN ch_w0)))))))))) (sl_X1_lands_41  h hk))))
theorem sl_X1_lands_0 {g : State} {t0 : Nat} {x1 : Int64} {a : ch_W} {res : ch_W} {Q : Outcome → ch_W → Prop} (h : ch_loop (fun (s : ch_W) => c_X1_lands_0 t0 x1 s) a = some res) (hk : (ch_eV Q) res) : ch_FT g true mX1_lands 4 0 [some (va_rf (some t0)), some (.long x1), none, none, none, none, none, none, none, none] [] (a) Q := by
  refine ch_loop_ind (fun (a : ch_W) (r : ch_W) => (ch_eV Q) r → ch_FT g true mX1_lands 4 0 [some (va_rf (some t0)), some (.long x1), none, none, none, none, none, none, none, none] [] (a) Q) ?_ ?_ a res h hk
  · intro a a2 b h1 ih hk
    exact s_X1_lands_0  h1 (ih hk)
  · intro a b h1 hk
    exact s_X1_lands_0  h1 hk

def c_X1_lands (t0 : Nat) (x1 : Int64) (w : ch_W) : Option (ch_W) := ch_loop (fun (s : ch_W) => c_X1_lands_0 t0 x1 s) (w)
theorem s_X1_lands {g : State} {t0 : Nat} {x1 : Int64} {w : ch_W} {res : ch_W} {Q : Outcome → ch_W → Prop} (h : c_X1_lands t0 x1 w = some res) (hk : (ch_eV Q) res) : ch_CT g true yX1_lands 4 [.ref t0, .long x1] (w) Q := by
  unfold c_X1_lands at h
  refine ch_ctL mX1_lands (ls := [some (va_rf (some t0)), some (.long x1), none, none, none, none, none, none, none, none]) q1513 rfl (ch_lyr (r := some t0) (ch_lyl ch_ly0)) (Nat.le_of_ble_eq_true rfl) rfl ?_
  exact ch_FT.wk (ch_wS (ch_wS (ch_wN (ch_wN (ch_wN (ch_wN (ch_wN (ch_wN (ch_wN (ch_wN ch_w0)))))))))) (sl_X1_lands_0  h hk)

theorem bX1_step_0 : ch_ck cX1_step 0 [3, 61, 28, 27, 162, 0, 72, 42, 180, 0, 96, 154, 0, 65, 42, 89] := ch_ckof (by decide +kernel)
theorem bX1_step_1 : ch_ck cX1_step 16 [180, 0, 87, 4, 96, 181, 0, 87, 42, 182, 0, 208, 42, 182, 0, 116] := ch_ckof (by decide +kernel)
theorem bX1_step_2 : ch_ck cX1_step 32 [167, 0, 38, 78, 42, 89, 180, 0, 93, 4, 96, 181, 0, 93, 42, 45] := ch_ckof (by decide +kernel)
theorem bX1_step_3 : ch_ck cX1_step 48 [180, 0, 211, 182, 0, 215, 42, 182, 0, 116, 167, 0, 12, 78, 42, 45] := ch_ckof (by decide +kernel)
theorem bX1_step_4 : ch_ck cX1_step 64 [180, 0, 218, 182, 0, 221, 132, 2, 1, 167, 255, 185, 42, 180, 0, 96] := ch_ckof (by decide +kernel)
theorem bX1_step_5 : ch_ck cX1_step 80 [172] := ch_ckof (by decide +kernel)
theorem dX1_step_0 : decode cX1_step 0 = .ok (.iconst 0, 1) := dz_3 (bX1_step_0 0 _ rfl)
theorem dX1_step_1 : decode cX1_step 1 = .ok (.istore_n 2, 1) := dz_61 (bX1_step_0 1 _ rfl)
theorem dX1_step_2 : decode cX1_step 2 = .ok (.iload_n 2, 1) := dz_28 (bX1_step_0 2 _ rfl)
theorem dX1_step_3 : decode cX1_step 3 = .ok (.iload_n 1, 1) := dz_27 (bX1_step_0 3 _ rfl)
theorem dX1_step_4 : decode cX1_step 4 = .ok (.if_icmp .ge 72, 3) := dz_162 (bX1_step_0 4 _ rfl) (bX1_step_0 5 _ rfl) (bX1_step_0 6 _ rfl)
theorem dX1_step_7 : decode cX1_step 7 = .ok (.aload_n 0, 1) := dz_42 (bX1_step_0 7 _ rfl)
theorem dX1_step_8 : decode cX1_step 8 = .ok (.getfield 96, 3) := dz_180 (bX1_step_0 8 _ rfl) (bX1_step_0 9 _ rfl) (bX1_step_0 10 _ rfl)
theorem dX1_step_11 : decode cX1_step 11 = .ok (.ifCond .ne 65, 3) := dz_154 (bX1_step_0 11 _ rfl) (bX1_step_0 12 _ rfl) (bX1_step_0 13 _ rfl)
theorem dX1_step_14 : decode cX1_step 14 = .ok (.aload_n 0, 1) := dz_42 (bX1_step_0 14 _ rfl)
theorem dX1_step_15 : decode cX1_step 15 = .ok (.dup, 1) := dz_89 (bX1_step_0 15 _ rfl)
theorem dX1_step_16 : decode cX1_step 16 = .ok (.getfield 87, 3) := dz_180 (bX1_step_1 0 _ rfl) (bX1_step_1 1 _ rfl) (bX1_step_1 2 _ rfl)
theorem dX1_step_19 : decode cX1_step 19 = .ok (.iconst 1, 1) := dz_4 (bX1_step_1 3 _ rfl)
theorem dX1_step_20 : decode cX1_step 20 = .ok (.iadd, 1) := dz_96 (bX1_step_1 4 _ rfl)
theorem dX1_step_21 : decode cX1_step 21 = .ok (.putfield 87, 3) := dz_181 (bX1_step_1 5 _ rfl) (bX1_step_1 6 _ rfl) (bX1_step_1 7 _ rfl)
theorem dX1_step_24 : decode cX1_step 24 = .ok (.aload_n 0, 1) := dz_42 (bX1_step_1 8 _ rfl)
theorem dX1_step_25 : decode cX1_step 25 = .ok (.invokevirtual 208, 3) := dz_182 (bX1_step_1 9 _ rfl) (bX1_step_1 10 _ rfl) (bX1_step_1 11 _ rfl)
theorem dX1_step_28 : decode cX1_step 28 = .ok (.aload_n 0, 1) := dz_42 (bX1_step_1 12 _ rfl)
theorem dX1_step_29 : decode cX1_step 29 = .ok (.invokevirtual 116, 3) := dz_182 (bX1_step_1 13 _ rfl) (bX1_step_1 14 _ rfl) (bX1_step_1 15 _ rfl)
theorem dX1_step_32 : decode cX1_step 32 = .ok (.goto 38, 3) := dz_167 (bX1_step_2 0 _ rfl) (bX1_step_2 1 _ rfl) (bX1_step_2 2 _ rfl)
theorem dX1_step_35 : decode cX1_step 35 = .ok (.astore_n 3, 1) := dz_78 (bX1_step_2 3 _ rfl)
theorem dX1_step_36 : decode cX1_step 36 = .ok (.aload_n 0, 1) := dz_42 (bX1_step_2 4 _ rfl)
theorem dX1_step_37 : decode cX1_step 37 = .ok (.dup, 1) := dz_89 (bX1_step_2 5 _ rfl)
theorem dX1_step_38 : decode cX1_step 38 = .ok (.getfield 93, 3) := dz_180 (bX1_step_2 6 _ rfl) (bX1_step_2 7 _ rfl) (bX1_step_2 8 _ rfl)
theorem dX1_step_41 : decode cX1_step 41 = .ok (.iconst 1, 1) := dz_4 (bX1_step_2 9 _ rfl)
theorem dX1_step_42 : decode cX1_step 42 = .ok (.iadd, 1) := dz_96 (bX1_step_2 10 _ rfl)
theorem dX1_step_43 : decode cX1_step 43 = .ok (.putfield 93, 3) := dz_181 (bX1_step_2 11 _ rfl) (bX1_step_2 12 _ rfl) (bX1_step_2 13 _ rfl)
theorem dX1_step_46 : decode cX1_step 46 = .ok (.aload_n 0, 1) := dz_42 (bX1_step_2 14 _ rfl)
theorem dX1_step_47 : decode cX1_step 47 = .ok (.aload_n 3, 1) := dz_45 (bX1_step_2 15 _ rfl)
theorem dX1_step_48 : decode cX1_step 48 = .ok (.getfield 211, 3) := dz_180 (bX1_step_3 0 _ rfl) (bX1_step_3 1 _ rfl) (bX1_step_3 2 _ rfl)
theorem dX1_step_51 : decode cX1_step 51 = .ok (.invokevirtual 215, 3) := dz_182 (bX1_step_3 3 _ rfl) (bX1_step_3 4 _ rfl) (bX1_step_3 5 _ rfl)
theorem dX1_step_54 : decode cX1_step 54 = .ok (.aload_n 0, 1) := dz_42 (bX1_step_3 6 _ rfl)
theorem dX1_step_55 : decode cX1_step 55 = .ok (.invokevirtual 116, 3) := dz_182 (bX1_step_3 7 _ rfl) (bX1_step_3 8 _ rfl) (bX1_step_3 9 _ rfl)
theorem dX1_step_58 : decode cX1_step 58 = .ok (.goto 12, 3) := dz_167 (bX1_step_3 10 _ rfl) (bX1_step_3 11 _ rfl) (bX1_step_3 12 _ rfl)
theorem dX1_step_61 : decode cX1_step 61 = .ok (.astore_n 3, 1) := dz_78 (bX1_step_3 13 _ rfl)
theorem dX1_step_62 : decode cX1_step 62 = .ok (.aload_n 0, 1) := dz_42 (bX1_step_3 14 _ rfl)
theorem dX1_step_63 : decode cX1_step 63 = .ok (.aload_n 3, 1) := dz_45 (bX1_step_3 15 _ rfl)
theorem dX1_step_64 : decode cX1_step 64 = .ok (.getfield 218, 3) := dz_180 (bX1_step_4 0 _ rfl) (bX1_step_4 1 _ rfl) (bX1_step_4 2 _ rfl)
theorem dX1_step_67 : decode cX1_step 67 = .ok (.invokevirtual 221, 3) := dz_182 (bX1_step_4 3 _ rfl) (bX1_step_4 4 _ rfl) (bX1_step_4 5 _ rfl)
theorem dX1_step_70 : decode cX1_step 70 = .ok (.iinc 2 1, 3) := dz_132 (bX1_step_4 6 _ rfl) (bX1_step_4 7 _ rfl) (bX1_step_4 8 _ rfl)
theorem dX1_step_73 : decode cX1_step 73 = .ok (.goto (-71), 3) := dz_167 (bX1_step_4 9 _ rfl) (bX1_step_4 10 _ rfl) (bX1_step_4 11 _ rfl)
theorem dX1_step_76 : decode cX1_step 76 = .ok (.aload_n 0, 1) := dz_42 (bX1_step_4 12 _ rfl)
theorem dX1_step_77 : decode cX1_step 77 = .ok (.getfield 96, 3) := dz_180 (bX1_step_4 13 _ rfl) (bX1_step_4 14 _ rfl) (bX1_step_4 15 _ rfl)
theorem dX1_step_80 : decode cX1_step 80 = .ok (.ireturn, 1) := dz_172 (bX1_step_5 0 _ rfl)
def c_X1_step_2 (g : State) (t0 : Nat) (x1 : Int32) (x2 : Int32)  (w : ch_W) : Option ((Int32 × ch_W) ⊕ (Int32 × ch_W)) := if x2 < x1 then ((ch_gI w (some t0) 2 fX1_ended).bind fun v2 => if v2 = 0 then ((ch_gI w (some t0) 2 fX1_steps).bind fun v4 => (ch_pI w (some t0) 2 fX1_steps (v4 + 1)).bind fun w5 => (ch_rc w5 (some t0) 2).bind fun _ => ch_tbh (c_X1_does g t0 w5) (fun a8 w9 => if ch_tg w9 a8 = 3 then ((ch_gI w9 (some t0) 2 fX1_thrown).bind fun v13 => (ch_pI w9 (some t0) 2 fX1_thrown (v13 + 1)).bind fun w14 => (ch_gL w14 (some a8) 3 fX2_word).bind fun v15 => (ch_rc w14 (some t0) 2).bind fun _ => (c_X1_lands t0 v15 w14).bind fun p17 => (ch_rc p17 (some t0) 2).bind fun _ => (c_X1_settle t0 p17).bind fun p20 => some (.inl (x2 + 1, p20))) else (if ch_tg w9 a8 = 13 then ((ch_gI w9 (some a8) 13 fX12_how).bind fun v22 => (ch_rc w9 (some t0) 2).bind fun _ => (c_X1_end t0 v22 w9).bind fun p24 => some (.inl (x2 + 1, p24))) else (none))) fun _ w7 => (ch_rc w7 (some t0) 2).bind fun _ => (c_X1_settle t0 w7).bind fun p11 => some (.inl (x2 + 1, p11))) else ((ch_gI w (some t0) 2 fX1_ended).bind fun v3 => some (.inr ((v3, w))))) else ((ch_gI w (some t0) 2 fX1_ended).bind fun v1 => some (.inr ((v1, w))))
theorem s_X1_step_2 {g : State} {t0 : Nat} {x1 : Int32} {x2 : Int32} {w : ch_W} {res : (Int32 × ch_W) ⊕ (Int32 × ch_W)} {Q : Outcome → ch_W → Prop} (h : c_X1_step_2 g t0 x1 x2 w = some res) (hk : (ch_sm (fun s => ch_FT g true mX1_step 11 2 [some (va_rf (some t0)), some (.int x1), some (.int s.1), none] [] (s.2) Q) (ch_eI Q)) res) : ch_FT g true mX1_step 11 2 [some (va_rf (some t0)), some (.int x1), some (.int x2), none] [] (w) Q := by
  unfold c_X1_step_2 at h
  refine ch_iload_n 2 _ dX1_step_2 rfl (ch_iload_n 1 _ dX1_step_3 rfl (cp_icmp_ge _ _ (tgt := 76) dX1_step_4 rfl h (fun h => ?_) (fun h => ?_)))
  · refine ch_aload_n 0 (some t0) dX1_step_76 rfl (cp_gI (ci := 1) (k := 19) dX1_step_77 fl_X1_96 rfl h (fun v1 h => ?_))
    obtain rfl := Option.some.inj h
    exact ch_ireturn _ dX1_step_80 rfl rfl hk
  · refine ch_aload_n 0 (some t0) dX1_step_7 rfl (cp_gI (ci := 1) (k := 19) dX1_step_8 fl_X1_96 rfl h (fun v2 h => ?_))
    refine cp_if_ne _ (tgt := 76) dX1_step_11 rfl h (fun h => ?_) (fun h => ?_)
    · refine ch_aload_n 0 (some t0) dX1_step_76 rfl (cp_gI (ci := 1) (k := 19) dX1_step_77 fl_X1_96 rfl h (fun v3 h => ?_))
      obtain rfl := Option.some.inj h
      exact ch_ireturn _ dX1_step_80 rfl rfl hk
    · refine ch_aload_n 0 (some t0) dX1_step_14 rfl (ch_dup dX1_step_15 (ch_cat _) (cp_gI (ci := 1) (k := 16) dX1_step_16 fl_X1_87 rfl h (fun v4 h => ?_)))
      refine ch_iconst _ 1 dX1_step_19 rfl (ch_iadd _ _ dX1_step_20 (cp_pI (ci := 1) (k := 16) dX1_step_21 fl_X1_87 rfl rfl rfl h (fun w5 h => ?_)))
      obtain ⟨_, hb6, h⟩ := ch_bd h
      refine ch_aload_n 0 (some t0) dX1_step_24 rfl (ch_iv yX1_does prog_5_method_26_code 5 none (ci := 1) (q := (RX1, TX1, 22)) (b := t0) (d' := 10) (av := []) (rest := []) rfl dX1_step_25 q1414 q1416 rfl qs79 q1417 can_X1_does (Nat.le_of_ble_eq_true rfl) (Nat.le_of_ble_eq_true rfl) (ch_rts hb6) (cp_tVH h (fun p hp Q' hq => s_X1_does hp hq) (fun w7 h => ?_) (fun a8 w9 h => ?_)))
      · obtain ⟨_, hb10, h⟩ := ch_bd h
        obtain ⟨p11, hp12, h⟩ := ch_bd h
        refine ch_aload_n 0 (some t0) dX1_step_28 rfl (ch_iv yX1_settle prog_5_method_23_code 4 none (ci := 1) (q := (RX1, TX1, 22)) (b := t0) (d' := 4) (av := []) (rest := []) rfl dX1_step_29 q1385 q1387 rfl qs74 q1388 can_X1_settle (Nat.le_of_ble_eq_true rfl) (Nat.le_of_ble_eq_true rfl) (ch_rts hb10) (cp_kV (w1 := p11) (fun Q' hq => s_X1_settle hp12 hq) ?_))
        refine ch_goto 70 dX1_step_32 rfl (ch_iinc 2 _ _ (x2 + 1) (ls1 := [some (va_rf (some t0)), some (.int x1), some (.int (x2 + 1)), none]) dX1_step_70 rfl rfl (Nat.le_of_ble_eq_true rfl) rfl (ch_goto 2 dX1_step_73 rfl (ch_FT.wk (ch_wS (ch_wS (ch_wS (ch_wN ch_w0)))) ?_)))
        obtain rfl := Option.some.inj h
        exact hk
      · by_cases et0 : ch_tg w9 a8 = 3
        · replace h := ch_ifT et0 h
          refine ch_th1 (ci := 2) (q := (RX2, TX2, 7)) rfl (by decide) (by decide) (by decide) rfl q245 et0 ?_
          refine ch_astore_n 3 (some a8) (ls1 := [some (va_rf (some t0)), some (.int x1), some (.int x2), some (va_rf (some a8))]) dX1_step_35 (Nat.le_of_ble_eq_true rfl) rfl (ch_aload_n 0 (some t0) dX1_step_36 rfl (ch_dup dX1_step_37 (ch_cat _) (cp_gI (ci := 1) (k := 18) dX1_step_38 fl_X1_93 rfl h (fun v13 h => ?_))))
          refine ch_iconst _ 1 dX1_step_41 rfl (ch_iadd _ _ dX1_step_42 (cp_pI (ci := 1) (k := 18) dX1_step_43 fl_X1_93 rfl rfl rfl h (fun w14 h => ?_)))
          refine ch_aload_n 0 (some t0) dX1_step_46 rfl (ch_aload_n 3 (some a8) dX1_step_47 rfl (cp_gL (ci := 2) (k := 6) dX1_step_48 fl_X1_211 rfl h (fun v15 h => ?_)))
          obtain ⟨_, hb16, h⟩ := ch_bd h
          obtain ⟨p17, hp18, h⟩ := ch_bd h
          refine ch_iv yX1_lands prog_5_method_22_code 10 none (ci := 1) (q := (RX1, TX1, 22)) (b := t0) (d' := 4) (av := [.long v15]) (rest := []) rfl dX1_step_51 q1510 q1512 rfl qs101 q1513 can_X1_lands (Nat.le_of_ble_eq_true rfl) (Nat.le_of_ble_eq_true rfl) (ch_rts hb16) (cp_kV (w1 := p17) (fun Q' hq => s_X1_lands hp18 hq) ?_)
          obtain ⟨_, hb19, h⟩ := ch_bd h
          obtain ⟨p20, hp21, h⟩ := ch_bd h
          refine ch_aload_n 0 (some t0) dX1_step_54 rfl (ch_iv yX1_settle prog_5_method_23_code 4 none (ci := 1) (q := (RX1, TX1, 22)) (b := t0) (d' := 4) (av := []) (rest := []) rfl dX1_step_55 q1385 q1387 rfl qs74 q1388 can_X1_settle (Nat.le_of_ble_eq_true rfl) (Nat.le_of_ble_eq_true rfl) (ch_rts hb19) (cp_kV (w1 := p20) (fun Q' hq => s_X1_settle hp21 hq) ?_))
          refine ch_goto 70 dX1_step_58 rfl (ch_iinc 2 _ _ (x2 + 1) (ls1 := [some (va_rf (some t0)), some (.int x1), some (.int (x2 + 1)), some (va_rf (some a8))]) dX1_step_70 rfl rfl (Nat.le_of_ble_eq_true rfl) rfl (ch_goto 2 dX1_step_73 rfl (ch_FT.wk (ch_wS (ch_wS (ch_wS (ch_wN ch_w0)))) ?_)))
          obtain rfl := Option.some.inj h
          exact hk
        replace h := ch_ifF et0 h
        by_cases et1 : ch_tg w9 a8 = 13
        · replace h := ch_ifT et1 h
          refine ch_th2 rfl (by decide) (by decide) (by decide) (by decide) (by decide) (by decide) q245 q1347 et1 ?_
          refine ch_astore_n 3 (some a8) (ls1 := [some (va_rf (some t0)), some (.int x1), some (.int x2), some (va_rf (some a8))]) dX1_step_61 (Nat.le_of_ble_eq_true rfl) rfl (ch_aload_n 0 (some t0) dX1_step_62 rfl (ch_aload_n 3 (some a8) dX1_step_63 rfl (cp_gI (ci := 12) (k := 6) dX1_step_64 fl_X1_218 rfl h (fun v22 h => ?_))))
          obtain ⟨_, hb23, h⟩ := ch_bd h
          obtain ⟨p24, hp25, h⟩ := ch_bd h
          refine ch_iv yX1_end prog_5_method_21_code 2 none (ci := 1) (q := (RX1, TX1, 22)) (b := t0) (d' := 2) (av := [.int v22]) (rest := []) rfl dX1_step_67 q1506 q1508 rfl qs100 q1509 can_X1_end (Nat.le_of_ble_eq_true rfl) (Nat.le_of_ble_eq_true rfl) (ch_rts hb23) (cp_kV (w1 := p24) (fun Q' hq => s_X1_end hp25 hq) ?_)
          refine ch_iinc 2 _ _ (x2 + 1) (ls1 := [some (va_rf (some t0)), some (.int x1), some (.int (x2 + 1)), some (va_rf (some a8))]) dX1_step_70 rfl rfl (Nat.le_of_ble_eq_true rfl) rfl (ch_goto 2 dX1_step_73 rfl (ch_FT.wk (ch_wS (ch_wS (ch_wS (ch_wN ch_w0)))) ?_))
          obtain rfl := Option.some.inj h
          exact hk
        replace h := ch_ifF et1 h
        cases h
theorem sl_X1_step_2 {g : State} {t0 : Nat} {x1 : Int32} {a : Int32 × ch_W} {res : Int32 × ch_W} {Q : Outcome → ch_W → Prop} (h : ch_loop (fun (s : Int32 × ch_W) => c_X1_step_2 g t0 x1 s.1 s.2) a = some res) (hk : (ch_eI Q) res) : ch_FT g true mX1_step 11 2 [some (va_rf (some t0)), some (.int x1), some (.int a.1), none] [] (a.2) Q := by
  refine ch_loop_ind (fun (a : Int32 × ch_W) (r : Int32 × ch_W) => (ch_eI Q) r → ch_FT g true mX1_step 11 2 [some (va_rf (some t0)), some (.int x1), some (.int a.1), none] [] (a.2) Q) ?_ ?_ a res h hk
  · intro a a2 b h1 ih hk
    exact s_X1_step_2  h1 (ih hk)
  · intro a b h1 hk
    exact s_X1_step_2  h1 hk

def c_X1_step (g : State) (t0 : Nat) (x1 : Int32) (w : ch_W) : Option (Int32 × ch_W) := ch_loop (fun (s : Int32 × ch_W) => c_X1_step_2 g t0 x1 s.1 s.2) (0, w)
theorem s_X1_step {g : State} {t0 : Nat} {x1 : Int32} {w : ch_W} {res : Int32 × ch_W} {Q : Outcome → ch_W → Prop} (h : c_X1_step g t0 x1 w = some res) (hk : (ch_eI Q) res) : ch_CT g true yX1_step 11 [.ref t0, .int x1] (w) Q := by
  unfold c_X1_step at h
  refine ch_ctH mX1_step (ls := [some (va_rf (some t0)), some (.int x1), none, none]) q1413 (ch_lyr (r := some t0) (ch_lyi ch_ly0)) (Nat.le_of_ble_eq_true rfl) rfl ?_
  exact ch_iconst _ 0 dX1_step_0 rfl (ch_istore_n 2 _ (ls1 := [some (va_rf (some t0)), some (.int x1), some (.int 0), none]) dX1_step_1 (Nat.le_of_ble_eq_true rfl) rfl (ch_FT.wk (ch_wS (ch_wS (ch_wS (ch_wN ch_w0)))) (sl_X1_step_2  h hk)))

theorem bX0_step_0 : ch_ck cX0_step 0 [42, 180, 0, 35, 153, 0, 25, 27, 155, 0, 21, 27, 17, 78, 32, 163] := ch_ckof (by decide +kernel)
theorem bX0_step_1 : ch_ck cX0_step 16 [0, 14, 42, 180, 0, 20, 27, 182, 0, 103, 167, 0, 4, 2, 172] := ch_ckof (by decide +kernel)
theorem dX0_step_0 : decode cX0_step 0 = .ok (.aload_n 0, 1) := dz_42 (bX0_step_0 0 _ rfl)
theorem dX0_step_1 : decode cX0_step 1 = .ok (.getfield 35, 3) := dz_180 (bX0_step_0 1 _ rfl) (bX0_step_0 2 _ rfl) (bX0_step_0 3 _ rfl)
theorem dX0_step_4 : decode cX0_step 4 = .ok (.ifCond .eq 25, 3) := dz_153 (bX0_step_0 4 _ rfl) (bX0_step_0 5 _ rfl) (bX0_step_0 6 _ rfl)
theorem dX0_step_7 : decode cX0_step 7 = .ok (.iload_n 1, 1) := dz_27 (bX0_step_0 7 _ rfl)
theorem dX0_step_8 : decode cX0_step 8 = .ok (.ifCond .lt 21, 3) := dz_155 (bX0_step_0 8 _ rfl) (bX0_step_0 9 _ rfl) (bX0_step_0 10 _ rfl)
theorem dX0_step_11 : decode cX0_step 11 = .ok (.iload_n 1, 1) := dz_27 (bX0_step_0 11 _ rfl)
theorem dX0_step_12 : decode cX0_step 12 = .ok (.sipush 20000, 3) := dz_17 (bX0_step_0 12 _ rfl) (bX0_step_0 13 _ rfl) (bX0_step_0 14 _ rfl)
theorem dX0_step_15 : decode cX0_step 15 = .ok (.if_icmp .gt 14, 3) := dz_163 (bX0_step_0 15 _ rfl) (bX0_step_1 0 _ rfl) (bX0_step_1 1 _ rfl)
theorem dX0_step_18 : decode cX0_step 18 = .ok (.aload_n 0, 1) := dz_42 (bX0_step_1 2 _ rfl)
theorem dX0_step_19 : decode cX0_step 19 = .ok (.getfield 20, 3) := dz_180 (bX0_step_1 3 _ rfl) (bX0_step_1 4 _ rfl) (bX0_step_1 5 _ rfl)
theorem dX0_step_22 : decode cX0_step 22 = .ok (.iload_n 1, 1) := dz_27 (bX0_step_1 6 _ rfl)
theorem dX0_step_23 : decode cX0_step 23 = .ok (.invokevirtual 103, 3) := dz_182 (bX0_step_1 7 _ rfl) (bX0_step_1 8 _ rfl) (bX0_step_1 9 _ rfl)
theorem dX0_step_26 : decode cX0_step 26 = .ok (.goto 4, 3) := dz_167 (bX0_step_1 10 _ rfl) (bX0_step_1 11 _ rfl) (bX0_step_1 12 _ rfl)
theorem dX0_step_29 : decode cX0_step 29 = .ok (.iconst (-1), 1) := dz_2 (bX0_step_1 13 _ rfl)
theorem dX0_step_30 : decode cX0_step 30 = .ok (.ireturn, 1) := dz_172 (bX0_step_1 14 _ rfl)
def c_X0_step (g : State) (t0 : Nat) (x1 : Int32) (w : ch_W) : Option (Int32 × ch_W) := (ch_gI w (some t0) 1 fX0_isBegun).bind fun v1 => if v1 = 0 then (some (((-1), w))) else (if x1 < 0 then (some (((-1), w))) else (if 20000 < x1 then (some (((-1), w))) else ((ch_gR w (some t0) 1 fX0_machine).bind fun v2 => (ch_rc w v2 2).bind fun b4 => (c_X1_step g b4 x1 w).bind fun p5 => some ((p5.1, p5.2)))))
theorem s_X0_step {g : State} {t0 : Nat} {x1 : Int32} {w : ch_W} {res : Int32 × ch_W} {Q : Outcome → ch_W → Prop} (h : c_X0_step g t0 x1 w = some res) (hk : (ch_eI Q) res) : ch_CT g true yX0_step 12 [.ref t0, .int x1] (w) Q := by
  unfold c_X0_step at h
  refine ch_ctL mX0_step (ls := [some (va_rf (some t0)), some (.int x1)]) q1409 rfl (ch_lyr (r := some t0) (ch_lyi ch_ly0)) (Nat.le_of_ble_eq_true rfl) rfl ?_
  refine ch_aload_n 0 (some t0) dX0_step_0 rfl (cp_gI (ci := 0) (k := 6) dX0_step_1 fl_X0_35 rfl h (fun v1 h => ?_))
  refine cp_if_eq _ (tgt := 29) dX0_step_4 rfl h (fun h => ?_) (fun h => ?_)
  · obtain rfl := Option.some.inj h
    exact ch_iconst _ (-1) dX0_step_29 rfl (ch_ireturn _ dX0_step_30 rfl rfl hk)
  · refine ch_iload_n 1 _ dX0_step_7 rfl (cp_if_lt _ (tgt := 29) dX0_step_8 rfl h (fun h => ?_) (fun h => ?_))
    · obtain rfl := Option.some.inj h
      exact ch_iconst _ (-1) dX0_step_29 rfl (ch_ireturn _ dX0_step_30 rfl rfl hk)
    · refine ch_iload_n 1 _ dX0_step_11 rfl (ch_sipush _ 20000 dX0_step_12 rfl (cp_icmp_gt _ _ (tgt := 29) dX0_step_15 rfl h (fun h => ?_) (fun h => ?_)))
      · obtain rfl := Option.some.inj h
        exact ch_iconst _ (-1) dX0_step_29 rfl (ch_ireturn _ dX0_step_30 rfl rfl hk)
      · refine ch_aload_n 0 (some t0) dX0_step_18 rfl (cp_gR (ci := 0) (k := 5) dX0_step_19 fl_X0_20 rfl h (fun v2 h => ?_))
        obtain ⟨b4, hb3, h⟩ := ch_bd h
        obtain ⟨p5, hp6, h⟩ := ch_bd h
        refine ch_iload_n 1 _ dX0_step_22 rfl (ch_ivH yX1_step prog_5_method_20_code 4 (some .int) [(24, 32, 35, 41), (24, 32, 61, 122)] (ci := 1) (q := (RX1, TX1, 22)) (b := b4) (d' := 11) (av := [.int x1]) (rest := []) (by rw [ch_rs hb3]; rfl) dX0_step_23 q1410 q1411 rfl q1412 q1413 can_X1_step (Nat.le_of_ble_eq_true rfl) (Nat.le_of_ble_eq_true rfl) (ch_rtg hb3) (cp_kI (v := p5.1) (w1 := p5.2) (fun Q' hq => s_X1_step hp6 hq) ?_))
        obtain rfl := Option.some.inj h
        exact ch_goto 30 dX0_step_26 rfl (ch_ireturn _ dX0_step_30 rfl rfl hk)

theorem bX0_result_0 : ch_ck cX0_result 0 [42, 180, 0, 35, 153, 0, 35, 42, 180, 0, 20, 180, 0, 107, 4, 159] := ch_ckof (by decide +kernel)
theorem bX0_result_1 : ch_ck cX0_result 16 [0, 14, 42, 180, 0, 20, 180, 0, 107, 5, 160, 0, 13, 42, 180, 0] := ch_ckof (by decide +kernel)
theorem bX0_result_2 : ch_ck cX0_result 32 [20, 180, 0, 110, 167, 0, 4, 3, 172] := ch_ckof (by decide +kernel)
theorem dX0_result_0 : decode cX0_result 0 = .ok (.aload_n 0, 1) := dz_42 (bX0_result_0 0 _ rfl)
theorem dX0_result_1 : decode cX0_result 1 = .ok (.getfield 35, 3) := dz_180 (bX0_result_0 1 _ rfl) (bX0_result_0 2 _ rfl) (bX0_result_0 3 _ rfl)
theorem dX0_result_4 : decode cX0_result 4 = .ok (.ifCond .eq 35, 3) := dz_153 (bX0_result_0 4 _ rfl) (bX0_result_0 5 _ rfl) (bX0_result_0 6 _ rfl)
theorem dX0_result_7 : decode cX0_result 7 = .ok (.aload_n 0, 1) := dz_42 (bX0_result_0 7 _ rfl)
theorem dX0_result_8 : decode cX0_result 8 = .ok (.getfield 20, 3) := dz_180 (bX0_result_0 8 _ rfl) (bX0_result_0 9 _ rfl) (bX0_result_0 10 _ rfl)
theorem dX0_result_11 : decode cX0_result 11 = .ok (.getfield 107, 3) := dz_180 (bX0_result_0 11 _ rfl) (bX0_result_0 12 _ rfl) (bX0_result_0 13 _ rfl)
theorem dX0_result_14 : decode cX0_result 14 = .ok (.iconst 1, 1) := dz_4 (bX0_result_0 14 _ rfl)
theorem dX0_result_15 : decode cX0_result 15 = .ok (.if_icmp .eq 14, 3) := dz_159 (bX0_result_0 15 _ rfl) (bX0_result_1 0 _ rfl) (bX0_result_1 1 _ rfl)
theorem dX0_result_18 : decode cX0_result 18 = .ok (.aload_n 0, 1) := dz_42 (bX0_result_1 2 _ rfl)
theorem dX0_result_19 : decode cX0_result 19 = .ok (.getfield 20, 3) := dz_180 (bX0_result_1 3 _ rfl) (bX0_result_1 4 _ rfl) (bX0_result_1 5 _ rfl)
theorem dX0_result_22 : decode cX0_result 22 = .ok (.getfield 107, 3) := dz_180 (bX0_result_1 6 _ rfl) (bX0_result_1 7 _ rfl) (bX0_result_1 8 _ rfl)
theorem dX0_result_25 : decode cX0_result 25 = .ok (.iconst 2, 1) := dz_5 (bX0_result_1 9 _ rfl)
theorem dX0_result_26 : decode cX0_result 26 = .ok (.if_icmp .ne 13, 3) := dz_160 (bX0_result_1 10 _ rfl) (bX0_result_1 11 _ rfl) (bX0_result_1 12 _ rfl)
theorem dX0_result_29 : decode cX0_result 29 = .ok (.aload_n 0, 1) := dz_42 (bX0_result_1 13 _ rfl)
theorem dX0_result_30 : decode cX0_result 30 = .ok (.getfield 20, 3) := dz_180 (bX0_result_1 14 _ rfl) (bX0_result_1 15 _ rfl) (bX0_result_2 0 _ rfl)
theorem dX0_result_33 : decode cX0_result 33 = .ok (.getfield 110, 3) := dz_180 (bX0_result_2 1 _ rfl) (bX0_result_2 2 _ rfl) (bX0_result_2 3 _ rfl)
theorem dX0_result_36 : decode cX0_result 36 = .ok (.goto 4, 3) := dz_167 (bX0_result_2 4 _ rfl) (bX0_result_2 5 _ rfl) (bX0_result_2 6 _ rfl)
theorem dX0_result_39 : decode cX0_result 39 = .ok (.iconst 0, 1) := dz_3 (bX0_result_2 7 _ rfl)
theorem dX0_result_40 : decode cX0_result 40 = .ok (.ireturn, 1) := dz_172 (bX0_result_2 8 _ rfl)
def c_X0_result (t0 : Nat)  (w : ch_W) : Option (Int32) := (ch_gI w (some t0) 1 fX0_isBegun).bind fun v1 => if v1 = 0 then (some (0)) else ((ch_gR w (some t0) 1 fX0_machine).bind fun v2 => (ch_gI w v2 2 fX1_ended).bind fun v3 => if v3 = 1 then ((ch_gR w (some t0) 1 fX0_machine).bind fun v4 => (ch_gI w v4 2 fX1_result).bind fun v5 => some (v5)) else ((ch_gR w (some t0) 1 fX0_machine).bind fun v6 => (ch_gI w v6 2 fX1_ended).bind fun v7 => if v7 = 2 then ((ch_gR w (some t0) 1 fX0_machine).bind fun v8 => (ch_gI w v8 2 fX1_result).bind fun v9 => some (v9)) else (some (0))))
theorem s_X0_result {g : State} {kb : Bool} {t0 : Nat} {w : ch_W} {res : Int32} {Q : Outcome → ch_W → Prop} (h : c_X0_result t0 w = some res) (hk : (fun r => ch_eI Q (r, w)) res) : ch_CT g kb yX0_result 2 [.ref t0] (w) Q := by
  unfold c_X0_result at h
  refine ch_ctL mX0_result (ls := [some (va_rf (some t0))]) q1517 rfl (ch_lyr (r := some t0) ch_ly0) (Nat.le_of_ble_eq_true rfl) rfl ?_
  refine ch_aload_n 0 (some t0) dX0_result_0 rfl (cp_gI (ci := 0) (k := 6) dX0_result_1 fl_X0_35 rfl h (fun v1 h => ?_))
  refine cp_if_eq _ (tgt := 39) dX0_result_4 rfl h (fun h => ?_) (fun h => ?_)
  · obtain rfl := Option.some.inj h
    exact ch_iconst _ 0 dX0_result_39 rfl (ch_ireturn _ dX0_result_40 rfl rfl hk)
  · refine ch_aload_n 0 (some t0) dX0_result_7 rfl (cp_gR (ci := 0) (k := 5) dX0_result_8 fl_X0_20 rfl h (fun v2 h => ?_))
    refine cp_gI (ci := 1) (k := 19) dX0_result_11 fl_X0_107 rfl h (fun v3 h => ?_)
    refine ch_iconst _ 1 dX0_result_14 rfl (cp_icmp_eq _ _ (tgt := 29) dX0_result_15 rfl h (fun h => ?_) (fun h => ?_))
    · refine ch_aload_n 0 (some t0) dX0_result_29 rfl (cp_gR (ci := 0) (k := 5) dX0_result_30 fl_X0_20 rfl h (fun v4 h => ?_))
      refine cp_gI (ci := 1) (k := 20) dX0_result_33 fl_X0_110 rfl h (fun v5 h => ?_)
      obtain rfl := Option.some.inj h
      exact ch_goto 40 dX0_result_36 rfl (ch_ireturn _ dX0_result_40 rfl rfl hk)
    · refine ch_aload_n 0 (some t0) dX0_result_18 rfl (cp_gR (ci := 0) (k := 5) dX0_result_19 fl_X0_20 rfl h (fun v6 h => ?_))
      refine cp_gI (ci := 1) (k := 19) dX0_result_22 fl_X0_107 rfl h (fun v7 h => ?_)
      refine ch_iconst _ 2 dX0_result_25 rfl (cp_icmp_ne _ _ (tgt := 39) dX0_result_26 rfl h (fun h => ?_) (fun h => ?_))
      · obtain rfl := Option.some.inj h
        exact ch_iconst _ 0 dX0_result_39 rfl (ch_ireturn _ dX0_result_40 rfl rfl hk)
      · refine ch_aload_n 0 (some t0) dX0_result_29 rfl (cp_gR (ci := 0) (k := 5) dX0_result_30 fl_X0_20 rfl h (fun v8 h => ?_))
        refine cp_gI (ci := 1) (k := 20) dX0_result_33 fl_X0_110 rfl h (fun v9 h => ?_)
        obtain rfl := Option.some.inj h
        exact ch_goto 40 dX0_result_36 rfl (ch_ireturn _ dX0_result_40 rfl rfl hk)

theorem bX0_output_0 : ch_ck cX0_output 0 [42, 180, 0, 35, 153, 0, 37, 27, 155, 0, 33, 27, 42, 180, 0, 20] := ch_ckof (by decide +kernel)
theorem bX0_output_1 : ch_ck cX0_output 16 [180, 0, 113, 162, 0, 22, 27, 17, 1, 244, 162, 0, 15, 42, 180, 0] := ch_ckof (by decide +kernel)
theorem bX0_output_2 : ch_ck cX0_output 32 [20, 180, 0, 116, 27, 46, 167, 0, 4, 3, 172] := ch_ckof (by decide +kernel)
theorem dX0_output_0 : decode cX0_output 0 = .ok (.aload_n 0, 1) := dz_42 (bX0_output_0 0 _ rfl)
theorem dX0_output_1 : decode cX0_output 1 = .ok (.getfield 35, 3) := dz_180 (bX0_output_0 1 _ rfl) (bX0_output_0 2 _ rfl) (bX0_output_0 3 _ rfl)
theorem dX0_output_4 : decode cX0_output 4 = .ok (.ifCond .eq 37, 3) := dz_153 (bX0_output_0 4 _ rfl) (bX0_output_0 5 _ rfl) (bX0_output_0 6 _ rfl)
theorem dX0_output_7 : decode cX0_output 7 = .ok (.iload_n 1, 1) := dz_27 (bX0_output_0 7 _ rfl)
theorem dX0_output_8 : decode cX0_output 8 = .ok (.ifCond .lt 33, 3) := dz_155 (bX0_output_0 8 _ rfl) (bX0_output_0 9 _ rfl) (bX0_output_0 10 _ rfl)
theorem dX0_output_11 : decode cX0_output 11 = .ok (.iload_n 1, 1) := dz_27 (bX0_output_0 11 _ rfl)
theorem dX0_output_12 : decode cX0_output 12 = .ok (.aload_n 0, 1) := dz_42 (bX0_output_0 12 _ rfl)
theorem dX0_output_13 : decode cX0_output 13 = .ok (.getfield 20, 3) := dz_180 (bX0_output_0 13 _ rfl) (bX0_output_0 14 _ rfl) (bX0_output_0 15 _ rfl)
theorem dX0_output_16 : decode cX0_output 16 = .ok (.getfield 113, 3) := dz_180 (bX0_output_1 0 _ rfl) (bX0_output_1 1 _ rfl) (bX0_output_1 2 _ rfl)
theorem dX0_output_19 : decode cX0_output 19 = .ok (.if_icmp .ge 22, 3) := dz_162 (bX0_output_1 3 _ rfl) (bX0_output_1 4 _ rfl) (bX0_output_1 5 _ rfl)
theorem dX0_output_22 : decode cX0_output 22 = .ok (.iload_n 1, 1) := dz_27 (bX0_output_1 6 _ rfl)
theorem dX0_output_23 : decode cX0_output 23 = .ok (.sipush 500, 3) := dz_17 (bX0_output_1 7 _ rfl) (bX0_output_1 8 _ rfl) (bX0_output_1 9 _ rfl)
theorem dX0_output_26 : decode cX0_output 26 = .ok (.if_icmp .ge 15, 3) := dz_162 (bX0_output_1 10 _ rfl) (bX0_output_1 11 _ rfl) (bX0_output_1 12 _ rfl)
theorem dX0_output_29 : decode cX0_output 29 = .ok (.aload_n 0, 1) := dz_42 (bX0_output_1 13 _ rfl)
theorem dX0_output_30 : decode cX0_output 30 = .ok (.getfield 20, 3) := dz_180 (bX0_output_1 14 _ rfl) (bX0_output_1 15 _ rfl) (bX0_output_2 0 _ rfl)
theorem dX0_output_33 : decode cX0_output 33 = .ok (.getfield 116, 3) := dz_180 (bX0_output_2 1 _ rfl) (bX0_output_2 2 _ rfl) (bX0_output_2 3 _ rfl)
theorem dX0_output_36 : decode cX0_output 36 = .ok (.iload_n 1, 1) := dz_27 (bX0_output_2 4 _ rfl)
theorem dX0_output_37 : decode cX0_output 37 = .ok (.iaload, 1) := dz_46 (bX0_output_2 5 _ rfl)
theorem dX0_output_38 : decode cX0_output 38 = .ok (.goto 4, 3) := dz_167 (bX0_output_2 6 _ rfl) (bX0_output_2 7 _ rfl) (bX0_output_2 8 _ rfl)
theorem dX0_output_41 : decode cX0_output 41 = .ok (.iconst 0, 1) := dz_3 (bX0_output_2 9 _ rfl)
theorem dX0_output_42 : decode cX0_output 42 = .ok (.ireturn, 1) := dz_172 (bX0_output_2 10 _ rfl)
def c_X0_output (t0 : Nat) (x1 : Int32) (w : ch_W) : Option (Int32) := (ch_gI w (some t0) 1 fX0_isBegun).bind fun v1 => if v1 = 0 then (some (0)) else (if x1 < 0 then (some (0)) else ((ch_gR w (some t0) 1 fX0_machine).bind fun v2 => (ch_gI w v2 2 fX1_printed).bind fun v3 => if x1 < v3 then (if x1 < 500 then ((ch_gR w (some t0) 1 fX0_machine).bind fun v4 => (ch_gR w v4 2 fX1_outputs).bind fun v5 => (ch_lI w v5 21 x1).bind fun v6 => some (v6)) else (some (0))) else (some (0))))
theorem s_X0_output {g : State} {kb : Bool} {t0 : Nat} {x1 : Int32} {w : ch_W} {res : Int32} {Q : Outcome → ch_W → Prop} (h : c_X0_output t0 x1 w = some res) (hk : (fun r => ch_eI Q (r, w)) res) : ch_CT g kb yX0_output 2 [.ref t0, .int x1] (w) Q := by
  unfold c_X0_output at h
  refine ch_ctL mX0_output (ls := [some (va_rf (some t0)), some (.int x1)]) q1521 rfl (ch_lyr (r := some t0) (ch_lyi ch_ly0)) (Nat.le_of_ble_eq_true rfl) rfl ?_
  refine ch_aload_n 0 (some t0) dX0_output_0 rfl (cp_gI (ci := 0) (k := 6) dX0_output_1 fl_X0_35 rfl h (fun v1 h => ?_))
  refine cp_if_eq _ (tgt := 41) dX0_output_4 rfl h (fun h => ?_) (fun h => ?_)
  · obtain rfl := Option.some.inj h
    exact ch_iconst _ 0 dX0_output_41 rfl (ch_ireturn _ dX0_output_42 rfl rfl hk)
  · refine ch_iload_n 1 _ dX0_output_7 rfl (cp_if_lt _ (tgt := 41) dX0_output_8 rfl h (fun h => ?_) (fun h => ?_))
    · obtain rfl := Option.some.inj h
      exact ch_iconst _ 0 dX0_output_41 rfl (ch_ireturn _ dX0_output_42 rfl rfl hk)
    · refine ch_iload_n 1 _ dX0_output_11 rfl (ch_aload_n 0 (some t0) dX0_output_12 rfl (cp_gR (ci := 0) (k := 5) dX0_output_13 fl_X0_20 rfl h (fun v2 h => ?_)))
      refine cp_gI (ci := 1) (k := 15) dX0_output_16 fl_X0_113 rfl h (fun v3 h => ?_)
      refine cp_icmp_ge _ _ (tgt := 41) dX0_output_19 rfl h (fun h => ?_) (fun h => ?_)
      · obtain rfl := Option.some.inj h
        exact ch_iconst _ 0 dX0_output_41 rfl (ch_ireturn _ dX0_output_42 rfl rfl hk)
      · refine ch_iload_n 1 _ dX0_output_22 rfl (ch_sipush _ 500 dX0_output_23 rfl (cp_icmp_ge _ _ (tgt := 41) dX0_output_26 rfl h (fun h => ?_) (fun h => ?_)))
        · obtain rfl := Option.some.inj h
          exact ch_iconst _ 0 dX0_output_41 rfl (ch_ireturn _ dX0_output_42 rfl rfl hk)
        · refine ch_aload_n 0 (some t0) dX0_output_29 rfl (cp_gR (ci := 0) (k := 5) dX0_output_30 fl_X0_20 rfl h (fun v4 h => ?_))
          refine cp_gR (ci := 1) (k := 14) dX0_output_33 fl_X0_116 rfl h (fun v5 h => ?_)
          refine ch_iload_n 1 _ dX0_output_36 rfl (cp_iald (t := 21) dX0_output_37 rfl rfl h (fun v6 h => ?_))
          obtain rfl := Option.some.inj h
          exact ch_goto 42 dX0_output_38 rfl (ch_ireturn _ dX0_output_42 rfl rfl hk)

theorem bX1_reached_0 : ch_ck cX1_reached 0 [42, 180, 0, 96, 153, 0, 5, 3, 172, 42, 182, 0, 119, 42, 180, 0] := ch_ckof (by decide +kernel)
theorem bX1_reached_1 : ch_ck cX1_reached 16 [75, 172] := ch_ckof (by decide +kernel)
theorem dX1_reached_0 : decode cX1_reached 0 = .ok (.aload_n 0, 1) := dz_42 (bX1_reached_0 0 _ rfl)
theorem dX1_reached_1 : decode cX1_reached 1 = .ok (.getfield 96, 3) := dz_180 (bX1_reached_0 1 _ rfl) (bX1_reached_0 2 _ rfl) (bX1_reached_0 3 _ rfl)
theorem dX1_reached_4 : decode cX1_reached 4 = .ok (.ifCond .eq 5, 3) := dz_153 (bX1_reached_0 4 _ rfl) (bX1_reached_0 5 _ rfl) (bX1_reached_0 6 _ rfl)
theorem dX1_reached_7 : decode cX1_reached 7 = .ok (.iconst 0, 1) := dz_3 (bX1_reached_0 7 _ rfl)
theorem dX1_reached_8 : decode cX1_reached 8 = .ok (.ireturn, 1) := dz_172 (bX1_reached_0 8 _ rfl)
theorem dX1_reached_9 : decode cX1_reached 9 = .ok (.aload_n 0, 1) := dz_42 (bX1_reached_0 9 _ rfl)
theorem dX1_reached_10 : decode cX1_reached 10 = .ok (.invokevirtual 119, 3) := dz_182 (bX1_reached_0 10 _ rfl) (bX1_reached_0 11 _ rfl) (bX1_reached_0 12 _ rfl)
theorem dX1_reached_13 : decode cX1_reached 13 = .ok (.aload_n 0, 1) := dz_42 (bX1_reached_0 13 _ rfl)
theorem dX1_reached_14 : decode cX1_reached 14 = .ok (.getfield 75, 3) := dz_180 (bX1_reached_0 14 _ rfl) (bX1_reached_0 15 _ rfl) (bX1_reached_1 0 _ rfl)
theorem dX1_reached_17 : decode cX1_reached 17 = .ok (.ireturn, 1) := dz_172 (bX1_reached_1 1 _ rfl)
def c_X1_reached (t0 : Nat)  (w : ch_W) : Option (Int32 × ch_W) := (ch_gI w (some t0) 2 fX1_ended).bind fun v1 => if v1 = 0 then ((ch_rc w (some t0) 2).bind fun _ => (c_X1_collect t0 w).bind fun p3 => (ch_gI p3 (some t0) 2 fX1_used).bind fun v5 => some ((v5, p3))) else (some ((0, w)))
theorem s_X1_reached {g : State} {t0 : Nat} {w : ch_W} {res : Int32 × ch_W} {Q : Outcome → ch_W → Prop} (h : c_X1_reached t0 w = some res) (hk : (ch_eI Q) res) : ch_CT g true yX1_reached 5 [.ref t0] (w) Q := by
  unfold c_X1_reached at h
  refine ch_ctL mX1_reached (ls := [some (va_rf (some t0))]) q1533 rfl (ch_lyr (r := some t0) ch_ly0) (Nat.le_of_ble_eq_true rfl) rfl ?_
  refine ch_aload_n 0 (some t0) dX1_reached_0 rfl (cp_gI (ci := 1) (k := 19) dX1_reached_1 fl_X1_96 rfl h (fun v1 h => ?_))
  refine cp_if_eq _ (tgt := 9) dX1_reached_4 rfl h (fun h => ?_) (fun h => ?_)
  · obtain ⟨_, hb2, h⟩ := ch_bd h
    obtain ⟨p3, hp4, h⟩ := ch_bd h
    refine ch_aload_n 0 (some t0) dX1_reached_9 rfl (ch_iv yX1_collect prog_5_method_10_code 4 none (ci := 1) (q := (RX1, TX1, 22)) (b := t0) (d' := 4) (av := []) (rest := []) rfl dX1_reached_10 q1327 q1329 rfl qs68 q1330 can_X1_collect (Nat.le_of_ble_eq_true rfl) (Nat.le_of_ble_eq_true rfl) (ch_rts hb2) (cp_kV (w1 := p3) (fun Q' hq => s_X1_collect hp4 hq) ?_))
    refine ch_aload_n 0 (some t0) dX1_reached_13 rfl (cp_gI (ci := 1) (k := 4) dX1_reached_14 fl_X1_75 rfl h (fun v5 h => ?_))
    obtain rfl := Option.some.inj h
    exact ch_ireturn _ dX1_reached_17 rfl rfl hk
  · obtain rfl := Option.some.inj h
    exact ch_iconst _ 0 dX1_reached_7 rfl (ch_ireturn _ dX1_reached_8 rfl rfl hk)

theorem bX0_counted_0 : ch_ck cX0_counted 0 [27, 170, 0, 0, 0, 0, 0, 75, 0, 0, 0, 0, 0, 0, 0, 4] := ch_ckof (by decide +kernel)
theorem bX0_counted_1 : ch_ck cX0_counted 16 [0, 0, 0, 35, 0, 0, 0, 43, 0, 0, 0, 51, 0, 0, 0, 59] := ch_ckof (by decide +kernel)
theorem bX0_counted_2 : ch_ck cX0_counted 32 [0, 0, 0, 67, 42, 180, 0, 20, 180, 0, 122, 172, 42, 180, 0, 20] := ch_ckof (by decide +kernel)
theorem bX0_counted_3 : ch_ck cX0_counted 48 [180, 0, 125, 172, 42, 180, 0, 20, 182, 0, 128, 172, 42, 180, 0, 20] := ch_ckof (by decide +kernel)
theorem bX0_counted_4 : ch_ck cX0_counted 64 [180, 0, 131, 172, 42, 180, 0, 20, 180, 0, 113, 172, 42, 180, 0, 20] := ch_ckof (by decide +kernel)
theorem bX0_counted_5 : ch_ck cX0_counted 80 [180, 0, 134, 172] := ch_ckof (by decide +kernel)
theorem dX0_counted_0 : decode cX0_counted 0 = .ok (.iload_n 1, 1) := dz_27 (bX0_counted_0 0 _ rfl)
theorem dX0_counted_1 : decode cX0_counted 1 = .ok (.tableswitch 75 0 4 #[35, 43, 51, 59, 67], 35) := by decide +kernel
theorem dX0_counted_36 : decode cX0_counted 36 = .ok (.aload_n 0, 1) := dz_42 (bX0_counted_2 4 _ rfl)
theorem dX0_counted_37 : decode cX0_counted 37 = .ok (.getfield 20, 3) := dz_180 (bX0_counted_2 5 _ rfl) (bX0_counted_2 6 _ rfl) (bX0_counted_2 7 _ rfl)
theorem dX0_counted_40 : decode cX0_counted 40 = .ok (.getfield 122, 3) := dz_180 (bX0_counted_2 8 _ rfl) (bX0_counted_2 9 _ rfl) (bX0_counted_2 10 _ rfl)
theorem dX0_counted_43 : decode cX0_counted 43 = .ok (.ireturn, 1) := dz_172 (bX0_counted_2 11 _ rfl)
theorem dX0_counted_44 : decode cX0_counted 44 = .ok (.aload_n 0, 1) := dz_42 (bX0_counted_2 12 _ rfl)
theorem dX0_counted_45 : decode cX0_counted 45 = .ok (.getfield 20, 3) := dz_180 (bX0_counted_2 13 _ rfl) (bX0_counted_2 14 _ rfl) (bX0_counted_2 15 _ rfl)
theorem dX0_counted_48 : decode cX0_counted 48 = .ok (.getfield 125, 3) := dz_180 (bX0_counted_3 0 _ rfl) (bX0_counted_3 1 _ rfl) (bX0_counted_3 2 _ rfl)
theorem dX0_counted_51 : decode cX0_counted 51 = .ok (.ireturn, 1) := dz_172 (bX0_counted_3 3 _ rfl)
theorem dX0_counted_52 : decode cX0_counted 52 = .ok (.aload_n 0, 1) := dz_42 (bX0_counted_3 4 _ rfl)
theorem dX0_counted_53 : decode cX0_counted 53 = .ok (.getfield 20, 3) := dz_180 (bX0_counted_3 5 _ rfl) (bX0_counted_3 6 _ rfl) (bX0_counted_3 7 _ rfl)
theorem dX0_counted_56 : decode cX0_counted 56 = .ok (.invokevirtual 128, 3) := dz_182 (bX0_counted_3 8 _ rfl) (bX0_counted_3 9 _ rfl) (bX0_counted_3 10 _ rfl)
theorem dX0_counted_59 : decode cX0_counted 59 = .ok (.ireturn, 1) := dz_172 (bX0_counted_3 11 _ rfl)
theorem dX0_counted_60 : decode cX0_counted 60 = .ok (.aload_n 0, 1) := dz_42 (bX0_counted_3 12 _ rfl)
theorem dX0_counted_61 : decode cX0_counted 61 = .ok (.getfield 20, 3) := dz_180 (bX0_counted_3 13 _ rfl) (bX0_counted_3 14 _ rfl) (bX0_counted_3 15 _ rfl)
theorem dX0_counted_64 : decode cX0_counted 64 = .ok (.getfield 131, 3) := dz_180 (bX0_counted_4 0 _ rfl) (bX0_counted_4 1 _ rfl) (bX0_counted_4 2 _ rfl)
theorem dX0_counted_67 : decode cX0_counted 67 = .ok (.ireturn, 1) := dz_172 (bX0_counted_4 3 _ rfl)
theorem dX0_counted_68 : decode cX0_counted 68 = .ok (.aload_n 0, 1) := dz_42 (bX0_counted_4 4 _ rfl)
theorem dX0_counted_69 : decode cX0_counted 69 = .ok (.getfield 20, 3) := dz_180 (bX0_counted_4 5 _ rfl) (bX0_counted_4 6 _ rfl) (bX0_counted_4 7 _ rfl)
theorem dX0_counted_72 : decode cX0_counted 72 = .ok (.getfield 113, 3) := dz_180 (bX0_counted_4 8 _ rfl) (bX0_counted_4 9 _ rfl) (bX0_counted_4 10 _ rfl)
theorem dX0_counted_75 : decode cX0_counted 75 = .ok (.ireturn, 1) := dz_172 (bX0_counted_4 11 _ rfl)
theorem dX0_counted_76 : decode cX0_counted 76 = .ok (.aload_n 0, 1) := dz_42 (bX0_counted_4 12 _ rfl)
theorem dX0_counted_77 : decode cX0_counted 77 = .ok (.getfield 20, 3) := dz_180 (bX0_counted_4 13 _ rfl) (bX0_counted_4 14 _ rfl) (bX0_counted_4 15 _ rfl)
theorem dX0_counted_80 : decode cX0_counted 80 = .ok (.getfield 134, 3) := dz_180 (bX0_counted_5 0 _ rfl) (bX0_counted_5 1 _ rfl) (bX0_counted_5 2 _ rfl)
theorem dX0_counted_83 : decode cX0_counted 83 = .ok (.ireturn, 1) := dz_172 (bX0_counted_5 3 _ rfl)
def c_X0_counted (t0 : Nat) (x1 : Int32) (w : ch_W) : Option (Int32 × ch_W) := if x1 = 0 then ((ch_gR w (some t0) 1 fX0_machine).bind fun v3 => (ch_gI w v3 2 fX1_steps).bind fun v4 => some ((v4, w))) else (if x1 = 1 then ((ch_gR w (some t0) 1 fX0_machine).bind fun v5 => (ch_gI w v5 2 fX1_made).bind fun v6 => some ((v6, w))) else (if x1 = 2 then ((ch_gR w (some t0) 1 fX0_machine).bind fun v7 => (ch_rc w v7 2).bind fun b9 => (c_X1_reached b9 w).bind fun p10 => some ((p10.1, p10.2))) else (if x1 = 3 then ((ch_gR w (some t0) 1 fX0_machine).bind fun v12 => (ch_gI w v12 2 fX1_open).bind fun v13 => some ((v13, w))) else (if x1 = 4 then ((ch_gR w (some t0) 1 fX0_machine).bind fun v14 => (ch_gI w v14 2 fX1_printed).bind fun v15 => some ((v15, w))) else ((ch_gR w (some t0) 1 fX0_machine).bind fun v1 => (ch_gI w v1 2 fX1_thrown).bind fun v2 => some ((v2, w)))))))
theorem s_X0_counted {g : State} {t0 : Nat} {x1 : Int32} {w : ch_W} {res : Int32 × ch_W} {Q : Outcome → ch_W → Prop} (h : c_X0_counted t0 x1 w = some res) (hk : (ch_eI Q) res) : ch_CT g true yX0_counted 6 [.ref t0, .int x1] (w) Q := by
  unfold c_X0_counted at h
  refine ch_ctL mX0_counted (ls := [some (va_rf (some t0)), some (.int x1)]) q1529 rfl (ch_lyr (r := some t0) (ch_lyi ch_ly0)) (Nat.le_of_ble_eq_true rfl) rfl ?_
  refine ch_iload_n 1 _ dX0_counted_0 rfl (?_)
  by_cases e0 : x1 = 0
  · have h := ch_ifT e0 h
    refine ch_tableIn _ (off := 35) (tgt := 36) dX0_counted_1 (by rw [e0]; decide) (by rw [e0]; decide) (by rw [e0]; rfl) rfl ?_
    refine ch_aload_n 0 (some t0) dX0_counted_36 rfl (cp_gR (ci := 0) (k := 5) dX0_counted_37 fl_X0_20 rfl h (fun v3 h => ?_))
    refine cp_gI (ci := 1) (k := 16) dX0_counted_40 fl_X0_122 rfl h (fun v4 h => ?_)
    obtain rfl := Option.some.inj h
    exact ch_ireturn _ dX0_counted_43 rfl rfl hk
  replace h := ch_ifF e0 h
  by_cases e1 : x1 = 1
  · have h := ch_ifT e1 h
    refine ch_tableIn _ (off := 43) (tgt := 44) dX0_counted_1 (by rw [e1]; decide) (by rw [e1]; decide) (by rw [e1]; rfl) rfl ?_
    refine ch_aload_n 0 (some t0) dX0_counted_44 rfl (cp_gR (ci := 0) (k := 5) dX0_counted_45 fl_X0_20 rfl h (fun v5 h => ?_))
    refine cp_gI (ci := 1) (k := 17) dX0_counted_48 fl_X0_125 rfl h (fun v6 h => ?_)
    obtain rfl := Option.some.inj h
    exact ch_ireturn _ dX0_counted_51 rfl rfl hk
  replace h := ch_ifF e1 h
  by_cases e2 : x1 = 2
  · have h := ch_ifT e2 h
    refine ch_tableIn _ (off := 51) (tgt := 52) dX0_counted_1 (by rw [e2]; decide) (by rw [e2]; decide) (by rw [e2]; rfl) rfl ?_
    refine ch_aload_n 0 (some t0) dX0_counted_52 rfl (cp_gR (ci := 0) (k := 5) dX0_counted_53 fl_X0_20 rfl h (fun v7 h => ?_))
    obtain ⟨b9, hb8, h⟩ := ch_bd h
    obtain ⟨p10, hp11, h⟩ := ch_bd h
    refine ch_iv yX1_reached prog_5_method_11_code 1 (some .int) (ci := 1) (q := (RX1, TX1, 22)) (b := b9) (d' := 5) (av := []) (rest := []) (by rw [ch_rs hb8]; rfl) dX0_counted_56 q1530 q1531 rfl q1532 q1533 can_X1_reached (Nat.le_of_ble_eq_true rfl) (Nat.le_of_ble_eq_true rfl) (ch_rtg hb8) (cp_kI (v := p10.1) (w1 := p10.2) (fun Q' hq => s_X1_reached hp11 hq) ?_)
    obtain rfl := Option.some.inj h
    exact ch_ireturn _ dX0_counted_59 rfl rfl hk
  replace h := ch_ifF e2 h
  by_cases e3 : x1 = 3
  · have h := ch_ifT e3 h
    refine ch_tableIn _ (off := 59) (tgt := 60) dX0_counted_1 (by rw [e3]; decide) (by rw [e3]; decide) (by rw [e3]; rfl) rfl ?_
    refine ch_aload_n 0 (some t0) dX0_counted_60 rfl (cp_gR (ci := 0) (k := 5) dX0_counted_61 fl_X0_20 rfl h (fun v12 h => ?_))
    refine cp_gI (ci := 1) (k := 10) dX0_counted_64 fl_X0_131 rfl h (fun v13 h => ?_)
    obtain rfl := Option.some.inj h
    exact ch_ireturn _ dX0_counted_67 rfl rfl hk
  replace h := ch_ifF e3 h
  by_cases e4 : x1 = 4
  · have h := ch_ifT e4 h
    refine ch_tableIn _ (off := 67) (tgt := 68) dX0_counted_1 (by rw [e4]; decide) (by rw [e4]; decide) (by rw [e4]; rfl) rfl ?_
    refine ch_aload_n 0 (some t0) dX0_counted_68 rfl (cp_gR (ci := 0) (k := 5) dX0_counted_69 fl_X0_20 rfl h (fun v14 h => ?_))
    refine cp_gI (ci := 1) (k := 15) dX0_counted_72 fl_X0_113 rfl h (fun v15 h => ?_)
    obtain rfl := Option.some.inj h
    exact ch_ireturn _ dX0_counted_75 rfl rfl hk
  replace h := ch_ifF e4 h
  refine ch_tableOut _ (tgt := 76) dX0_counted_1 (by have t0 := ch_ne (n := 0) e0 rfl; have t1 := ch_ne (n := 1) e1 rfl; have t2 := ch_ne (n := 2) e2 rfl; have t3 := ch_ne (n := 3) e3 rfl; have t4 := ch_ne (n := 4) e4 rfl; omega) rfl ?_
  refine ch_aload_n 0 (some t0) dX0_counted_76 rfl (cp_gR (ci := 0) (k := 5) dX0_counted_77 fl_X0_20 rfl h (fun v1 h => ?_))
  refine cp_gI (ci := 1) (k := 18) dX0_counted_80 fl_X0_134 rfl h (fun v2 h => ?_)
  obtain rfl := Option.some.inj h
  exact ch_ireturn _ dX0_counted_83 rfl rfl hk

theorem bX0_count_0 : ch_ck cX0_count 0 [27, 16, 6, 160, 0, 11, 42, 180, 0, 20, 180, 0, 78, 172, 27, 16] := ch_ckof (by decide +kernel)
theorem bX0_count_1 : ch_ck cX0_count 16 [7, 160, 0, 8, 42, 180, 0, 24, 172, 27, 155, 0, 9, 27, 16, 7] := ch_ckof (by decide +kernel)
theorem bX0_count_2 : ch_ck cX0_count 32 [164, 0, 5, 2, 172, 42, 180, 0, 35, 153, 0, 11, 42, 27, 182, 0] := ch_ckof (by decide +kernel)
theorem bX0_count_3 : ch_ck cX0_count 48 [119, 167, 0, 4, 3, 172] := ch_ckof (by decide +kernel)
theorem dX0_count_0 : decode cX0_count 0 = .ok (.iload_n 1, 1) := dz_27 (bX0_count_0 0 _ rfl)
theorem dX0_count_1 : decode cX0_count 1 = .ok (.bipush 6, 2) := dz_16 (bX0_count_0 1 _ rfl) (bX0_count_0 2 _ rfl)
theorem dX0_count_3 : decode cX0_count 3 = .ok (.if_icmp .ne 11, 3) := dz_160 (bX0_count_0 3 _ rfl) (bX0_count_0 4 _ rfl) (bX0_count_0 5 _ rfl)
theorem dX0_count_6 : decode cX0_count 6 = .ok (.aload_n 0, 1) := dz_42 (bX0_count_0 6 _ rfl)
theorem dX0_count_7 : decode cX0_count 7 = .ok (.getfield 20, 3) := dz_180 (bX0_count_0 7 _ rfl) (bX0_count_0 8 _ rfl) (bX0_count_0 9 _ rfl)
theorem dX0_count_10 : decode cX0_count 10 = .ok (.getfield 78, 3) := dz_180 (bX0_count_0 10 _ rfl) (bX0_count_0 11 _ rfl) (bX0_count_0 12 _ rfl)
theorem dX0_count_13 : decode cX0_count 13 = .ok (.ireturn, 1) := dz_172 (bX0_count_0 13 _ rfl)
theorem dX0_count_14 : decode cX0_count 14 = .ok (.iload_n 1, 1) := dz_27 (bX0_count_0 14 _ rfl)
theorem dX0_count_15 : decode cX0_count 15 = .ok (.bipush 7, 2) := dz_16 (bX0_count_0 15 _ rfl) (bX0_count_1 0 _ rfl)
theorem dX0_count_17 : decode cX0_count 17 = .ok (.if_icmp .ne 8, 3) := dz_160 (bX0_count_1 1 _ rfl) (bX0_count_1 2 _ rfl) (bX0_count_1 3 _ rfl)
theorem dX0_count_20 : decode cX0_count 20 = .ok (.aload_n 0, 1) := dz_42 (bX0_count_1 4 _ rfl)
theorem dX0_count_21 : decode cX0_count 21 = .ok (.getfield 24, 3) := dz_180 (bX0_count_1 5 _ rfl) (bX0_count_1 6 _ rfl) (bX0_count_1 7 _ rfl)
theorem dX0_count_24 : decode cX0_count 24 = .ok (.ireturn, 1) := dz_172 (bX0_count_1 8 _ rfl)
theorem dX0_count_25 : decode cX0_count 25 = .ok (.iload_n 1, 1) := dz_27 (bX0_count_1 9 _ rfl)
theorem dX0_count_26 : decode cX0_count 26 = .ok (.ifCond .lt 9, 3) := dz_155 (bX0_count_1 10 _ rfl) (bX0_count_1 11 _ rfl) (bX0_count_1 12 _ rfl)
theorem dX0_count_29 : decode cX0_count 29 = .ok (.iload_n 1, 1) := dz_27 (bX0_count_1 13 _ rfl)
theorem dX0_count_30 : decode cX0_count 30 = .ok (.bipush 7, 2) := dz_16 (bX0_count_1 14 _ rfl) (bX0_count_1 15 _ rfl)
theorem dX0_count_32 : decode cX0_count 32 = .ok (.if_icmp .le 5, 3) := dz_164 (bX0_count_2 0 _ rfl) (bX0_count_2 1 _ rfl) (bX0_count_2 2 _ rfl)
theorem dX0_count_35 : decode cX0_count 35 = .ok (.iconst (-1), 1) := dz_2 (bX0_count_2 3 _ rfl)
theorem dX0_count_36 : decode cX0_count 36 = .ok (.ireturn, 1) := dz_172 (bX0_count_2 4 _ rfl)
theorem dX0_count_37 : decode cX0_count 37 = .ok (.aload_n 0, 1) := dz_42 (bX0_count_2 5 _ rfl)
theorem dX0_count_38 : decode cX0_count 38 = .ok (.getfield 35, 3) := dz_180 (bX0_count_2 6 _ rfl) (bX0_count_2 7 _ rfl) (bX0_count_2 8 _ rfl)
theorem dX0_count_41 : decode cX0_count 41 = .ok (.ifCond .eq 11, 3) := dz_153 (bX0_count_2 9 _ rfl) (bX0_count_2 10 _ rfl) (bX0_count_2 11 _ rfl)
theorem dX0_count_44 : decode cX0_count 44 = .ok (.aload_n 0, 1) := dz_42 (bX0_count_2 12 _ rfl)
theorem dX0_count_45 : decode cX0_count 45 = .ok (.iload_n 1, 1) := dz_27 (bX0_count_2 13 _ rfl)
theorem dX0_count_46 : decode cX0_count 46 = .ok (.invokevirtual 119, 3) := dz_182 (bX0_count_2 14 _ rfl) (bX0_count_2 15 _ rfl) (bX0_count_3 0 _ rfl)
theorem dX0_count_49 : decode cX0_count 49 = .ok (.goto 4, 3) := dz_167 (bX0_count_3 1 _ rfl) (bX0_count_3 2 _ rfl) (bX0_count_3 3 _ rfl)
theorem dX0_count_52 : decode cX0_count 52 = .ok (.iconst 0, 1) := dz_3 (bX0_count_3 4 _ rfl)
theorem dX0_count_53 : decode cX0_count 53 = .ok (.ireturn, 1) := dz_172 (bX0_count_3 5 _ rfl)
def c_X0_count (t0 : Nat) (x1 : Int32) (w : ch_W) : Option (Int32 × ch_W) := if x1 = 6 then ((ch_gR w (some t0) 1 fX0_machine).bind fun v6 => (ch_gI w v6 2 fX1_givenMany).bind fun v7 => some ((v7, w))) else (if x1 = 7 then ((ch_gI w (some t0) 1 fX0_fed).bind fun v5 => some ((v5, w))) else (if x1 < 0 then (some (((-1), w))) else (if 7 < x1 then (some (((-1), w))) else ((ch_gI w (some t0) 1 fX0_isBegun).bind fun v1 => if v1 = 0 then (some ((0, w))) else ((ch_rc w (some t0) 1).bind fun _ => (c_X0_counted t0 x1 w).bind fun p3 => some ((p3.1, p3.2)))))))
theorem s_X0_count {g : State} {t0 : Nat} {x1 : Int32} {w : ch_W} {res : Int32 × ch_W} {Q : Outcome → ch_W → Prop} (h : c_X0_count t0 x1 w = some res) (hk : (ch_eI Q) res) : ch_CT g true yX0_count 7 [.ref t0, .int x1] (w) Q := by
  unfold c_X0_count at h
  refine ch_ctL mX0_count (ls := [some (va_rf (some t0)), some (.int x1)]) q1525 rfl (ch_lyr (r := some t0) (ch_lyi ch_ly0)) (Nat.le_of_ble_eq_true rfl) rfl ?_
  refine ch_iload_n 1 _ dX0_count_0 rfl (ch_bipush _ 6 dX0_count_1 rfl (cp_icmp_ne _ _ (tgt := 14) dX0_count_3 rfl h (fun h => ?_) (fun h => ?_)))
  · refine ch_iload_n 1 _ dX0_count_14 rfl (ch_bipush _ 7 dX0_count_15 rfl (cp_icmp_ne _ _ (tgt := 25) dX0_count_17 rfl h (fun h => ?_) (fun h => ?_)))
    · refine ch_iload_n 1 _ dX0_count_25 rfl (cp_if_lt _ (tgt := 35) dX0_count_26 rfl h (fun h => ?_) (fun h => ?_))
      · obtain rfl := Option.some.inj h
        exact ch_iconst _ (-1) dX0_count_35 rfl (ch_ireturn _ dX0_count_36 rfl rfl hk)
      · refine ch_iload_n 1 _ dX0_count_29 rfl (ch_bipush _ 7 dX0_count_30 rfl (cp_icmp_le _ _ (tgt := 37) dX0_count_32 rfl h (fun h => ?_) (fun h => ?_)))
        · refine ch_aload_n 0 (some t0) dX0_count_37 rfl (cp_gI (ci := 0) (k := 6) dX0_count_38 fl_X0_35 rfl h (fun v1 h => ?_))
          refine cp_if_eq _ (tgt := 52) dX0_count_41 rfl h (fun h => ?_) (fun h => ?_)
          · obtain rfl := Option.some.inj h
            exact ch_iconst _ 0 dX0_count_52 rfl (ch_ireturn _ dX0_count_53 rfl rfl hk)
          · obtain ⟨_, hb2, h⟩ := ch_bd h
            obtain ⟨p3, hp4, h⟩ := ch_bd h
            refine ch_aload_n 0 (some t0) dX0_count_44 rfl (ch_iload_n 1 _ dX0_count_45 rfl (ch_iv yX0_counted prog_1_method_19_code 2 (some .int) (ci := 0) (q := (RX0, TX0, 7)) (b := t0) (d' := 6) (av := [.int x1]) (rest := []) rfl dX0_count_46 q1526 q1528 rfl qs102 q1529 can_X0_counted (Nat.le_of_ble_eq_true rfl) (Nat.le_of_ble_eq_true rfl) (ch_rts hb2) (cp_kI (v := p3.1) (w1 := p3.2) (fun Q' hq => s_X0_counted hp4 hq) ?_)))
            obtain rfl := Option.some.inj h
            exact ch_goto 53 dX0_count_49 rfl (ch_ireturn _ dX0_count_53 rfl rfl hk)
        · obtain rfl := Option.some.inj h
          exact ch_iconst _ (-1) dX0_count_35 rfl (ch_ireturn _ dX0_count_36 rfl rfl hk)
    · refine ch_aload_n 0 (some t0) dX0_count_20 rfl (cp_gI (ci := 0) (k := 1) dX0_count_21 fl_X0_24 rfl h (fun v5 h => ?_))
      obtain rfl := Option.some.inj h
      exact ch_ireturn _ dX0_count_24 rfl rfl hk
  · refine ch_aload_n 0 (some t0) dX0_count_6 rfl (cp_gR (ci := 0) (k := 5) dX0_count_7 fl_X0_20 rfl h (fun v6 h => ?_))
    refine cp_gI (ci := 1) (k := 13) dX0_count_10 fl_X0_78 rfl h (fun v7 h => ?_)
    obtain rfl := Option.some.inj h
    exact ch_ireturn _ dX0_count_13 rfl rfl hk

