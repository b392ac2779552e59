/-! the law: printed by tools/mklaw.py -/
set_option maxRecDepth 100000
abbrev mL : ch_M := (x, code, 4, ret, [])
theorem bL_0 : ch_ck code 0 [187, 0, 7, 89, 183, 0, 9, 76, 187, 0, 10, 89, 183, 0, 12, 77] := ch_ckof (by decide +kernel)
theorem bL_1 : ch_ck code 16 [3, 62, 29, 42, 190, 16, 6, 100, 163, 1, 74, 42, 29, 46, 16, 15] := ch_ckof (by decide +kernel)
theorem bL_2 : ch_ck code 32 [126, 170, 0, 0, 0, 0, 1, 59, 0, 0, 0, 0, 0, 0, 0, 9] := ch_ckof (by decide +kernel)
theorem bL_3 : ch_ck code 48 [0, 0, 0, 55, 0, 0, 0, 118, 0, 0, 0, 141, 0, 0, 0, 154] := ch_ckof (by decide +kernel)
theorem bL_4 : ch_ck code 64 [0, 0, 0, 177, 0, 0, 0, 220, 0, 0, 0, 233, 0, 0, 1, 0] := ch_ckof (by decide +kernel)
theorem bL_5 : ch_ck code 80 [0, 0, 1, 13, 0, 0, 1, 36, 43, 42, 29, 4, 96, 46, 42, 29] := ch_ckof (by decide +kernel)
theorem bL_6 : ch_ck code 96 [5, 96, 46, 42, 29, 6, 96, 46, 42, 29, 7, 96, 46, 42, 29, 8] := ch_ckof (by decide +kernel)
theorem bL_7 : ch_ck code 112 [96, 46, 182, 0, 13, 44, 42, 29, 4, 96, 46, 42, 29, 5, 96, 46] := ch_ckof (by decide +kernel)
theorem bL_8 : ch_ck code 128 [42, 29, 6, 96, 46, 42, 29, 7, 96, 46, 42, 29, 8, 96, 46, 182] := ch_ckof (by decide +kernel)
theorem bL_9 : ch_ck code 144 [0, 17, 159, 0, 202, 3, 172, 43, 42, 29, 4, 96, 46, 182, 0, 18] := ch_ckof (by decide +kernel)
theorem bL_10 : ch_ck code 160 [44, 42, 29, 4, 96, 46, 182, 0, 22, 159, 0, 179, 3, 172, 43, 182] := ch_ckof (by decide +kernel)
theorem bL_11 : ch_ck code 176 [0, 23, 44, 182, 0, 27, 159, 0, 166, 3, 172, 43, 42, 29, 4, 96] := ch_ckof (by decide +kernel)
theorem bL_12 : ch_ck code 192 [46, 182, 0, 28, 44, 42, 29, 4, 96, 46, 182, 0, 31, 159, 0, 143] := ch_ckof (by decide +kernel)
theorem bL_13 : ch_ck code 208 [3, 172, 43, 42, 29, 4, 96, 46, 42, 29, 5, 96, 46, 42, 29, 6] := ch_ckof (by decide +kernel)
theorem bL_14 : ch_ck code 224 [96, 46, 182, 0, 32, 44, 42, 29, 4, 96, 46, 42, 29, 5, 96, 46] := ch_ckof (by decide +kernel)
theorem bL_15 : ch_ck code 240 [42, 29, 6, 96, 46, 182, 0, 36, 159, 0, 100, 3, 172, 43, 182, 0] := ch_ckof (by decide +kernel)
theorem bL_16 : ch_ck code 256 [37, 44, 182, 0, 40, 159, 0, 87, 3, 172, 43, 42, 29, 4, 96, 46] := ch_ckof (by decide +kernel)
theorem bL_17 : ch_ck code 272 [182, 0, 41, 44, 42, 29, 4, 96, 46, 182, 0, 44, 159, 0, 64, 3] := ch_ckof (by decide +kernel)
theorem bL_18 : ch_ck code 288 [172, 43, 182, 0, 45, 44, 182, 0, 48, 159, 0, 51, 3, 172, 43, 42] := ch_ckof (by decide +kernel)
theorem bL_19 : ch_ck code 304 [29, 4, 96, 46, 182, 0, 49, 44, 42, 29, 4, 96, 46, 182, 0, 52] := ch_ckof (by decide +kernel)
theorem bL_20 : ch_ck code 320 [159, 0, 28, 3, 172, 43, 42, 29, 4, 96, 46, 182, 0, 53, 44, 42] := ch_ckof (by decide +kernel)
theorem bL_21 : ch_ck code 336 [29, 4, 96, 46, 182, 0, 56, 159, 0, 5, 3, 172, 132, 3, 6, 167] := ch_ckof (by decide +kernel)
theorem bL_22 : ch_ck code 352 [254, 179, 4, 172] := ch_ckof (by decide +kernel)
theorem dL_0 : decode code 0 = .ok (.new 7, 3) := dz_187 (bL_0 0 _ rfl) (bL_0 1 _ rfl) (bL_0 2 _ rfl)
theorem dL_3 : decode code 3 = .ok (.dup, 1) := dz_89 (bL_0 3 _ rfl)
theorem dL_4 : decode code 4 = .ok (.invokespecial 9, 3) := dz_183 (bL_0 4 _ rfl) (bL_0 5 _ rfl) (bL_0 6 _ rfl)
theorem dL_7 : decode code 7 = .ok (.astore_n 1, 1) := dz_76 (bL_0 7 _ rfl)
theorem dL_8 : decode code 8 = .ok (.new 10, 3) := dz_187 (bL_0 8 _ rfl) (bL_0 9 _ rfl) (bL_0 10 _ rfl)
theorem dL_11 : decode code 11 = .ok (.dup, 1) := dz_89 (bL_0 11 _ rfl)
theorem dL_12 : decode code 12 = .ok (.invokespecial 12, 3) := dz_183 (bL_0 12 _ rfl) (bL_0 13 _ rfl) (bL_0 14 _ rfl)
theorem dL_15 : decode code 15 = .ok (.astore_n 2, 1) := dz_77 (bL_0 15 _ rfl)
theorem dL_16 : decode code 16 = .ok (.iconst 0, 1) := dz_3 (bL_1 0 _ rfl)
theorem dL_17 : decode code 17 = .ok (.istore_n 3, 1) := dz_62 (bL_1 1 _ rfl)
theorem dL_18 : decode code 18 = .ok (.iload_n 3, 1) := dz_29 (bL_1 2 _ rfl)
theorem dL_19 : decode code 19 = .ok (.aload_n 0, 1) := dz_42 (bL_1 3 _ rfl)
theorem dL_20 : decode code 20 = .ok (.arraylength, 1) := dz_190 (bL_1 4 _ rfl)
theorem dL_21 : decode code 21 = .ok (.bipush 6, 2) := dz_16 (bL_1 5 _ rfl) (bL_1 6 _ rfl)
theorem dL_23 : decode code 23 = .ok (.isub, 1) := dz_100 (bL_1 7 _ rfl)
theorem dL_24 : decode code 24 = .ok (.if_icmp .gt 330, 3) := dz_163 (bL_1 8 _ rfl) (bL_1 9 _ rfl) (bL_1 10 _ rfl)
theorem dL_27 : decode code 27 = .ok (.aload_n 0, 1) := dz_42 (bL_1 11 _ rfl)
theorem dL_28 : decode code 28 = .ok (.iload_n 3, 1) := dz_29 (bL_1 12 _ rfl)
theorem dL_29 : decode code 29 = .ok (.iaload, 1) := dz_46 (bL_1 13 _ rfl)
theorem dL_30 : decode code 30 = .ok (.bipush 15, 2) := dz_16 (bL_1 14 _ rfl) (bL_1 15 _ rfl)
theorem dL_32 : decode code 32 = .ok (.iand, 1) := dz_126 (bL_2 0 _ rfl)
theorem dL_33 : decode code 33 = .ok (.tableswitch 315 0 9 #[55, 118, 141, 154, 177, 220, 233, 256, 269, 292], 55) := by decide +kernel
theorem dL_88 : decode code 88 = .ok (.aload_n 1, 1) := dz_43 (bL_5 8 _ rfl)
theorem dL_89 : decode code 89 = .ok (.aload_n 0, 1) := dz_42 (bL_5 9 _ rfl)
theorem dL_90 : decode code 90 = .ok (.iload_n 3, 1) := dz_29 (bL_5 10 _ rfl)
theorem dL_91 : decode code 91 = .ok (.iconst 1, 1) := dz_4 (bL_5 11 _ rfl)
theorem dL_92 : decode code 92 = .ok (.iadd, 1) := dz_96 (bL_5 12 _ rfl)
theorem dL_93 : decode code 93 = .ok (.iaload, 1) := dz_46 (bL_5 13 _ rfl)
theorem dL_94 : decode code 94 = .ok (.aload_n 0, 1) := dz_42 (bL_5 14 _ rfl)
theorem dL_95 : decode code 95 = .ok (.iload_n 3, 1) := dz_29 (bL_5 15 _ rfl)
theorem dL_96 : decode code 96 = .ok (.iconst 2, 1) := dz_5 (bL_6 0 _ rfl)
theorem dL_97 : decode code 97 = .ok (.iadd, 1) := dz_96 (bL_6 1 _ rfl)
theorem dL_98 : decode code 98 = .ok (.iaload, 1) := dz_46 (bL_6 2 _ rfl)
theorem dL_99 : decode code 99 = .ok (.aload_n 0, 1) := dz_42 (bL_6 3 _ rfl)
theorem dL_100 : decode code 100 = .ok (.iload_n 3, 1) := dz_29 (bL_6 4 _ rfl)
theorem dL_101 : decode code 101 = .ok (.iconst 3, 1) := dz_6 (bL_6 5 _ rfl)
theorem dL_102 : decode code 102 = .ok (.iadd, 1) := dz_96 (bL_6 6 _ rfl)
theorem dL_103 : decode code 103 = .ok (.iaload, 1) := dz_46 (bL_6 7 _ rfl)
theorem dL_104 : decode code 104 = .ok (.aload_n 0, 1) := dz_42 (bL_6 8 _ rfl)
theorem dL_105 : decode code 105 = .ok (.iload_n 3, 1) := dz_29 (bL_6 9 _ rfl)
theorem dL_106 : decode code 106 = .ok (.iconst 4, 1) := dz_7 (bL_6 10 _ rfl)
theorem dL_107 : decode code 107 = .ok (.iadd, 1) := dz_96 (bL_6 11 _ rfl)
theorem dL_108 : decode code 108 = .ok (.iaload, 1) := dz_46 (bL_6 12 _ rfl)
theorem dL_109 : decode code 109 = .ok (.aload_n 0, 1) := dz_42 (bL_6 13 _ rfl)
theorem dL_110 : decode code 110 = .ok (.iload_n 3, 1) := dz_29 (bL_6 14 _ rfl)
theorem dL_111 : decode code 111 = .ok (.iconst 5, 1) := dz_8 (bL_6 15 _ rfl)
theorem dL_112 : decode code 112 = .ok (.iadd, 1) := dz_96 (bL_7 0 _ rfl)
theorem dL_113 : decode code 113 = .ok (.iaload, 1) := dz_46 (bL_7 1 _ rfl)
theorem dL_114 : decode code 114 = .ok (.invokevirtual 13, 3) := dz_182 (bL_7 2 _ rfl) (bL_7 3 _ rfl) (bL_7 4 _ rfl)
theorem dL_117 : decode code 117 = .ok (.aload_n 2, 1) := dz_44 (bL_7 5 _ rfl)
theorem dL_118 : decode code 118 = .ok (.aload_n 0, 1) := dz_42 (bL_7 6 _ rfl)
theorem dL_119 : decode code 119 = .ok (.iload_n 3, 1) := dz_29 (bL_7 7 _ rfl)
theorem dL_120 : decode code 120 = .ok (.iconst 1, 1) := dz_4 (bL_7 8 _ rfl)
theorem dL_121 : decode code 121 = .ok (.iadd, 1) := dz_96 (bL_7 9 _ rfl)
theorem dL_122 : decode code 122 = .ok (.iaload, 1) := dz_46 (bL_7 10 _ rfl)
theorem dL_123 : decode code 123 = .ok (.aload_n 0, 1) := dz_42 (bL_7 11 _ rfl)
theorem dL_124 : decode code 124 = .ok (.iload_n 3, 1) := dz_29 (bL_7 12 _ rfl)
theorem dL_125 : decode code 125 = .ok (.iconst 2, 1) := dz_5 (bL_7 13 _ rfl)
theorem dL_126 : decode code 126 = .ok (.iadd, 1) := dz_96 (bL_7 14 _ rfl)
theorem dL_127 : decode code 127 = .ok (.iaload, 1) := dz_46 (bL_7 15 _ rfl)
theorem dL_128 : decode code 128 = .ok (.aload_n 0, 1) := dz_42 (bL_8 0 _ rfl)
theorem dL_129 : decode code 129 = .ok (.iload_n 3, 1) := dz_29 (bL_8 1 _ rfl)
theorem dL_130 : decode code 130 = .ok (.iconst 3, 1) := dz_6 (bL_8 2 _ rfl)
theorem dL_131 : decode code 131 = .ok (.iadd, 1) := dz_96 (bL_8 3 _ rfl)
theorem dL_132 : decode code 132 = .ok (.iaload, 1) := dz_46 (bL_8 4 _ rfl)
theorem dL_133 : decode code 133 = .ok (.aload_n 0, 1) := dz_42 (bL_8 5 _ rfl)
theorem dL_134 : decode code 134 = .ok (.iload_n 3, 1) := dz_29 (bL_8 6 _ rfl)
theorem dL_135 : decode code 135 = .ok (.iconst 4, 1) := dz_7 (bL_8 7 _ rfl)
theorem dL_136 : decode code 136 = .ok (.iadd, 1) := dz_96 (bL_8 8 _ rfl)
theorem dL_137 : decode code 137 = .ok (.iaload, 1) := dz_46 (bL_8 9 _ rfl)
theorem dL_138 : decode code 138 = .ok (.aload_n 0, 1) := dz_42 (bL_8 10 _ rfl)
theorem dL_139 : decode code 139 = .ok (.iload_n 3, 1) := dz_29 (bL_8 11 _ rfl)
theorem dL_140 : decode code 140 = .ok (.iconst 5, 1) := dz_8 (bL_8 12 _ rfl)
theorem dL_141 : decode code 141 = .ok (.iadd, 1) := dz_96 (bL_8 13 _ rfl)
theorem dL_142 : decode code 142 = .ok (.iaload, 1) := dz_46 (bL_8 14 _ rfl)
theorem dL_143 : decode code 143 = .ok (.invokevirtual 17, 3) := dz_182 (bL_8 15 _ rfl) (bL_9 0 _ rfl) (bL_9 1 _ rfl)
theorem dL_146 : decode code 146 = .ok (.if_icmp .eq 202, 3) := dz_159 (bL_9 2 _ rfl) (bL_9 3 _ rfl) (bL_9 4 _ rfl)
theorem dL_149 : decode code 149 = .ok (.iconst 0, 1) := dz_3 (bL_9 5 _ rfl)
theorem dL_150 : decode code 150 = .ok (.ireturn, 1) := dz_172 (bL_9 6 _ rfl)
theorem dL_151 : decode code 151 = .ok (.aload_n 1, 1) := dz_43 (bL_9 7 _ rfl)
theorem dL_152 : decode code 152 = .ok (.aload_n 0, 1) := dz_42 (bL_9 8 _ rfl)
theorem dL_153 : decode code 153 = .ok (.iload_n 3, 1) := dz_29 (bL_9 9 _ rfl)
theorem dL_154 : decode code 154 = .ok (.iconst 1, 1) := dz_4 (bL_9 10 _ rfl)
theorem dL_155 : decode code 155 = .ok (.iadd, 1) := dz_96 (bL_9 11 _ rfl)
theorem dL_156 : decode code 156 = .ok (.iaload, 1) := dz_46 (bL_9 12 _ rfl)
theorem dL_157 : decode code 157 = .ok (.invokevirtual 18, 3) := dz_182 (bL_9 13 _ rfl) (bL_9 14 _ rfl) (bL_9 15 _ rfl)
theorem dL_160 : decode code 160 = .ok (.aload_n 2, 1) := dz_44 (bL_10 0 _ rfl)
theorem dL_161 : decode code 161 = .ok (.aload_n 0, 1) := dz_42 (bL_10 1 _ rfl)
theorem dL_162 : decode code 162 = .ok (.iload_n 3, 1) := dz_29 (bL_10 2 _ rfl)
theorem dL_163 : decode code 163 = .ok (.iconst 1, 1) := dz_4 (bL_10 3 _ rfl)
theorem dL_164 : decode code 164 = .ok (.iadd, 1) := dz_96 (bL_10 4 _ rfl)
theorem dL_165 : decode code 165 = .ok (.iaload, 1) := dz_46 (bL_10 5 _ rfl)
theorem dL_166 : decode code 166 = .ok (.invokevirtual 22, 3) := dz_182 (bL_10 6 _ rfl) (bL_10 7 _ rfl) (bL_10 8 _ rfl)
theorem dL_169 : decode code 169 = .ok (.if_icmp .eq 179, 3) := dz_159 (bL_10 9 _ rfl) (bL_10 10 _ rfl) (bL_10 11 _ rfl)
theorem dL_172 : decode code 172 = .ok (.iconst 0, 1) := dz_3 (bL_10 12 _ rfl)
theorem dL_173 : decode code 173 = .ok (.ireturn, 1) := dz_172 (bL_10 13 _ rfl)
theorem dL_174 : decode code 174 = .ok (.aload_n 1, 1) := dz_43 (bL_10 14 _ rfl)
theorem dL_175 : decode code 175 = .ok (.invokevirtual 23, 3) := dz_182 (bL_10 15 _ rfl) (bL_11 0 _ rfl) (bL_11 1 _ rfl)
theorem dL_178 : decode code 178 = .ok (.aload_n 2, 1) := dz_44 (bL_11 2 _ rfl)
theorem dL_179 : decode code 179 = .ok (.invokevirtual 27, 3) := dz_182 (bL_11 3 _ rfl) (bL_11 4 _ rfl) (bL_11 5 _ rfl)
theorem dL_182 : decode code 182 = .ok (.if_icmp .eq 166, 3) := dz_159 (bL_11 6 _ rfl) (bL_11 7 _ rfl) (bL_11 8 _ rfl)
theorem dL_185 : decode code 185 = .ok (.iconst 0, 1) := dz_3 (bL_11 9 _ rfl)
theorem dL_186 : decode code 186 = .ok (.ireturn, 1) := dz_172 (bL_11 10 _ rfl)
theorem dL_187 : decode code 187 = .ok (.aload_n 1, 1) := dz_43 (bL_11 11 _ rfl)
theorem dL_188 : decode code 188 = .ok (.aload_n 0, 1) := dz_42 (bL_11 12 _ rfl)
theorem dL_189 : decode code 189 = .ok (.iload_n 3, 1) := dz_29 (bL_11 13 _ rfl)
theorem dL_190 : decode code 190 = .ok (.iconst 1, 1) := dz_4 (bL_11 14 _ rfl)
theorem dL_191 : decode code 191 = .ok (.iadd, 1) := dz_96 (bL_11 15 _ rfl)
theorem dL_192 : decode code 192 = .ok (.iaload, 1) := dz_46 (bL_12 0 _ rfl)
theorem dL_193 : decode code 193 = .ok (.invokevirtual 28, 3) := dz_182 (bL_12 1 _ rfl) (bL_12 2 _ rfl) (bL_12 3 _ rfl)
theorem dL_196 : decode code 196 = .ok (.aload_n 2, 1) := dz_44 (bL_12 4 _ rfl)
theorem dL_197 : decode code 197 = .ok (.aload_n 0, 1) := dz_42 (bL_12 5 _ rfl)
theorem dL_198 : decode code 198 = .ok (.iload_n 3, 1) := dz_29 (bL_12 6 _ rfl)
theorem dL_199 : decode code 199 = .ok (.iconst 1, 1) := dz_4 (bL_12 7 _ rfl)
theorem dL_200 : decode code 200 = .ok (.iadd, 1) := dz_96 (bL_12 8 _ rfl)
theorem dL_201 : decode code 201 = .ok (.iaload, 1) := dz_46 (bL_12 9 _ rfl)
theorem dL_202 : decode code 202 = .ok (.invokevirtual 31, 3) := dz_182 (bL_12 10 _ rfl) (bL_12 11 _ rfl) (bL_12 12 _ rfl)
theorem dL_205 : decode code 205 = .ok (.if_icmp .eq 143, 3) := dz_159 (bL_12 13 _ rfl) (bL_12 14 _ rfl) (bL_12 15 _ rfl)
theorem dL_208 : decode code 208 = .ok (.iconst 0, 1) := dz_3 (bL_13 0 _ rfl)
theorem dL_209 : decode code 209 = .ok (.ireturn, 1) := dz_172 (bL_13 1 _ rfl)
theorem dL_210 : decode code 210 = .ok (.aload_n 1, 1) := dz_43 (bL_13 2 _ rfl)
theorem dL_211 : decode code 211 = .ok (.aload_n 0, 1) := dz_42 (bL_13 3 _ rfl)
theorem dL_212 : decode code 212 = .ok (.iload_n 3, 1) := dz_29 (bL_13 4 _ rfl)
theorem dL_213 : decode code 213 = .ok (.iconst 1, 1) := dz_4 (bL_13 5 _ rfl)
theorem dL_214 : decode code 214 = .ok (.iadd, 1) := dz_96 (bL_13 6 _ rfl)
theorem dL_215 : decode code 215 = .ok (.iaload, 1) := dz_46 (bL_13 7 _ rfl)
theorem dL_216 : decode code 216 = .ok (.aload_n 0, 1) := dz_42 (bL_13 8 _ rfl)
theorem dL_217 : decode code 217 = .ok (.iload_n 3, 1) := dz_29 (bL_13 9 _ rfl)
theorem dL_218 : decode code 218 = .ok (.iconst 2, 1) := dz_5 (bL_13 10 _ rfl)
theorem dL_219 : decode code 219 = .ok (.iadd, 1) := dz_96 (bL_13 11 _ rfl)
theorem dL_220 : decode code 220 = .ok (.iaload, 1) := dz_46 (bL_13 12 _ rfl)
theorem dL_221 : decode code 221 = .ok (.aload_n 0, 1) := dz_42 (bL_13 13 _ rfl)
theorem dL_222 : decode code 222 = .ok (.iload_n 3, 1) := dz_29 (bL_13 14 _ rfl)
theorem dL_223 : decode code 223 = .ok (.iconst 3, 1) := dz_6 (bL_13 15 _ rfl)
theorem dL_224 : decode code 224 = .ok (.iadd, 1) := dz_96 (bL_14 0 _ rfl)
theorem dL_225 : decode code 225 = .ok (.iaload, 1) := dz_46 (bL_14 1 _ rfl)
theorem dL_226 : decode code 226 = .ok (.invokevirtual 32, 3) := dz_182 (bL_14 2 _ rfl) (bL_14 3 _ rfl) (bL_14 4 _ rfl)
theorem dL_229 : decode code 229 = .ok (.aload_n 2, 1) := dz_44 (bL_14 5 _ rfl)
theorem dL_230 : decode code 230 = .ok (.aload_n 0, 1) := dz_42 (bL_14 6 _ rfl)
theorem dL_231 : decode code 231 = .ok (.iload_n 3, 1) := dz_29 (bL_14 7 _ rfl)
theorem dL_232 : decode code 232 = .ok (.iconst 1, 1) := dz_4 (bL_14 8 _ rfl)
theorem dL_233 : decode code 233 = .ok (.iadd, 1) := dz_96 (bL_14 9 _ rfl)
theorem dL_234 : decode code 234 = .ok (.iaload, 1) := dz_46 (bL_14 10 _ rfl)
theorem dL_235 : decode code 235 = .ok (.aload_n 0, 1) := dz_42 (bL_14 11 _ rfl)
theorem dL_236 : decode code 236 = .ok (.iload_n 3, 1) := dz_29 (bL_14 12 _ rfl)
theorem dL_237 : decode code 237 = .ok (.iconst 2, 1) := dz_5 (bL_14 13 _ rfl)
theorem dL_238 : decode code 238 = .ok (.iadd, 1) := dz_96 (bL_14 14 _ rfl)
theorem dL_239 : decode code 239 = .ok (.iaload, 1) := dz_46 (bL_14 15 _ rfl)
theorem dL_240 : decode code 240 = .ok (.aload_n 0, 1) := dz_42 (bL_15 0 _ rfl)
theorem dL_241 : decode code 241 = .ok (.iload_n 3, 1) := dz_29 (bL_15 1 _ rfl)
theorem dL_242 : decode code 242 = .ok (.iconst 3, 1) := dz_6 (bL_15 2 _ rfl)
theorem dL_243 : decode code 243 = .ok (.iadd, 1) := dz_96 (bL_15 3 _ rfl)
theorem dL_244 : decode code 244 = .ok (.iaload, 1) := dz_46 (bL_15 4 _ rfl)
theorem dL_245 : decode code 245 = .ok (.invokevirtual 36, 3) := dz_182 (bL_15 5 _ rfl) (bL_15 6 _ rfl) (bL_15 7 _ rfl)
theorem dL_248 : decode code 248 = .ok (.if_icmp .eq 100, 3) := dz_159 (bL_15 8 _ rfl) (bL_15 9 _ rfl) (bL_15 10 _ rfl)
theorem dL_251 : decode code 251 = .ok (.iconst 0, 1) := dz_3 (bL_15 11 _ rfl)
theorem dL_252 : decode code 252 = .ok (.ireturn, 1) := dz_172 (bL_15 12 _ rfl)
theorem dL_253 : decode code 253 = .ok (.aload_n 1, 1) := dz_43 (bL_15 13 _ rfl)
theorem dL_254 : decode code 254 = .ok (.invokevirtual 37, 3) := dz_182 (bL_15 14 _ rfl) (bL_15 15 _ rfl) (bL_16 0 _ rfl)
theorem dL_257 : decode code 257 = .ok (.aload_n 2, 1) := dz_44 (bL_16 1 _ rfl)
theorem dL_258 : decode code 258 = .ok (.invokevirtual 40, 3) := dz_182 (bL_16 2 _ rfl) (bL_16 3 _ rfl) (bL_16 4 _ rfl)
theorem dL_261 : decode code 261 = .ok (.if_icmp .eq 87, 3) := dz_159 (bL_16 5 _ rfl) (bL_16 6 _ rfl) (bL_16 7 _ rfl)
theorem dL_264 : decode code 264 = .ok (.iconst 0, 1) := dz_3 (bL_16 8 _ rfl)
theorem dL_265 : decode code 265 = .ok (.ireturn, 1) := dz_172 (bL_16 9 _ rfl)
theorem dL_266 : decode code 266 = .ok (.aload_n 1, 1) := dz_43 (bL_16 10 _ rfl)
theorem dL_267 : decode code 267 = .ok (.aload_n 0, 1) := dz_42 (bL_16 11 _ rfl)
theorem dL_268 : decode code 268 = .ok (.iload_n 3, 1) := dz_29 (bL_16 12 _ rfl)
theorem dL_269 : decode code 269 = .ok (.iconst 1, 1) := dz_4 (bL_16 13 _ rfl)
theorem dL_270 : decode code 270 = .ok (.iadd, 1) := dz_96 (bL_16 14 _ rfl)
theorem dL_271 : decode code 271 = .ok (.iaload, 1) := dz_46 (bL_16 15 _ rfl)
theorem dL_272 : decode code 272 = .ok (.invokevirtual 41, 3) := dz_182 (bL_17 0 _ rfl) (bL_17 1 _ rfl) (bL_17 2 _ rfl)
theorem dL_275 : decode code 275 = .ok (.aload_n 2, 1) := dz_44 (bL_17 3 _ rfl)
theorem dL_276 : decode code 276 = .ok (.aload_n 0, 1) := dz_42 (bL_17 4 _ rfl)
theorem dL_277 : decode code 277 = .ok (.iload_n 3, 1) := dz_29 (bL_17 5 _ rfl)
theorem dL_278 : decode code 278 = .ok (.iconst 1, 1) := dz_4 (bL_17 6 _ rfl)
theorem dL_279 : decode code 279 = .ok (.iadd, 1) := dz_96 (bL_17 7 _ rfl)
theorem dL_280 : decode code 280 = .ok (.iaload, 1) := dz_46 (bL_17 8 _ rfl)
theorem dL_281 : decode code 281 = .ok (.invokevirtual 44, 3) := dz_182 (bL_17 9 _ rfl) (bL_17 10 _ rfl) (bL_17 11 _ rfl)
theorem dL_284 : decode code 284 = .ok (.if_icmp .eq 64, 3) := dz_159 (bL_17 12 _ rfl) (bL_17 13 _ rfl) (bL_17 14 _ rfl)
theorem dL_287 : decode code 287 = .ok (.iconst 0, 1) := dz_3 (bL_17 15 _ rfl)
theorem dL_288 : decode code 288 = .ok (.ireturn, 1) := dz_172 (bL_18 0 _ rfl)
theorem dL_289 : decode code 289 = .ok (.aload_n 1, 1) := dz_43 (bL_18 1 _ rfl)
theorem dL_290 : decode code 290 = .ok (.invokevirtual 45, 3) := dz_182 (bL_18 2 _ rfl) (bL_18 3 _ rfl) (bL_18 4 _ rfl)
theorem dL_293 : decode code 293 = .ok (.aload_n 2, 1) := dz_44 (bL_18 5 _ rfl)
theorem dL_294 : decode code 294 = .ok (.invokevirtual 48, 3) := dz_182 (bL_18 6 _ rfl) (bL_18 7 _ rfl) (bL_18 8 _ rfl)
theorem dL_297 : decode code 297 = .ok (.if_icmp .eq 51, 3) := dz_159 (bL_18 9 _ rfl) (bL_18 10 _ rfl) (bL_18 11 _ rfl)
theorem dL_300 : decode code 300 = .ok (.iconst 0, 1) := dz_3 (bL_18 12 _ rfl)
theorem dL_301 : decode code 301 = .ok (.ireturn, 1) := dz_172 (bL_18 13 _ rfl)
theorem dL_302 : decode code 302 = .ok (.aload_n 1, 1) := dz_43 (bL_18 14 _ rfl)
theorem dL_303 : decode code 303 = .ok (.aload_n 0, 1) := dz_42 (bL_18 15 _ rfl)
theorem dL_304 : decode code 304 = .ok (.iload_n 3, 1) := dz_29 (bL_19 0 _ rfl)
theorem dL_305 : decode code 305 = .ok (.iconst 1, 1) := dz_4 (bL_19 1 _ rfl)
theorem dL_306 : decode code 306 = .ok (.iadd, 1) := dz_96 (bL_19 2 _ rfl)
theorem dL_307 : decode code 307 = .ok (.iaload, 1) := dz_46 (bL_19 3 _ rfl)
theorem dL_308 : decode code 308 = .ok (.invokevirtual 49, 3) := dz_182 (bL_19 4 _ rfl) (bL_19 5 _ rfl) (bL_19 6 _ rfl)
theorem dL_311 : decode code 311 = .ok (.aload_n 2, 1) := dz_44 (bL_19 7 _ rfl)
theorem dL_312 : decode code 312 = .ok (.aload_n 0, 1) := dz_42 (bL_19 8 _ rfl)
theorem dL_313 : decode code 313 = .ok (.iload_n 3, 1) := dz_29 (bL_19 9 _ rfl)
theorem dL_314 : decode code 314 = .ok (.iconst 1, 1) := dz_4 (bL_19 10 _ rfl)
theorem dL_315 : decode code 315 = .ok (.iadd, 1) := dz_96 (bL_19 11 _ rfl)
theorem dL_316 : decode code 316 = .ok (.iaload, 1) := dz_46 (bL_19 12 _ rfl)
theorem dL_317 : decode code 317 = .ok (.invokevirtual 52, 3) := dz_182 (bL_19 13 _ rfl) (bL_19 14 _ rfl) (bL_19 15 _ rfl)
theorem dL_320 : decode code 320 = .ok (.if_icmp .eq 28, 3) := dz_159 (bL_20 0 _ rfl) (bL_20 1 _ rfl) (bL_20 2 _ rfl)
theorem dL_323 : decode code 323 = .ok (.iconst 0, 1) := dz_3 (bL_20 3 _ rfl)
theorem dL_324 : decode code 324 = .ok (.ireturn, 1) := dz_172 (bL_20 4 _ rfl)
theorem dL_325 : decode code 325 = .ok (.aload_n 1, 1) := dz_43 (bL_20 5 _ rfl)
theorem dL_326 : decode code 326 = .ok (.aload_n 0, 1) := dz_42 (bL_20 6 _ rfl)
theorem dL_327 : decode code 327 = .ok (.iload_n 3, 1) := dz_29 (bL_20 7 _ rfl)
theorem dL_328 : decode code 328 = .ok (.iconst 1, 1) := dz_4 (bL_20 8 _ rfl)
theorem dL_329 : decode code 329 = .ok (.iadd, 1) := dz_96 (bL_20 9 _ rfl)
theorem dL_330 : decode code 330 = .ok (.iaload, 1) := dz_46 (bL_20 10 _ rfl)
theorem dL_331 : decode code 331 = .ok (.invokevirtual 53, 3) := dz_182 (bL_20 11 _ rfl) (bL_20 12 _ rfl) (bL_20 13 _ rfl)
theorem dL_334 : decode code 334 = .ok (.aload_n 2, 1) := dz_44 (bL_20 14 _ rfl)
theorem dL_335 : decode code 335 = .ok (.aload_n 0, 1) := dz_42 (bL_20 15 _ rfl)
theorem dL_336 : decode code 336 = .ok (.iload_n 3, 1) := dz_29 (bL_21 0 _ rfl)
theorem dL_337 : decode code 337 = .ok (.iconst 1, 1) := dz_4 (bL_21 1 _ rfl)
theorem dL_338 : decode code 338 = .ok (.iadd, 1) := dz_96 (bL_21 2 _ rfl)
theorem dL_339 : decode code 339 = .ok (.iaload, 1) := dz_46 (bL_21 3 _ rfl)
theorem dL_340 : decode code 340 = .ok (.invokevirtual 56, 3) := dz_182 (bL_21 4 _ rfl) (bL_21 5 _ rfl) (bL_21 6 _ rfl)
theorem dL_343 : decode code 343 = .ok (.if_icmp .eq 5, 3) := dz_159 (bL_21 7 _ rfl) (bL_21 8 _ rfl) (bL_21 9 _ rfl)
theorem dL_346 : decode code 346 = .ok (.iconst 0, 1) := dz_3 (bL_21 10 _ rfl)
theorem dL_347 : decode code 347 = .ok (.ireturn, 1) := dz_172 (bL_21 11 _ rfl)
theorem dL_348 : decode code 348 = .ok (.iinc 3 6, 3) := dz_132 (bL_21 12 _ rfl) (bL_21 13 _ rfl) (bL_21 14 _ rfl)
theorem dL_351 : decode code 351 = .ok (.goto (-333), 3) := dz_167 (bL_21 15 _ rfl) (bL_22 0 _ rfl) (bL_22 1 _ rfl)
theorem dL_354 : decode code 354 = .ok (.iconst 1, 1) := dz_4 (bL_22 2 _ rfl)
theorem dL_355 : decode code 355 = .ok (.ireturn, 1) := dz_172 (bL_22 3 _ rfl)
theorem lw_nat {j : Nat} (h : j < 2 ^ 31) : (Int32.ofNat j).toNatClampNeg = j := Int32.toNatClampNeg_ofNat_of_lt h
theorem lw_int {j : Nat} (h : j < 2 ^ 31) : (Int32.ofNat j).toInt = (j : Int) := Int32.toInt_ofNat_of_lt h
theorem lw_vin {j n : Nat} (h : j < n) (hn : n ≤ 384) : vp_in (Int32.ofNat j) n := by
  intro q
  rcases q with q | q
  · have := Int32.lt_iff_toInt_lt.mp q
    rw [lw_int (by omega)] at this
    have e : (0 : Int32).toInt = 0 := rfl
    omega
  · rw [lw_nat (by omega)] at q
    omega
/-- the start's cells stay -/
def ch_Base (g : State) (W : ch_W) : Prop := ∀ a : Nat, ch_tg (cs_w g) a ≠ 0 → W.1 a = (cs_w g).1 a
/-- one call on either side: the same answer, and the relation again -/
def ch_stepI (g : State) (m : Nat) (Rel : Nat → ch_W → ch_S → Prop) (c : ch_W → Option (Int32 × ch_W)) (f : ch_S → Option (Int32 × ch_S)) : Prop :=
  ∀ (k : Nat) (W : ch_W) (σ : ch_S), k < 64 → ch_Base g W → ch_WF W → W = ch_put m W σ → Rel k W σ → ∃ r w1 σ1, c W = some (r, w1) ∧ f σ = some (r, σ1) ∧ (ch_kp true W w1 → ch_WF w1 → Rel (k + 1) (ch_put m w1 σ1) σ1)
def ch_mapP {α β : Type} (f : α → Option β) (a : α) : Option (β × α) := (f a).map (fun r => (r, a))
def ch_mapT {α β : Type} (f : α → Option (Except Nat β × α)) (a : α) : Option (β × α) := (f a).bind fun p => match p.1 with
  | .ok r => some (r, p.2)
  | .error _ => none
/-- WHAT LEVEL B OWES: the two sides go together, call by call -/
def ch_Sim (g : State) (t0 m : Nat) (Rel : Nat → ch_W → ch_S → Prop) : Prop :=
  (∀ k W σ, Rel k W σ → ch_tg W t0 = 1) ∧ (∀ k W σ, Rel k W σ → Rel (k + 1) W σ) ∧
  (∀ x1 x2 x3 x4 x5, ch_stepI g m Rel (c_X0_feed t0 x1 x2 x3 x4 x5) (m_X3_feed x1 x2 x3 x4 x5)) ∧
  (∀ x1, ch_stepI g m Rel (c_X0_end t0 x1) (m_X3_end x1)) ∧
  (ch_stepI g m Rel (c_X0_program g t0) m_X3_program) ∧
  (∀ x1, ch_stepI g m Rel (c_X0_heap t0 x1) (m_X3_heap x1)) ∧
  (∀ x1 x2 x3, ch_stepI g m Rel (c_X0_input t0 x1 x2 x3) (m_X3_input x1 x2 x3)) ∧
  (ch_stepI g m Rel (ch_mapT (c_X0_start g t0)) m_X3_start) ∧
  (∀ x1, ch_stepI g m Rel (c_X0_step g t0 x1) (m_X3_step x1)) ∧
  (ch_stepI g m Rel (ch_mapP (c_X0_result t0)) (ch_mapP m_X3_result)) ∧
  (∀ x1, ch_stepI g m Rel (ch_mapP (c_X0_output t0 x1)) (ch_mapP (m_X3_output x1))) ∧
  (∀ x1, ch_stepI g m Rel (c_X0_count t0 x1) (m_X3_count x1))
theorem lw_mapP {α β : Type} {f : α → Option β} {a b : α} {r : β} (h : ch_mapP f a = some (r, b)) : f a = some r ∧ b = a := by
  unfold ch_mapP at h
  cases hf : f a with
  | none => rw [hf] at h; cases h
  | some y => rw [hf] at h; cases h; exact ⟨rfl, rfl⟩
theorem lw_mapM {α β : Type} {f : α → Option β} {a b : α} {r : β} (h : ch_mapP f a = some (r, b)) : f a = some r ∧ b = a := lw_mapP h
theorem lw_mapT {α β : Type} {f : α → Option (Except Nat β × α)} {a b : α} {r : β} (h : ch_mapT f a = some (r, b)) : f a = some (.ok r, b) := by
  unfold ch_mapT at h
  cases hf : f a with
  | none => rw [hf] at h; cases h
  | some y =>
    obtain ⟨y1, y2⟩ := y
    rw [hf] at h
    cases y1 with
    | error z => cases h
    | ok z => cases h; rfl
theorem lw_putput (m : Nat) (w : ch_W) (σ σ' : ch_S) : ch_put m (ch_put m w σ) σ' = ch_put m w σ' := by
  unfold ch_put
  refine Prod.ext ?_ rfl
  funext a
  dsimp only
  by_cases h1 : a = m
  · rw [if_pos h1, if_pos h1]
  · rw [if_neg h1, if_neg h1, if_neg h1]
    by_cases h2 : a < m
    · rw [if_pos h2, if_pos h2, if_pos h2]
    · rw [if_neg h2, if_neg h2, if_neg h2]
      cases ch_mf[a - m - 1]? <;> rfl
theorem lw_mfmt : ∀ q ∈ ch_mf, ch_mt q.2.1 = true := by decide +kernel
theorem lw_back {m : Nat} {W w1 : ch_W} {σ : ch_S} (hM : W = ch_put m W σ) (hk : ∀ a, ch_mt (ch_tg W a) = true → w1.1 a = W.1 a) : w1 = ch_put m w1 σ := by
  refine Prod.ext ?_ rfl
  funext a
  by_cases h1 : a = m
  · subst h1
    have e : W.1 a = (4, 109, σ.1, fun k => ch_mr a k, fun _ => 0) := by
      have := congrArg (fun z : ch_W => z.1 a) hM
      exact this.trans ch_put_m
    rw [ch_put_m, hk a (by rw [ch_tg, e]; rfl), e]
  · by_cases h2 : a < m
    · simp only [ch_put, if_neg h1, if_pos h2]
    · cases hq : ch_mf[a - m - 1]? with
      | none => simp only [ch_put, if_neg h1, if_neg h2, hq]
      | some q =>
        have e : W.1 a = (q.2.1, q.2.2, σ.2 q.1, fun _ => none, fun _ => 0) := by
          have := congrArg (fun z : ch_W => z.1 a) hM
          simp only [ch_put, if_neg h1, if_neg h2, hq] at this
          exact this
        rw [hk a (by rw [ch_tg, e]; exact lw_mfmt q (List.mem_of_getElem? hq)), e]
        simp only [ch_put, if_neg h1, if_neg h2, hq]
theorem lw_put_lt {m a : Nat} {w : ch_W} {σ : ch_S} (h : a < m) : (ch_put m w σ).1 a = w.1 a := by
  simp only [ch_put, if_neg (Nat.ne_of_lt h), if_pos h]
section LAW
variable {g : State} {b L t0 m : Nat} {xs : Nat → Int32} {Q : Outcome → ch_W → Prop} {Rel : Nat → ch_W → ch_S → Prop}
def lw_ls (b t0 m : Nat) (i : Int32) : List (Option Value) := [some (va_rf (some b)), some (va_rf (some t0)), some (va_rf (some m)), some (.int i)]
def lw_Inv (g : State) (m : Nat) (Rel : Nat → ch_W → ch_S → Prop) (k : Nat) (W : ch_W) (σ : ch_S) : Prop := ch_Base g W ∧ W = ch_put m W σ ∧ Rel k W σ
theorem lw_Inv.up {k : Nat} {W : ch_W} {σ : ch_S} (hS : ch_Sim g t0 m Rel) (h : lw_Inv g m Rel k W σ) : lw_Inv g m Rel (k + 1) W σ := ⟨h.1, h.2.1, hS.2.1 k W σ h.2.2⟩
theorem lw_base0 {W w1 : ch_W} (h0 : ch_W0 g b L xs (cs_w g)) (hB : ch_Base g W) (hk : ∀ a, ch_mt (ch_tg W a) = true → w1.1 a = W.1 a) : ch_Base g w1 := by
  intro a ha
  rw [hk a ?_, hB a ha]
  rw [ch_tg, hB a ha]
  have hc : ∀ n : Nat, n = 20 ∨ 51 ≤ n → ch_mt n = true := by
    intro n hn
    unfold ch_mt
    rcases hn with rfl | hn
    · rfl
    · have : decide (31 ≤ n) = true := decide_eq_true (by omega)
      rw [this, Bool.or_true]
  rcases h0.2.2.2.2.2.2.1 a with h | ⟨h, -⟩
  · exact absurd h ha
  · exact hc _ h
theorem lw_base1 {W w1 : ch_W} {σ : ch_S} (h0 : ch_W0 g b L xs (cs_w g)) (hmg : g.heap.size ≤ m) (hB : ch_Base g W) (hk : ∀ a, ch_mt (ch_tg W a) = true → w1.1 a = W.1 a) : ch_Base g (ch_put m w1 σ) := by
  intro a ha
  rcases h0.2.2.2.2.2.2.1 a with h | ⟨-, h⟩
  · exact absurd h ha
  · rw [lw_put_lt (Nat.lt_of_lt_of_le h hmg)]
    exact lw_base0 h0 hB hk a ha
theorem lw_scr {W : ch_W} (h0 : ch_W0 g b L xs (cs_w g)) (hB : ch_Base g W) : ch_tg W b = 51 ∧ ch_ln W b = L ∧ ∀ j : Nat, j < L → ch_gi W b j = xs j := by
  have e := hB b (by rw [h0.1]; decide)
  exact ⟨by rw [ch_tg, e]; exact h0.1, by rw [ch_ln, e]; exact h0.2.1, fun j hj => by rw [ch_gi, e]; exact h0.2.2.1 j hj⟩
theorem lw_arg {W : ch_W} {st : List Value} {pc n kk : Nat} (hb : ch_tg W b = 51) (hl : ch_ln W b = L) (hg : ∀ j : Nat, j < L → ch_gi W b j = xs j) (hn : n + kk < L) (hL : L ≤ 384) (hk : kk ≤ 5)
    (d0 : decode code pc = .ok (.aload_n 0, 1)) (d1 : decode code (pc + 1) = .ok (.iload_n 3, 1)) (d2 : decode code (pc + 1 + 1) = .ok (.iconst (kk : Int), 1)) (d3 : decode code (pc + 1 + 1 + 1) = .ok (.iadd, 1)) (d4 : decode code (pc + 1 + 1 + 1 + 1) = .ok (.iaload, 1))
    (k : ch_FT g false mL 2048 (pc + 5) (lw_ls b t0 m (Int32.ofNat n)) (.int (xs (n + kk)) :: st) W Q) : ch_FT g false mL 2048 pc (lw_ls b t0 m (Int32.ofNat n)) st W Q := by
  have e : Int32.ofNat n + Int32.ofInt (kk : Int) = Int32.ofNat (n + kk) := by
    rw [Int32.ofNat_add]
    rfl
  refine ch_aload_n 0 (some b) d0 rfl (ch_iload_n 3 _ d1 rfl (ch_iconst _ _ d2 rfl (ch_iadd _ _ d3 (ch_iald (some b) _ rfl d4 (by rw [hb]; rfl) ?_ ?_))))
  · rw [e, hl]
    exact lw_vin hn hL
  · rw [e, lw_nat (by omega), hg _ hn]
    exact k
theorem lw_gt1 {k : Nat} (hL : L ≤ 384) (h1 : 6 * k + 6 * 0 + 6 > L) (h2 : 6 * k ≤ 384) : Int32.ofNat L - 6 < Int32.ofNat (6 * k) := by
  rw [Int32.lt_iff_toInt_lt, lw_int (by omega), Int32.toInt_sub, lw_int (by omega)]
  have e : (6 : Int32).toInt = 6 := rfl
  rw [e, Int.bmod_eq_of_le (by omega) (by omega)]
  omega
theorem lw_gt2 {k : Nat} (hL : L ≤ 384) (h1 : ¬ Int32.ofNat L - 6 < Int32.ofNat (6 * k)) (h2 : 6 * k ≤ 384) : 6 * k + 6 ≤ L := by
  rw [Int32.lt_iff_toInt_lt, lw_int (by omega), Int32.toInt_sub, lw_int (by omega)] at h1
  have e : (6 : Int32).toInt = 6 := rfl
  rw [e, Int.bmod_eq_of_le (by omega) (by omega)] at h1
  omega
theorem lw_inc (k : Nat) : Int32.ofNat (6 * k) + Int32.ofInt 6 = Int32.ofNat (6 * (k + 1)) := by
  rw [Nat.mul_add, Int32.ofNat_add]
  rfl
theorem lw_and15 {y z : Int32} (h : y &&& 15 = z) : 0 ≤ z.toInt := by
  have e : z.toBitVec = y.toBitVec &&& 15#32 := by rw [← h]; rfl
  have h1 : z.toBitVec.toNat ≤ 15 := by
    rw [e, BitVec.toNat_and]
    exact Nat.and_le_right
  have h2 : z.toInt = (z.toBitVec.toNat : Int) := by
    show z.toBitVec.toInt = _
    rw [BitVec.toInt_eq_toNat_of_lt (by omega)]
  omega

theorem lw_c_feed {k : Nat} {W : ch_W} {σ : ch_S} (hS : ch_Sim g t0 m Rel) (h0 : ch_W0 g b L xs (cs_w g)) (hmg : g.heap.size ≤ m) (hL : L ≤ 384) (hk : k < 64) (hkL : 6 * k + 6 ≤ L) (hI : lw_Inv g m Rel k W σ) (next : ∀ W σ, lw_Inv g m Rel (k + 1) W σ → ch_FT g false mL 2048 348 (lw_ls b t0 m (Int32.ofNat (6 * k))) [] W Q) : ch_FT g false mL 2048 88 (lw_ls b t0 m (Int32.ofNat (6 * k))) [] W Q := by
  refine ch_FT.wf fun hwf => ?_
  obtain ⟨hB, hM, hR⟩ := id hI
  obtain ⟨hb, hl, hg⟩ := lw_scr h0 hB
  obtain ⟨r, w1, σ1, hc, hm, hn⟩ := hS.2.2.1 (xs (6 * k + 1)) (xs (6 * k + 2)) (xs (6 * k + 3)) (xs (6 * k + 4)) (xs (6 * k + 5)) k W σ hk hB hwf hM hR
  have ht := hS.1 k W σ hR
  refine ch_aload_n 1 (some t0) dL_88 rfl ?_
  refine lw_arg (n := 6 * k) (kk := 1) hb hl hg (by omega) hL (by decide) dL_89 dL_90 dL_91 dL_92 dL_93 ?_
  refine lw_arg (n := 6 * k) (kk := 2) hb hl hg (by omega) hL (by decide) dL_94 dL_95 dL_96 dL_97 dL_98 ?_
  refine lw_arg (n := 6 * k) (kk := 3) hb hl hg (by omega) hL (by decide) dL_99 dL_100 dL_101 dL_102 dL_103 ?_
  refine lw_arg (n := 6 * k) (kk := 4) hb hl hg (by omega) hL (by decide) dL_104 dL_105 dL_106 dL_107 dL_108 ?_
  refine lw_arg (n := 6 * k) (kk := 5) hb hl hg (by omega) hL (by decide) dL_109 dL_110 dL_111 dL_112 dL_113 ?_
  refine ch_iv yX0_feed prog_1_method_7_code 6 (some .int) (ci := 0) (q := (RX0, TX0, 7)) (b := t0) (d' := 3) (av := [.int (xs (6 * k + 1)), .int (xs (6 * k + 2)), .int (xs (6 * k + 3)), .int (xs (6 * k + 4)), .int (xs (6 * k + 5))]) (rest := []) rfl dL_114 q415 q416 rfl q417 q418 can_X0_feed (Nat.le_of_ble_eq_true rfl) (ch_hw (Nat.le_of_ble_eq_true rfl)) ht ?_
  refine ch_CT.weak (ch_CT.kept (Q := fun o w' => o = .returned (some (.int r)) ∧ w' = w1) (s_X0_feed hc ⟨rfl, rfl⟩) (fun o w' hkp hwf1 hq => ?_))
  obtain ⟨rfl, rfl⟩ := hq
  show ch_FT g false mL 2048 117 _ [.int r] w' Q
  have hn := hn (fun _ => hkp) hwf1
  have hp := lw_back hM hkp
  have hB1 := lw_base1 h0 hmg (σ := σ1) hB hkp
  obtain ⟨hb1, hl1, hg1⟩ := lw_scr h0 (lw_base0 h0 hB hkp)
  refine ch_aload_n 2 (some m) dL_117 rfl ?_
  refine lw_arg (n := 6 * k) (kk := 1) hb1 hl1 hg1 (by omega) hL (by decide) dL_118 dL_119 dL_120 dL_121 dL_122 ?_
  refine lw_arg (n := 6 * k) (kk := 2) hb1 hl1 hg1 (by omega) hL (by decide) dL_123 dL_124 dL_125 dL_126 dL_127 ?_
  refine lw_arg (n := 6 * k) (kk := 3) hb1 hl1 hg1 (by omega) hL (by decide) dL_128 dL_129 dL_130 dL_131 dL_132 ?_
  refine lw_arg (n := 6 * k) (kk := 4) hb1 hl1 hg1 (by omega) hL (by decide) dL_133 dL_134 dL_135 dL_136 dL_137 ?_
  refine lw_arg (n := 6 * k) (kk := 5) hb1 hl1 hg1 (by omega) hL (by decide) dL_138 dL_139 dL_140 dL_141 dL_142 ?_
  refine ch_iv yX3_feed prog_14_method_105_code 8 (some .int) (ci := 3) (q := (RX3, TX3, 109)) (b := m) (d' := 2) (av := [.int (xs (6 * k + 1)), .int (xs (6 * k + 2)), .int (xs (6 * k + 3)), .int (xs (6 * k + 4)), .int (xs (6 * k + 5))]) (rest := [.int r]) rfl dL_143 q2171 q2172 rfl q2173 q2174 can_X3_feed (Nat.le_of_ble_eq_true rfl) (ch_hw (Nat.le_of_ble_eq_true rfl)) (by rw [ch_tg, hp, ch_put_m]) ?_
  rw [hp]
  refine s_X3_feed hm ?_
  show ch_FT g false mL 2048 146 _ [.int r, .int r] (ch_put m w' _) Q
  exact ch_icmp_eq _ _ (tgt := 348) dL_146 (by decide) (fun _ => next _ _ ⟨hB1, (lw_putput _ _ _ _).symm, hn⟩) (fun h => absurd rfl h)
theorem lw_c_end {k : Nat} {W : ch_W} {σ : ch_S} (hS : ch_Sim g t0 m Rel) (h0 : ch_W0 g b L xs (cs_w g)) (hmg : g.heap.size ≤ m) (hL : L ≤ 384) (hk : k < 64) (hkL : 6 * k + 6 ≤ L) (hI : lw_Inv g m Rel k W σ) (next : ∀ W σ, lw_Inv g m Rel (k + 1) W σ → ch_FT g false mL 2048 348 (lw_ls b t0 m (Int32.ofNat (6 * k))) [] W Q) : ch_FT g false mL 2048 151 (lw_ls b t0 m (Int32.ofNat (6 * k))) [] W Q := by
  refine ch_FT.wf fun hwf => ?_
  obtain ⟨hB, hM, hR⟩ := id hI
  obtain ⟨hb, hl, hg⟩ := lw_scr h0 hB
  obtain ⟨r, w1, σ1, hc, hm, hn⟩ := hS.2.2.2.1 (xs (6 * k + 1)) k W σ hk hB hwf hM hR
  have ht := hS.1 k W σ hR
  refine ch_aload_n 1 (some t0) dL_151 rfl ?_
  refine lw_arg (n := 6 * k) (kk := 1) hb hl hg (by omega) hL (by decide) dL_152 dL_153 dL_154 dL_155 dL_156 ?_
  refine ch_iv yX0_end prog_1_method_9_code 2 (some .int) (ci := 0) (q := (RX0, TX0, 7)) (b := t0) (d' := 2) (av := [.int (xs (6 * k + 1))]) (rest := []) rfl dL_157 q423 q424 rfl q425 q426 can_X0_end (Nat.le_of_ble_eq_true rfl) (ch_hw (Nat.le_of_ble_eq_true rfl)) ht ?_
  refine ch_CT.weak (ch_CT.kept (Q := fun o w' => o = .returned (some (.int r)) ∧ w' = w1) (s_X0_end hc ⟨rfl, rfl⟩) (fun o w' hkp hwf1 hq => ?_))
  obtain ⟨rfl, rfl⟩ := hq
  show ch_FT g false mL 2048 160 _ [.int r] w' Q
  have hn := hn (fun _ => hkp) hwf1
  have hp := lw_back hM hkp
  have hB1 := lw_base1 h0 hmg (σ := σ1) hB hkp
  obtain ⟨hb1, hl1, hg1⟩ := lw_scr h0 (lw_base0 h0 hB hkp)
  refine ch_aload_n 2 (some m) dL_160 rfl ?_
  refine lw_arg (n := 6 * k) (kk := 1) hb1 hl1 hg1 (by omega) hL (by decide) dL_161 dL_162 dL_163 dL_164 dL_165 ?_
  refine ch_iv yX3_end prog_14_method_106_code 2 (some .int) (ci := 3) (q := (RX3, TX3, 109)) (b := m) (d' := 3) (av := [.int (xs (6 * k + 1))]) (rest := [.int r]) rfl dL_166 q2175 q2176 rfl q2177 q2178 can_X3_end (Nat.le_of_ble_eq_true rfl) (ch_hw (Nat.le_of_ble_eq_true rfl)) (by rw [ch_tg, hp, ch_put_m]) ?_
  rw [hp]
  refine s_X3_end hm ?_
  show ch_FT g false mL 2048 169 _ [.int r, .int r] (ch_put m w' _) Q
  exact ch_icmp_eq _ _ (tgt := 348) dL_169 (by decide) (fun _ => next _ _ ⟨hB1, (lw_putput _ _ _ _).symm, hn⟩) (fun h => absurd rfl h)
theorem lw_c_program {k : Nat} {W : ch_W} {σ : ch_S} (hS : ch_Sim g t0 m Rel) (h0 : ch_W0 g b L xs (cs_w g)) (hmg : g.heap.size ≤ m) (hL : L ≤ 384) (hk : k < 64) (hkL : 6 * k + 6 ≤ L) (hI : lw_Inv g m Rel k W σ) (next : ∀ W σ, lw_Inv g m Rel (k + 1) W σ → ch_FT g false mL 2048 348 (lw_ls b t0 m (Int32.ofNat (6 * k))) [] W Q) : ch_FT g false mL 2048 174 (lw_ls b t0 m (Int32.ofNat (6 * k))) [] W Q := by
  refine ch_FT.wf fun hwf => ?_
  obtain ⟨hB, hM, hR⟩ := id hI
  obtain ⟨hb, hl, hg⟩ := lw_scr h0 hB
  obtain ⟨r, w1, σ1, hc, hm, hn⟩ := hS.2.2.2.2.1  k W σ hk hB hwf hM hR
  have ht := hS.1 k W σ hR
  refine ch_aload_n 1 (some t0) dL_174 rfl ?_
  refine ch_ivH yX0_program prog_1_method_10_code 5 (some .int) [(33, 51, 54, 54)] (ci := 0) (q := (RX0, TX0, 7)) (b := t0) (d' := 825) (av := []) (rest := []) rfl dL_175 q427 q428 rfl q429 q430 can_X0_program (Nat.le_of_ble_eq_true rfl) (ch_hw (Nat.le_of_ble_eq_true rfl)) ht ?_
  refine ch_CT.weak (ch_CT.kept (Q := fun o w' => o = .returned (some (.int r)) ∧ w' = w1) (s_X0_program hc ⟨rfl, rfl⟩) (fun o w' hkp hwf1 hq => ?_))
  obtain ⟨rfl, rfl⟩ := hq
  show ch_FT g false mL 2048 178 _ [.int r] w' Q
  have hn := hn (fun _ => hkp) hwf1
  have hp := lw_back hM hkp
  have hB1 := lw_base1 h0 hmg (σ := σ1) hB hkp
  obtain ⟨hb1, hl1, hg1⟩ := lw_scr h0 (lw_base0 h0 hB hkp)
  refine ch_aload_n 2 (some m) dL_178 rfl ?_
  refine ch_iv yX3_program prog_14_method_53_code 5 (some .int) (ci := 3) (q := (RX3, TX3, 109)) (b := m) (d' := 532) (av := []) (rest := [.int r]) rfl dL_179 q1876 q1877 rfl q1878 q1879 can_X3_program (Nat.le_of_ble_eq_true rfl) (ch_hw (Nat.le_of_ble_eq_true rfl)) (by rw [ch_tg, hp, ch_put_m]) ?_
  rw [hp]
  refine s_X3_program hm ?_
  show ch_FT g false mL 2048 182 _ [.int r, .int r] (ch_put m w' _) Q
  exact ch_icmp_eq _ _ (tgt := 348) dL_182 (by decide) (fun _ => next _ _ ⟨hB1, (lw_putput _ _ _ _).symm, hn⟩) (fun h => absurd rfl h)
theorem lw_c_heap {k : Nat} {W : ch_W} {σ : ch_S} (hS : ch_Sim g t0 m Rel) (h0 : ch_W0 g b L xs (cs_w g)) (hmg : g.heap.size ≤ m) (hL : L ≤ 384) (hk : k < 64) (hkL : 6 * k + 6 ≤ L) (hI : lw_Inv g m Rel k W σ) (next : ∀ W σ, lw_Inv g m Rel (k + 1) W σ → ch_FT g false mL 2048 348 (lw_ls b t0 m (Int32.ofNat (6 * k))) [] W Q) : ch_FT g false mL 2048 187 (lw_ls b t0 m (Int32.ofNat (6 * k))) [] W Q := by
  refine ch_FT.wf fun hwf => ?_
  obtain ⟨hB, hM, hR⟩ := id hI
  obtain ⟨hb, hl, hg⟩ := lw_scr h0 hB
  obtain ⟨r, w1, σ1, hc, hm, hn⟩ := hS.2.2.2.2.2.1 (xs (6 * k + 1)) k W σ hk hB hwf hM hR
  have ht := hS.1 k W σ hR
  refine ch_aload_n 1 (some t0) dL_187 rfl ?_
  refine lw_arg (n := 6 * k) (kk := 1) hb hl hg (by omega) hL (by decide) dL_188 dL_189 dL_190 dL_191 dL_192 ?_
  refine ch_iv yX0_heap prog_1_method_11_code 2 (some .int) (ci := 0) (q := (RX0, TX0, 7)) (b := t0) (d' := 2) (av := [.int (xs (6 * k + 1))]) (rest := []) rfl dL_193 q1298 q1299 rfl q1300 q1301 can_X0_heap (Nat.le_of_ble_eq_true rfl) (ch_hw (Nat.le_of_ble_eq_true rfl)) ht ?_
  refine ch_CT.weak (ch_CT.kept (Q := fun o w' => o = .returned (some (.int r)) ∧ w' = w1) (s_X0_heap hc ⟨rfl, rfl⟩) (fun o w' hkp hwf1 hq => ?_))
  obtain ⟨rfl, rfl⟩ := hq
  show ch_FT g false mL 2048 196 _ [.int r] w' Q
  have hn := hn (fun _ => hkp) hwf1
  have hp := lw_back hM hkp
  have hB1 := lw_base1 h0 hmg (σ := σ1) hB hkp
  obtain ⟨hb1, hl1, hg1⟩ := lw_scr h0 (lw_base0 h0 hB hkp)
  refine ch_aload_n 2 (some m) dL_196 rfl ?_
  refine lw_arg (n := 6 * k) (kk := 1) hb1 hl1 hg1 (by omega) hL (by decide) dL_197 dL_198 dL_199 dL_200 dL_201 ?_
  refine ch_iv yX3_heap prog_14_method_107_code 2 (some .int) (ci := 3) (q := (RX3, TX3, 109)) (b := m) (d' := 3) (av := [.int (xs (6 * k + 1))]) (rest := [.int r]) rfl dL_202 q2179 q2180 rfl q2181 q2182 can_X3_heap (Nat.le_of_ble_eq_true rfl) (ch_hw (Nat.le_of_ble_eq_true rfl)) (by rw [ch_tg, hp, ch_put_m]) ?_
  rw [hp]
  refine s_X3_heap hm ?_
  show ch_FT g false mL 2048 205 _ [.int r, .int r] (ch_put m w' _) Q
  exact ch_icmp_eq _ _ (tgt := 348) dL_205 (by decide) (fun _ => next _ _ ⟨hB1, (lw_putput _ _ _ _).symm, hn⟩) (fun h => absurd rfl h)
theorem lw_c_input {k : Nat} {W : ch_W} {σ : ch_S} (hS : ch_Sim g t0 m Rel) (h0 : ch_W0 g b L xs (cs_w g)) (hmg : g.heap.size ≤ m) (hL : L ≤ 384) (hk : k < 64) (hkL : 6 * k + 6 ≤ L) (hI : lw_Inv g m Rel k W σ) (next : ∀ W σ, lw_Inv g m Rel (k + 1) W σ → ch_FT g false mL 2048 348 (lw_ls b t0 m (Int32.ofNat (6 * k))) [] W Q) : ch_FT g false mL 2048 210 (lw_ls b t0 m (Int32.ofNat (6 * k))) [] W Q := by
  refine ch_FT.wf fun hwf => ?_
  obtain ⟨hB, hM, hR⟩ := id hI
  obtain ⟨hb, hl, hg⟩ := lw_scr h0 hB
  obtain ⟨r, w1, σ1, hc, hm, hn⟩ := hS.2.2.2.2.2.2.1 (xs (6 * k + 1)) (xs (6 * k + 2)) (xs (6 * k + 3)) k W σ hk hB hwf hM hR
  have ht := hS.1 k W σ hR
  refine ch_aload_n 1 (some t0) dL_210 rfl ?_
  refine lw_arg (n := 6 * k) (kk := 1) hb hl hg (by omega) hL (by decide) dL_211 dL_212 dL_213 dL_214 dL_215 ?_
  refine lw_arg (n := 6 * k) (kk := 2) hb hl hg (by omega) hL (by decide) dL_216 dL_217 dL_218 dL_219 dL_220 ?_
  refine lw_arg (n := 6 * k) (kk := 3) hb hl hg (by omega) hL (by decide) dL_221 dL_222 dL_223 dL_224 dL_225 ?_
  refine ch_iv yX0_input prog_1_method_12_code 4 (some .int) (ci := 0) (q := (RX0, TX0, 7)) (b := t0) (d' := 3) (av := [.int (xs (6 * k + 1)), .int (xs (6 * k + 2)), .int (xs (6 * k + 3))]) (rest := []) rfl dL_226 q1302 q1303 rfl q1304 q1305 can_X0_input (Nat.le_of_ble_eq_true rfl) (ch_hw (Nat.le_of_ble_eq_true rfl)) ht ?_
  refine ch_CT.weak (ch_CT.kept (Q := fun o w' => o = .returned (some (.int r)) ∧ w' = w1) (s_X0_input hc ⟨rfl, rfl⟩) (fun o w' hkp hwf1 hq => ?_))
  obtain ⟨rfl, rfl⟩ := hq
  show ch_FT g false mL 2048 229 _ [.int r] w' Q
  have hn := hn (fun _ => hkp) hwf1
  have hp := lw_back hM hkp
  have hB1 := lw_base1 h0 hmg (σ := σ1) hB hkp
  obtain ⟨hb1, hl1, hg1⟩ := lw_scr h0 (lw_base0 h0 hB hkp)
  refine ch_aload_n 2 (some m) dL_229 rfl ?_
  refine lw_arg (n := 6 * k) (kk := 1) hb1 hl1 hg1 (by omega) hL (by decide) dL_230 dL_231 dL_232 dL_233 dL_234 ?_
  refine lw_arg (n := 6 * k) (kk := 2) hb1 hl1 hg1 (by omega) hL (by decide) dL_235 dL_236 dL_237 dL_238 dL_239 ?_
  refine lw_arg (n := 6 * k) (kk := 3) hb1 hl1 hg1 (by omega) hL (by decide) dL_240 dL_241 dL_242 dL_243 dL_244 ?_
  refine ch_iv yX3_input prog_14_method_108_code 4 (some .int) (ci := 3) (q := (RX3, TX3, 109)) (b := m) (d' := 2) (av := [.int (xs (6 * k + 1)), .int (xs (6 * k + 2)), .int (xs (6 * k + 3))]) (rest := [.int r]) rfl dL_245 q2185 q2186 rfl q2187 q2188 can_X3_input (Nat.le_of_ble_eq_true rfl) (ch_hw (Nat.le_of_ble_eq_true rfl)) (by rw [ch_tg, hp, ch_put_m]) ?_
  rw [hp]
  refine s_X3_input hm ?_
  show ch_FT g false mL 2048 248 _ [.int r, .int r] (ch_put m w' _) Q
  exact ch_icmp_eq _ _ (tgt := 348) dL_248 (by decide) (fun _ => next _ _ ⟨hB1, (lw_putput _ _ _ _).symm, hn⟩) (fun h => absurd rfl h)
theorem lw_c_start {k : Nat} {W : ch_W} {σ : ch_S} (hS : ch_Sim g t0 m Rel) (h0 : ch_W0 g b L xs (cs_w g)) (hmg : g.heap.size ≤ m) (hL : L ≤ 384) (hk : k < 64) (hkL : 6 * k + 6 ≤ L) (hI : lw_Inv g m Rel k W σ) (next : ∀ W σ, lw_Inv g m Rel (k + 1) W σ → ch_FT g false mL 2048 348 (lw_ls b t0 m (Int32.ofNat (6 * k))) [] W Q) : ch_FT g false mL 2048 253 (lw_ls b t0 m (Int32.ofNat (6 * k))) [] W Q := by
  refine ch_FT.wf fun hwf => ?_
  obtain ⟨hB, hM, hR⟩ := id hI
  obtain ⟨hb, hl, hg⟩ := lw_scr h0 hB
  obtain ⟨r, w1, σ1, hc, hm, hn⟩ := hS.2.2.2.2.2.2.2.1  k W σ hk hB hwf hM hR
  have ht := hS.1 k W σ hR
  refine ch_aload_n 1 (some t0) dL_253 rfl ?_
  refine ch_iv yX0_start prog_1_method_14_code 1 (some .int) (ci := 0) (q := (RX0, TX0, 7)) (b := t0) (d' := 10) (av := []) (rest := []) rfl dL_254 q1310 q1311 rfl q1312 q1313 can_X0_start (Nat.le_of_ble_eq_true rfl) (ch_hw (Nat.le_of_ble_eq_true rfl)) ht ?_
  replace hc := lw_mapT hc
  refine ch_CT.weak (ch_CT.kept (Q := fun o w' => o = .returned (some (.int r)) ∧ w' = w1) (s_X0_start hc ⟨rfl, rfl⟩) (fun o w' hkp hwf1 hq => ?_))
  obtain ⟨rfl, rfl⟩ := hq
  show ch_FT g false mL 2048 257 _ [.int r] w' Q
  have hn := hn (fun _ => hkp) hwf1
  have hp := lw_back hM hkp
  have hB1 := lw_base1 h0 hmg (σ := σ1) hB hkp
  obtain ⟨hb1, hl1, hg1⟩ := lw_scr h0 (lw_base0 h0 hB hkp)
  refine ch_aload_n 2 (some m) dL_257 rfl ?_
  refine ch_iv yX3_start prog_14_method_109_code 3 (some .int) (ci := 3) (q := (RX3, TX3, 109)) (b := m) (d' := 5) (av := []) (rest := [.int r]) rfl dL_258 q2189 q2190 rfl q2191 q2192 can_X3_start (Nat.le_of_ble_eq_true rfl) (ch_hw (Nat.le_of_ble_eq_true rfl)) (by rw [ch_tg, hp, ch_put_m]) ?_
  rw [hp]
  refine s_X3_start hm ?_
  show ch_FT g false mL 2048 261 _ [.int r, .int r] (ch_put m w' _) Q
  exact ch_icmp_eq _ _ (tgt := 348) dL_261 (by decide) (fun _ => next _ _ ⟨hB1, (lw_putput _ _ _ _).symm, hn⟩) (fun h => absurd rfl h)
theorem lw_c_step {k : Nat} {W : ch_W} {σ : ch_S} (hS : ch_Sim g t0 m Rel) (h0 : ch_W0 g b L xs (cs_w g)) (hmg : g.heap.size ≤ m) (hL : L ≤ 384) (hk : k < 64) (hkL : 6 * k + 6 ≤ L) (hI : lw_Inv g m Rel k W σ) (next : ∀ W σ, lw_Inv g m Rel (k + 1) W σ → ch_FT g false mL 2048 348 (lw_ls b t0 m (Int32.ofNat (6 * k))) [] W Q) : ch_FT g false mL 2048 266 (lw_ls b t0 m (Int32.ofNat (6 * k))) [] W Q := by
  refine ch_FT.wf fun hwf => ?_
  obtain ⟨hB, hM, hR⟩ := id hI
  obtain ⟨hb, hl, hg⟩ := lw_scr h0 hB
  obtain ⟨r, w1, σ1, hc, hm, hn⟩ := hS.2.2.2.2.2.2.2.2.1 (xs (6 * k + 1)) k W σ hk hB hwf hM hR
  have ht := hS.1 k W σ hR
  refine ch_aload_n 1 (some t0) dL_266 rfl ?_
  refine lw_arg (n := 6 * k) (kk := 1) hb hl hg (by omega) hL (by decide) dL_267 dL_268 dL_269 dL_270 dL_271 ?_
  refine ch_iv yX0_step prog_1_method_15_code 2 (some .int) (ci := 0) (q := (RX0, TX0, 7)) (b := t0) (d' := 12) (av := [.int (xs (6 * k + 1))]) (rest := []) rfl dL_272 q1406 q1407 rfl q1408 q1409 can_X0_step (Nat.le_of_ble_eq_true rfl) (ch_hw (Nat.le_of_ble_eq_true rfl)) ht ?_
  refine ch_CT.weak (ch_CT.kept (Q := fun o w' => o = .returned (some (.int r)) ∧ w' = w1) (s_X0_step hc ⟨rfl, rfl⟩) (fun o w' hkp hwf1 hq => ?_))
  obtain ⟨rfl, rfl⟩ := hq
  show ch_FT g false mL 2048 275 _ [.int r] w' Q
  have hn := hn (fun _ => hkp) hwf1
  have hp := lw_back hM hkp
  have hB1 := lw_base1 h0 hmg (σ := σ1) hB hkp
  obtain ⟨hb1, hl1, hg1⟩ := lw_scr h0 (lw_base0 h0 hB hkp)
  refine ch_aload_n 2 (some m) dL_275 rfl ?_
  refine lw_arg (n := 6 * k) (kk := 1) hb1 hl1 hg1 (by omega) hL (by decide) dL_276 dL_277 dL_278 dL_279 dL_280 ?_
  refine ch_iv yX3_step prog_14_method_110_code 3 (some .int) (ci := 3) (q := (RX3, TX3, 109)) (b := m) (d' := 9) (av := [.int (xs (6 * k + 1))]) (rest := [.int r]) rfl dL_281 q2230 q2231 rfl q2232 q2233 can_X3_step (Nat.le_of_ble_eq_true rfl) (ch_hw (Nat.le_of_ble_eq_true rfl)) (by rw [ch_tg, hp, ch_put_m]) ?_
  rw [hp]
  refine s_X3_step hm ?_
  show ch_FT g false mL 2048 284 _ [.int r, .int r] (ch_put m w' _) Q
  exact ch_icmp_eq _ _ (tgt := 348) dL_284 (by decide) (fun _ => next _ _ ⟨hB1, (lw_putput _ _ _ _).symm, hn⟩) (fun h => absurd rfl h)
theorem lw_c_result {k : Nat} {W : ch_W} {σ : ch_S} (hS : ch_Sim g t0 m Rel) (h0 : ch_W0 g b L xs (cs_w g)) (hmg : g.heap.size ≤ m) (hL : L ≤ 384) (hk : k < 64) (hkL : 6 * k + 6 ≤ L) (hI : lw_Inv g m Rel k W σ) (next : ∀ W σ, lw_Inv g m Rel (k + 1) W σ → ch_FT g false mL 2048 348 (lw_ls b t0 m (Int32.ofNat (6 * k))) [] W Q) : ch_FT g false mL 2048 289 (lw_ls b t0 m (Int32.ofNat (6 * k))) [] W Q := by
  refine ch_FT.wf fun hwf => ?_
  obtain ⟨hB, hM, hR⟩ := id hI
  obtain ⟨hb, hl, hg⟩ := lw_scr h0 hB
  obtain ⟨r, w1, σ1, hc, hm, hn⟩ := hS.2.2.2.2.2.2.2.2.2.1  k W σ hk hB hwf hM hR
  have ht := hS.1 k W σ hR
  refine ch_aload_n 1 (some t0) dL_289 rfl ?_
  refine ch_iv yX0_result prog_1_method_16_code 1 (some .int) (ci := 0) (q := (RX0, TX0, 7)) (b := t0) (d' := 2) (av := []) (rest := []) rfl dL_290 q1514 q1515 rfl q1516 q1517 can_X0_result (Nat.le_of_ble_eq_true rfl) (ch_hw (Nat.le_of_ble_eq_true rfl)) ht ?_
  obtain ⟨hc, rfl⟩ := lw_mapP hc
  refine ch_CT.weak (ch_CT.kept (Q := fun o w' => o = .returned (some (.int r)) ∧ w' = w1) (s_X0_result hc ⟨rfl, rfl⟩) (fun o w' hkp hwf1 hq => ?_))
  obtain ⟨rfl, rfl⟩ := hq
  show ch_FT g false mL 2048 293 _ [.int r] w' Q
  have hn := hn (fun _ => hkp) hwf1
  have hp := lw_back hM hkp
  have hB1 := lw_base1 h0 hmg (σ := σ1) hB hkp
  obtain ⟨hb1, hl1, hg1⟩ := lw_scr h0 (lw_base0 h0 hB hkp)
  refine ch_aload_n 2 (some m) dL_293 rfl ?_
  refine ch_iv yX3_result prog_14_method_111_code 1 (some .int) (ci := 3) (q := (RX3, TX3, 109)) (b := m) (d' := 2) (av := []) (rest := [.int r]) rfl dL_294 q2314 q2315 rfl q2316 q2317 can_X3_result (Nat.le_of_ble_eq_true rfl) (ch_hw (Nat.le_of_ble_eq_true rfl)) (by rw [ch_tg, hp, ch_put_m]) ?_
  rw [hp]
  obtain ⟨hm, rfl⟩ := lw_mapM hm
  refine s_X3_result hm ?_
  show ch_FT g false mL 2048 297 _ [.int r, .int r] (ch_put m w' _) Q
  exact ch_icmp_eq _ _ (tgt := 348) dL_297 (by decide) (fun _ => next _ _ ⟨hB1, (lw_putput _ _ _ _).symm, hn⟩) (fun h => absurd rfl h)
theorem lw_c_output {k : Nat} {W : ch_W} {σ : ch_S} (hS : ch_Sim g t0 m Rel) (h0 : ch_W0 g b L xs (cs_w g)) (hmg : g.heap.size ≤ m) (hL : L ≤ 384) (hk : k < 64) (hkL : 6 * k + 6 ≤ L) (hI : lw_Inv g m Rel k W σ) (next : ∀ W σ, lw_Inv g m Rel (k + 1) W σ → ch_FT g false mL 2048 348 (lw_ls b t0 m (Int32.ofNat (6 * k))) [] W Q) : ch_FT g false mL 2048 302 (lw_ls b t0 m (Int32.ofNat (6 * k))) [] W Q := by
  refine ch_FT.wf fun hwf => ?_
  obtain ⟨hB, hM, hR⟩ := id hI
  obtain ⟨hb, hl, hg⟩ := lw_scr h0 hB
  obtain ⟨r, w1, σ1, hc, hm, hn⟩ := hS.2.2.2.2.2.2.2.2.2.2.1 (xs (6 * k + 1)) k W σ hk hB hwf hM hR
  have ht := hS.1 k W σ hR
  refine ch_aload_n 1 (some t0) dL_302 rfl ?_
  refine lw_arg (n := 6 * k) (kk := 1) hb hl hg (by omega) hL (by decide) dL_303 dL_304 dL_305 dL_306 dL_307 ?_
  refine ch_iv yX0_output prog_1_method_17_code 2 (some .int) (ci := 0) (q := (RX0, TX0, 7)) (b := t0) (d' := 2) (av := [.int (xs (6 * k + 1))]) (rest := []) rfl dL_308 q1518 q1519 rfl q1520 q1521 can_X0_output (Nat.le_of_ble_eq_true rfl) (ch_hw (Nat.le_of_ble_eq_true rfl)) ht ?_
  obtain ⟨hc, rfl⟩ := lw_mapP hc
  refine ch_CT.weak (ch_CT.kept (Q := fun o w' => o = .returned (some (.int r)) ∧ w' = w1) (s_X0_output hc ⟨rfl, rfl⟩) (fun o w' hkp hwf1 hq => ?_))
  obtain ⟨rfl, rfl⟩ := hq
  show ch_FT g false mL 2048 311 _ [.int r] w' Q
  have hn := hn (fun _ => hkp) hwf1
  have hp := lw_back hM hkp
  have hB1 := lw_base1 h0 hmg (σ := σ1) hB hkp
  obtain ⟨hb1, hl1, hg1⟩ := lw_scr h0 (lw_base0 h0 hB hkp)
  refine ch_aload_n 2 (some m) dL_311 rfl ?_
  refine lw_arg (n := 6 * k) (kk := 1) hb1 hl1 hg1 (by omega) hL (by decide) dL_312 dL_313 dL_314 dL_315 dL_316 ?_
  refine ch_iv yX3_output prog_14_method_112_code 2 (some .int) (ci := 3) (q := (RX3, TX3, 109)) (b := m) (d' := 3) (av := [.int (xs (6 * k + 1))]) (rest := [.int r]) rfl dL_317 q2318 q2319 rfl q2320 q2321 can_X3_output (Nat.le_of_ble_eq_true rfl) (ch_hw (Nat.le_of_ble_eq_true rfl)) (by rw [ch_tg, hp, ch_put_m]) ?_
  rw [hp]
  obtain ⟨hm, rfl⟩ := lw_mapM hm
  refine s_X3_output hm ?_
  show ch_FT g false mL 2048 320 _ [.int r, .int r] (ch_put m w' _) Q
  exact ch_icmp_eq _ _ (tgt := 348) dL_320 (by decide) (fun _ => next _ _ ⟨hB1, (lw_putput _ _ _ _).symm, hn⟩) (fun h => absurd rfl h)
theorem lw_c_count {k : Nat} {W : ch_W} {σ : ch_S} (hS : ch_Sim g t0 m Rel) (h0 : ch_W0 g b L xs (cs_w g)) (hmg : g.heap.size ≤ m) (hL : L ≤ 384) (hk : k < 64) (hkL : 6 * k + 6 ≤ L) (hI : lw_Inv g m Rel k W σ) (next : ∀ W σ, lw_Inv g m Rel (k + 1) W σ → ch_FT g false mL 2048 348 (lw_ls b t0 m (Int32.ofNat (6 * k))) [] W Q) : ch_FT g false mL 2048 325 (lw_ls b t0 m (Int32.ofNat (6 * k))) [] W Q := by
  refine ch_FT.wf fun hwf => ?_
  obtain ⟨hB, hM, hR⟩ := id hI
  obtain ⟨hb, hl, hg⟩ := lw_scr h0 hB
  obtain ⟨r, w1, σ1, hc, hm, hn⟩ := hS.2.2.2.2.2.2.2.2.2.2.2 (xs (6 * k + 1)) k W σ hk hB hwf hM hR
  have ht := hS.1 k W σ hR
  refine ch_aload_n 1 (some t0) dL_325 rfl ?_
  refine lw_arg (n := 6 * k) (kk := 1) hb hl hg (by omega) hL (by decide) dL_326 dL_327 dL_328 dL_329 dL_330 ?_
  refine ch_iv yX0_count prog_1_method_18_code 2 (some .int) (ci := 0) (q := (RX0, TX0, 7)) (b := t0) (d' := 7) (av := [.int (xs (6 * k + 1))]) (rest := []) rfl dL_331 q1522 q1523 rfl q1524 q1525 can_X0_count (Nat.le_of_ble_eq_true rfl) (ch_hw (Nat.le_of_ble_eq_true rfl)) ht ?_
  refine ch_CT.weak (ch_CT.kept (Q := fun o w' => o = .returned (some (.int r)) ∧ w' = w1) (s_X0_count hc ⟨rfl, rfl⟩) (fun o w' hkp hwf1 hq => ?_))
  obtain ⟨rfl, rfl⟩ := hq
  show ch_FT g false mL 2048 334 _ [.int r] w' Q
  have hn := hn (fun _ => hkp) hwf1
  have hp := lw_back hM hkp
  have hB1 := lw_base1 h0 hmg (σ := σ1) hB hkp
  obtain ⟨hb1, hl1, hg1⟩ := lw_scr h0 (lw_base0 h0 hB hkp)
  refine ch_aload_n 2 (some m) dL_334 rfl ?_
  refine lw_arg (n := 6 * k) (kk := 1) hb1 hl1 hg1 (by omega) hL (by decide) dL_335 dL_336 dL_337 dL_338 dL_339 ?_
  refine ch_iv yX3_count prog_14_method_113_code 2 (some .int) (ci := 3) (q := (RX3, TX3, 109)) (b := m) (d' := 4) (av := [.int (xs (6 * k + 1))]) (rest := [.int r]) rfl dL_340 q2323 q2324 rfl q2325 q2326 can_X3_count (Nat.le_of_ble_eq_true rfl) (ch_hw (Nat.le_of_ble_eq_true rfl)) (by rw [ch_tg, hp, ch_put_m]) ?_
  rw [hp]
  refine s_X3_count hm ?_
  show ch_FT g false mL 2048 343 _ [.int r, .int r] (ch_put m w' _) Q
  exact ch_icmp_eq _ _ (tgt := 348) dL_343 (by decide) (fun _ => next _ _ ⟨hB1, (lw_putput _ _ _ _).symm, hn⟩) (fun h => absurd rfl h)
theorem lw_loop (hS : ch_Sim g t0 m Rel) (h0 : ch_W0 g b L xs (cs_w g)) (hmg : g.heap.size ≤ m) (hL : L ≤ 384) (hQ : ∀ w, Q (.returned (some (.int 1))) w) : ∀ (n k : Nat) (W : ch_W) (σ : ch_S), 6 * k + 6 * n + 6 > L → 6 * k ≤ L → lw_Inv g m Rel k W σ → ch_FT g false mL 2048 18 (lw_ls b t0 m (Int32.ofNat (6 * k))) [] W Q := by
  intro n
  induction n with
  | zero =>
    intro k W σ h1 h2 hI
    obtain ⟨hb, hl, hg⟩ := lw_scr h0 hI.1
    refine ch_iload_n 3 _ dL_18 rfl (ch_aload_n 0 (some b) dL_19 rfl (ch_alen (some b) (ty := .int) rfl dL_20 (by rw [hb]; rfl) (ch_bipush _ 6 dL_21 rfl (ch_isub _ _ dL_23 (ch_icmp_gt _ _ (tgt := 354) dL_24 (by decide) (fun _ => ch_iconst _ 1 dL_354 rfl (ch_ireturn _ dL_355 rfl rfl (hQ W))) (fun h => absurd ?_ h))))))
    rw [hl]
    exact lw_gt1 hL h1 (by omega)
  | succ n ih =>
    intro k W σ h1 h2 hI
    obtain ⟨hb, hl, hg⟩ := lw_scr h0 hI.1
    refine ch_iload_n 3 _ dL_18 rfl (ch_aload_n 0 (some b) dL_19 rfl (ch_alen (some b) (ty := .int) rfl dL_20 (by rw [hb]; rfl) (ch_bipush _ 6 dL_21 rfl (ch_isub _ _ dL_23 (ch_icmp_gt _ _ (tgt := 354) dL_24 (by decide) (fun _ => ch_iconst _ 1 dL_354 rfl (ch_ireturn _ dL_355 rfl rfl (hQ W))) (fun h => ?_))))))
    rw [hl] at h
    have hkL := lw_gt2 hL h (by omega)
    have next : ∀ W σ, lw_Inv g m Rel (k + 1) W σ → ch_FT g false mL 2048 348 (lw_ls b t0 m (Int32.ofNat (6 * k))) [] W Q := by
      intro W σ hI
      refine ch_iinc 3 6 (Int32.ofNat (6 * k)) (Int32.ofNat (6 * (k + 1))) dL_348 rfl (lw_inc k) (Nat.le_of_ble_eq_true rfl) rfl (ch_goto 18 dL_351 (by decide) ?_)
      exact ih (k + 1) W σ (by omega) (by omega) hI
    refine ch_aload_n 0 (some b) dL_27 rfl (ch_iload_n 3 _ dL_28 rfl (ch_iald (some b) _ rfl dL_29 (by rw [hb]; rfl) (by rw [hl]; exact lw_vin (by omega) hL) (ch_bipush _ 15 dL_30 rfl (ch_iand _ _ dL_32 ?_))))
    generalize hz : ch_gi W b (Int32.ofNat (6 * k)).toNatClampNeg &&& 15 = z
    have hz0 := lw_and15 hz
    by_cases hd : 9 < z.toInt
    · exact ch_tableOut z (tgt := 348) dL_33 (Or.inr hd) (by decide) (next W σ (lw_Inv.up hS hI))
    by_cases e0 : z.toInt = 0
    · exact ch_tableIn z (off := 55) (tgt := 88) dL_33 (by omega) (by omega) (by rw [e0]; rfl) (by decide) (lw_c_feed hS h0 hmg hL (by omega) hkL hI next)
    by_cases e1 : z.toInt = 1
    · exact ch_tableIn z (off := 118) (tgt := 151) dL_33 (by omega) (by omega) (by rw [e1]; rfl) (by decide) (lw_c_end hS h0 hmg hL (by omega) hkL hI next)
    by_cases e2 : z.toInt = 2
    · exact ch_tableIn z (off := 141) (tgt := 174) dL_33 (by omega) (by omega) (by rw [e2]; rfl) (by decide) (lw_c_program hS h0 hmg hL (by omega) hkL hI next)
    by_cases e3 : z.toInt = 3
    · exact ch_tableIn z (off := 154) (tgt := 187) dL_33 (by omega) (by omega) (by rw [e3]; rfl) (by decide) (lw_c_heap hS h0 hmg hL (by omega) hkL hI next)
    by_cases e4 : z.toInt = 4
    · exact ch_tableIn z (off := 177) (tgt := 210) dL_33 (by omega) (by omega) (by rw [e4]; rfl) (by decide) (lw_c_input hS h0 hmg hL (by omega) hkL hI next)
    by_cases e5 : z.toInt = 5
    · exact ch_tableIn z (off := 220) (tgt := 253) dL_33 (by omega) (by omega) (by rw [e5]; rfl) (by decide) (lw_c_start hS h0 hmg hL (by omega) hkL hI next)
    by_cases e6 : z.toInt = 6
    · exact ch_tableIn z (off := 233) (tgt := 266) dL_33 (by omega) (by omega) (by rw [e6]; rfl) (by decide) (lw_c_step hS h0 hmg hL (by omega) hkL hI next)
    by_cases e7 : z.toInt = 7
    · exact ch_tableIn z (off := 256) (tgt := 289) dL_33 (by omega) (by omega) (by rw [e7]; rfl) (by decide) (lw_c_result hS h0 hmg hL (by omega) hkL hI next)
    by_cases e8 : z.toInt = 8
    · exact ch_tableIn z (off := 269) (tgt := 302) dL_33 (by omega) (by omega) (by rw [e8]; rfl) (by decide) (lw_c_output hS h0 hmg hL (by omega) hkL hI next)
    by_cases e9 : z.toInt = 9
    · exact ch_tableIn z (off := 292) (tgt := 325) dL_33 (by omega) (by omega) (by rw [e9]; rfl) (by decide) (lw_c_count hS h0 hmg hL (by omega) hkL hI next)
    exfalso
    omega
end LAW
