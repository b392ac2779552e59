/-! decoding, an opcode a row: out of the bytes that stand there -/
def ch_by (c : ByteArray) (i n : Nat) : Prop := ∃ h : i < c.size, (c[i]'h).toNat = n
def ch_ck (c : ByteArray) (o : Nat) (l : List Nat) : Prop := ∀ (i b : Nat), l[i]? = some b → ch_by c (o + i) b
theorem ch_ckof {c : ByteArray} {o : Nat} {l : List Nat} (h : ((c.data.toList.drop o).take l.length).map UInt8.toNat = l) : ch_ck c o l := by
  intro i b hb
  have hi : i < l.length := (List.getElem?_eq_some_iff.mp hb).1
  rw [← h, List.getElem?_map, List.getElem?_take, if_pos hi, List.getElem?_drop] at hb
  obtain ⟨x, h1, h2⟩ := Option.map_eq_some_iff.mp hb
  rw [Array.getElem?_toList] at h1
  obtain ⟨h3, h4⟩ := Array.getElem?_eq_some_iff.mp h1
  refine ⟨h3, ?_⟩
  rw [← h2, ← h4]
  rfl
theorem ch_u1 {c : ByteArray} {p n : Nat} (h : ch_by c p n) : (ClassFile.Reader.u1 (ε := ClassFile.DecodeError)) c p = .ok (n, p + 1) := by
  obtain ⟨h1, h2⟩ := h
  show (dite (p < c.size) _ _ : ClassFile.Reader ClassFile.DecodeError Nat) c p = _
  rw [dif_pos h1]
  show Except.ok ((c[p]'h1).toNat, p + 1) = _
  rw [h2]
theorem ch_dec {c : ByteArray} {pc n : Nat} {i : Instr} (h : (ClassFile.Decoder.instr pc) c pc = .ok (i, pc + n)) : decode c pc = .ok (i, n) := by
  have e : decode c pc = Except.bind ((ClassFile.Decoder.instr pc) c pc) (fun q => .ok (q.1, q.2 - pc)) := rfl
  rw [e, h]
  show Except.ok (i, pc + n - pc) = _
  rw [Nat.add_sub_cancel_left]
theorem dz_1 {c : ByteArray} {pc : Nat} (h : ch_by c pc 1) : decode c pc = .ok (.aconst_null, 1) := by
  refine ch_dec ?_
  show Except.bind (ClassFile.Reader.u1 (ε := ClassFile.DecodeError) c pc) _ = _
  rw [ch_u1 h]
  rfl
theorem dz_2 {c : ByteArray} {pc : Nat} (h : ch_by c pc 2) : decode c pc = .ok (.iconst (-1), 1) := by
  refine ch_dec ?_
  show Except.bind (ClassFile.Reader.u1 (ε := ClassFile.DecodeError) c pc) _ = _
  rw [ch_u1 h]
  rfl
theorem dz_3 {c : ByteArray} {pc : Nat} (h : ch_by c pc 3) : decode c pc = .ok (.iconst 0, 1) := by
  refine ch_dec ?_
  show Except.bind (ClassFile.Reader.u1 (ε := ClassFile.DecodeError) c pc) _ = _
  rw [ch_u1 h]
  rfl
theorem dz_4 {c : ByteArray} {pc : Nat} (h : ch_by c pc 4) : decode c pc = .ok (.iconst 1, 1) := by
  refine ch_dec ?_
  show Except.bind (ClassFile.Reader.u1 (ε := ClassFile.DecodeError) c pc) _ = _
  rw [ch_u1 h]
  rfl
theorem dz_5 {c : ByteArray} {pc : Nat} (h : ch_by c pc 5) : decode c pc = .ok (.iconst 2, 1) := by
  refine ch_dec ?_
  show Except.bind (ClassFile.Reader.u1 (ε := ClassFile.DecodeError) c pc) _ = _
  rw [ch_u1 h]
  rfl
theorem dz_6 {c : ByteArray} {pc : Nat} (h : ch_by c pc 6) : decode c pc = .ok (.iconst 3, 1) := by
  refine ch_dec ?_
  show Except.bind (ClassFile.Reader.u1 (ε := ClassFile.DecodeError) c pc) _ = _
  rw [ch_u1 h]
  rfl
theorem dz_7 {c : ByteArray} {pc : Nat} (h : ch_by c pc 7) : decode c pc = .ok (.iconst 4, 1) := by
  refine ch_dec ?_
  show Except.bind (ClassFile.Reader.u1 (ε := ClassFile.DecodeError) c pc) _ = _
  rw [ch_u1 h]
  rfl
theorem dz_8 {c : ByteArray} {pc : Nat} (h : ch_by c pc 8) : decode c pc = .ok (.iconst 5, 1) := by
  refine ch_dec ?_
  show Except.bind (ClassFile.Reader.u1 (ε := ClassFile.DecodeError) c pc) _ = _
  rw [ch_u1 h]
  rfl
theorem dz_9 {c : ByteArray} {pc : Nat} (h : ch_by c pc 9) : decode c pc = .ok (.lconst 0, 1) := by
  refine ch_dec ?_
  show Except.bind (ClassFile.Reader.u1 (ε := ClassFile.DecodeError) c pc) _ = _
  rw [ch_u1 h]
  rfl
theorem dz_10 {c : ByteArray} {pc : Nat} (h : ch_by c pc 10) : decode c pc = .ok (.lconst 1, 1) := by
  refine ch_dec ?_
  show Except.bind (ClassFile.Reader.u1 (ε := ClassFile.DecodeError) c pc) _ = _
  rw [ch_u1 h]
  rfl
theorem dz_16 {c : ByteArray} {pc x : Nat} (h : ch_by c pc 16) (h1 : ch_by c (pc + 1) x) : decode c pc = .ok (.bipush (ClassFile.Reader.signed 8 x), 2) := by
  refine ch_dec ?_
  show Except.bind (ClassFile.Reader.u1 (ε := ClassFile.DecodeError) c pc) _ = _
  rw [ch_u1 h]
  show Except.bind (Except.bind (ClassFile.Reader.u1 (ε := ClassFile.DecodeError) c (pc + 1)) _) _ = _
  rw [ch_u1 h1]
  rfl
theorem dz_17 {c : ByteArray} {pc x y : Nat} (h : ch_by c pc 17) (h1 : ch_by c (pc + 1) x) (h2 : ch_by c (pc + 2) y) : decode c pc = .ok (.sipush (ClassFile.Reader.signed 16 (x * 256 + y)), 3) := by
  refine ch_dec ?_
  show Except.bind (ClassFile.Reader.u1 (ε := ClassFile.DecodeError) c pc) _ = _
  rw [ch_u1 h]
  show Except.bind (Except.bind (Except.bind (ClassFile.Reader.u1 (ε := ClassFile.DecodeError) c (pc + 1)) _) _) _ = _
  rw [ch_u1 h1]
  show Except.bind (Except.bind (Except.bind (ClassFile.Reader.u1 (ε := ClassFile.DecodeError) c (pc + 2)) _) _) _ = _
  rw [ch_u1 h2]
  rfl
theorem dz_18 {c : ByteArray} {pc x : Nat} (h : ch_by c pc 18) (h1 : ch_by c (pc + 1) x) : decode c pc = .ok (.ldc x, 2) := by
  refine ch_dec ?_
  show Except.bind (ClassFile.Reader.u1 (ε := ClassFile.DecodeError) c pc) _ = _
  rw [ch_u1 h]
  show Except.bind (ClassFile.Reader.u1 (ε := ClassFile.DecodeError) c (pc + 1)) _ = _
  rw [ch_u1 h1]
  rfl
theorem dz_19 {c : ByteArray} {pc x y : Nat} (h : ch_by c pc 19) (h1 : ch_by c (pc + 1) x) (h2 : ch_by c (pc + 2) y) : decode c pc = .ok (.ldc_w (x * 256 + y), 3) := by
  refine ch_dec ?_
  show Except.bind (ClassFile.Reader.u1 (ε := ClassFile.DecodeError) c pc) _ = _
  rw [ch_u1 h]
  show Except.bind (Except.bind (ClassFile.Reader.u1 (ε := ClassFile.DecodeError) c (pc + 1)) _) _ = _
  rw [ch_u1 h1]
  show Except.bind (Except.bind (ClassFile.Reader.u1 (ε := ClassFile.DecodeError) c (pc + 2)) _) _ = _
  rw [ch_u1 h2]
  rfl
theorem dz_20 {c : ByteArray} {pc x y : Nat} (h : ch_by c pc 20) (h1 : ch_by c (pc + 1) x) (h2 : ch_by c (pc + 2) y) : decode c pc = .ok (.ldc2_w (x * 256 + y), 3) := by
  refine ch_dec ?_
  show Except.bind (ClassFile.Reader.u1 (ε := ClassFile.DecodeError) c pc) _ = _
  rw [ch_u1 h]
  show Except.bind (Except.bind (ClassFile.Reader.u1 (ε := ClassFile.DecodeError) c (pc + 1)) _) _ = _
  rw [ch_u1 h1]
  show Except.bind (Except.bind (ClassFile.Reader.u1 (ε := ClassFile.DecodeError) c (pc + 2)) _) _ = _
  rw [ch_u1 h2]
  rfl
theorem dz_21 {c : ByteArray} {pc x : Nat} (h : ch_by c pc 21) (h1 : ch_by c (pc + 1) x) : decode c pc = .ok (.iload x, 2) := by
  refine ch_dec ?_
  show Except.bind (ClassFile.Reader.u1 (ε := ClassFile.DecodeError) c pc) _ = _
  rw [ch_u1 h]
  show Except.bind (ClassFile.Reader.u1 (ε := ClassFile.DecodeError) c (pc + 1)) _ = _
  rw [ch_u1 h1]
  rfl
theorem dz_22 {c : ByteArray} {pc x : Nat} (h : ch_by c pc 22) (h1 : ch_by c (pc + 1) x) : decode c pc = .ok (.lload x, 2) := by
  refine ch_dec ?_
  show Except.bind (ClassFile.Reader.u1 (ε := ClassFile.DecodeError) c pc) _ = _
  rw [ch_u1 h]
  show Except.bind (ClassFile.Reader.u1 (ε := ClassFile.DecodeError) c (pc + 1)) _ = _
  rw [ch_u1 h1]
  rfl
theorem dz_25 {c : ByteArray} {pc x : Nat} (h : ch_by c pc 25) (h1 : ch_by c (pc + 1) x) : decode c pc = .ok (.aload x, 2) := by
  refine ch_dec ?_
  show Except.bind (ClassFile.Reader.u1 (ε := ClassFile.DecodeError) c pc) _ = _
  rw [ch_u1 h]
  show Except.bind (ClassFile.Reader.u1 (ε := ClassFile.DecodeError) c (pc + 1)) _ = _
  rw [ch_u1 h1]
  rfl
theorem dz_26 {c : ByteArray} {pc : Nat} (h : ch_by c pc 26) : decode c pc = .ok (.iload_n 0, 1) := by
  refine ch_dec ?_
  show Except.bind (ClassFile.Reader.u1 (ε := ClassFile.DecodeError) c pc) _ = _
  rw [ch_u1 h]
  rfl
theorem dz_27 {c : ByteArray} {pc : Nat} (h : ch_by c pc 27) : decode c pc = .ok (.iload_n 1, 1) := by
  refine ch_dec ?_
  show Except.bind (ClassFile.Reader.u1 (ε := ClassFile.DecodeError) c pc) _ = _
  rw [ch_u1 h]
  rfl
theorem dz_28 {c : ByteArray} {pc : Nat} (h : ch_by c pc 28) : decode c pc = .ok (.iload_n 2, 1) := by
  refine ch_dec ?_
  show Except.bind (ClassFile.Reader.u1 (ε := ClassFile.DecodeError) c pc) _ = _
  rw [ch_u1 h]
  rfl
theorem dz_29 {c : ByteArray} {pc : Nat} (h : ch_by c pc 29) : decode c pc = .ok (.iload_n 3, 1) := by
  refine ch_dec ?_
  show Except.bind (ClassFile.Reader.u1 (ε := ClassFile.DecodeError) c pc) _ = _
  rw [ch_u1 h]
  rfl
theorem dz_30 {c : ByteArray} {pc : Nat} (h : ch_by c pc 30) : decode c pc = .ok (.lload_n 0, 1) := by
  refine ch_dec ?_
  show Except.bind (ClassFile.Reader.u1 (ε := ClassFile.DecodeError) c pc) _ = _
  rw [ch_u1 h]
  rfl
theorem dz_31 {c : ByteArray} {pc : Nat} (h : ch_by c pc 31) : decode c pc = .ok (.lload_n 1, 1) := by
  refine ch_dec ?_
  show Except.bind (ClassFile.Reader.u1 (ε := ClassFile.DecodeError) c pc) _ = _
  rw [ch_u1 h]
  rfl
theorem dz_32 {c : ByteArray} {pc : Nat} (h : ch_by c pc 32) : decode c pc = .ok (.lload_n 2, 1) := by
  refine ch_dec ?_
  show Except.bind (ClassFile.Reader.u1 (ε := ClassFile.DecodeError) c pc) _ = _
  rw [ch_u1 h]
  rfl
theorem dz_33 {c : ByteArray} {pc : Nat} (h : ch_by c pc 33) : decode c pc = .ok (.lload_n 3, 1) := by
  refine ch_dec ?_
  show Except.bind (ClassFile.Reader.u1 (ε := ClassFile.DecodeError) c pc) _ = _
  rw [ch_u1 h]
  rfl
theorem dz_42 {c : ByteArray} {pc : Nat} (h : ch_by c pc 42) : decode c pc = .ok (.aload_n 0, 1) := by
  refine ch_dec ?_
  show Except.bind (ClassFile.Reader.u1 (ε := ClassFile.DecodeError) c pc) _ = _
  rw [ch_u1 h]
  rfl
theorem dz_43 {c : ByteArray} {pc : Nat} (h : ch_by c pc 43) : decode c pc = .ok (.aload_n 1, 1) := by
  refine ch_dec ?_
  show Except.bind (ClassFile.Reader.u1 (ε := ClassFile.DecodeError) c pc) _ = _
  rw [ch_u1 h]
  rfl
theorem dz_44 {c : ByteArray} {pc : Nat} (h : ch_by c pc 44) : decode c pc = .ok (.aload_n 2, 1) := by
  refine ch_dec ?_
  show Except.bind (ClassFile.Reader.u1 (ε := ClassFile.DecodeError) c pc) _ = _
  rw [ch_u1 h]
  rfl
theorem dz_45 {c : ByteArray} {pc : Nat} (h : ch_by c pc 45) : decode c pc = .ok (.aload_n 3, 1) := by
  refine ch_dec ?_
  show Except.bind (ClassFile.Reader.u1 (ε := ClassFile.DecodeError) c pc) _ = _
  rw [ch_u1 h]
  rfl
theorem dz_46 {c : ByteArray} {pc : Nat} (h : ch_by c pc 46) : decode c pc = .ok (.iaload, 1) := by
  refine ch_dec ?_
  show Except.bind (ClassFile.Reader.u1 (ε := ClassFile.DecodeError) c pc) _ = _
  rw [ch_u1 h]
  rfl
theorem dz_47 {c : ByteArray} {pc : Nat} (h : ch_by c pc 47) : decode c pc = .ok (.laload, 1) := by
  refine ch_dec ?_
  show Except.bind (ClassFile.Reader.u1 (ε := ClassFile.DecodeError) c pc) _ = _
  rw [ch_u1 h]
  rfl
theorem dz_50 {c : ByteArray} {pc : Nat} (h : ch_by c pc 50) : decode c pc = .ok (.aaload, 1) := by
  refine ch_dec ?_
  show Except.bind (ClassFile.Reader.u1 (ε := ClassFile.DecodeError) c pc) _ = _
  rw [ch_u1 h]
  rfl
theorem dz_51 {c : ByteArray} {pc : Nat} (h : ch_by c pc 51) : decode c pc = .ok (.baload, 1) := by
  refine ch_dec ?_
  show Except.bind (ClassFile.Reader.u1 (ε := ClassFile.DecodeError) c pc) _ = _
  rw [ch_u1 h]
  rfl
theorem dz_54 {c : ByteArray} {pc x : Nat} (h : ch_by c pc 54) (h1 : ch_by c (pc + 1) x) : decode c pc = .ok (.istore x, 2) := by
  refine ch_dec ?_
  show Except.bind (ClassFile.Reader.u1 (ε := ClassFile.DecodeError) c pc) _ = _
  rw [ch_u1 h]
  show Except.bind (ClassFile.Reader.u1 (ε := ClassFile.DecodeError) c (pc + 1)) _ = _
  rw [ch_u1 h1]
  rfl
theorem dz_55 {c : ByteArray} {pc x : Nat} (h : ch_by c pc 55) (h1 : ch_by c (pc + 1) x) : decode c pc = .ok (.lstore x, 2) := by
  refine ch_dec ?_
  show Except.bind (ClassFile.Reader.u1 (ε := ClassFile.DecodeError) c pc) _ = _
  rw [ch_u1 h]
  show Except.bind (ClassFile.Reader.u1 (ε := ClassFile.DecodeError) c (pc + 1)) _ = _
  rw [ch_u1 h1]
  rfl
theorem dz_58 {c : ByteArray} {pc x : Nat} (h : ch_by c pc 58) (h1 : ch_by c (pc + 1) x) : decode c pc = .ok (.astore x, 2) := by
  refine ch_dec ?_
  show Except.bind (ClassFile.Reader.u1 (ε := ClassFile.DecodeError) c pc) _ = _
  rw [ch_u1 h]
  show Except.bind (ClassFile.Reader.u1 (ε := ClassFile.DecodeError) c (pc + 1)) _ = _
  rw [ch_u1 h1]
  rfl
theorem dz_60 {c : ByteArray} {pc : Nat} (h : ch_by c pc 60) : decode c pc = .ok (.istore_n 1, 1) := by
  refine ch_dec ?_
  show Except.bind (ClassFile.Reader.u1 (ε := ClassFile.DecodeError) c pc) _ = _
  rw [ch_u1 h]
  rfl
theorem dz_61 {c : ByteArray} {pc : Nat} (h : ch_by c pc 61) : decode c pc = .ok (.istore_n 2, 1) := by
  refine ch_dec ?_
  show Except.bind (ClassFile.Reader.u1 (ε := ClassFile.DecodeError) c pc) _ = _
  rw [ch_u1 h]
  rfl
theorem dz_62 {c : ByteArray} {pc : Nat} (h : ch_by c pc 62) : decode c pc = .ok (.istore_n 3, 1) := by
  refine ch_dec ?_
  show Except.bind (ClassFile.Reader.u1 (ε := ClassFile.DecodeError) c pc) _ = _
  rw [ch_u1 h]
  rfl
theorem dz_64 {c : ByteArray} {pc : Nat} (h : ch_by c pc 64) : decode c pc = .ok (.lstore_n 1, 1) := by
  refine ch_dec ?_
  show Except.bind (ClassFile.Reader.u1 (ε := ClassFile.DecodeError) c pc) _ = _
  rw [ch_u1 h]
  rfl
theorem dz_65 {c : ByteArray} {pc : Nat} (h : ch_by c pc 65) : decode c pc = .ok (.lstore_n 2, 1) := by
  refine ch_dec ?_
  show Except.bind (ClassFile.Reader.u1 (ε := ClassFile.DecodeError) c pc) _ = _
  rw [ch_u1 h]
  rfl
theorem dz_66 {c : ByteArray} {pc : Nat} (h : ch_by c pc 66) : decode c pc = .ok (.lstore_n 3, 1) := by
  refine ch_dec ?_
  show Except.bind (ClassFile.Reader.u1 (ε := ClassFile.DecodeError) c pc) _ = _
  rw [ch_u1 h]
  rfl
theorem dz_76 {c : ByteArray} {pc : Nat} (h : ch_by c pc 76) : decode c pc = .ok (.astore_n 1, 1) := by
  refine ch_dec ?_
  show Except.bind (ClassFile.Reader.u1 (ε := ClassFile.DecodeError) c pc) _ = _
  rw [ch_u1 h]
  rfl
theorem dz_77 {c : ByteArray} {pc : Nat} (h : ch_by c pc 77) : decode c pc = .ok (.astore_n 2, 1) := by
  refine ch_dec ?_
  show Except.bind (ClassFile.Reader.u1 (ε := ClassFile.DecodeError) c pc) _ = _
  rw [ch_u1 h]
  rfl
theorem dz_78 {c : ByteArray} {pc : Nat} (h : ch_by c pc 78) : decode c pc = .ok (.astore_n 3, 1) := by
  refine ch_dec ?_
  show Except.bind (ClassFile.Reader.u1 (ε := ClassFile.DecodeError) c pc) _ = _
  rw [ch_u1 h]
  rfl
theorem dz_79 {c : ByteArray} {pc : Nat} (h : ch_by c pc 79) : decode c pc = .ok (.iastore, 1) := by
  refine ch_dec ?_
  show Except.bind (ClassFile.Reader.u1 (ε := ClassFile.DecodeError) c pc) _ = _
  rw [ch_u1 h]
  rfl
theorem dz_80 {c : ByteArray} {pc : Nat} (h : ch_by c pc 80) : decode c pc = .ok (.lastore, 1) := by
  refine ch_dec ?_
  show Except.bind (ClassFile.Reader.u1 (ε := ClassFile.DecodeError) c pc) _ = _
  rw [ch_u1 h]
  rfl
theorem dz_83 {c : ByteArray} {pc : Nat} (h : ch_by c pc 83) : decode c pc = .ok (.aastore, 1) := by
  refine ch_dec ?_
  show Except.bind (ClassFile.Reader.u1 (ε := ClassFile.DecodeError) c pc) _ = _
  rw [ch_u1 h]
  rfl
theorem dz_84 {c : ByteArray} {pc : Nat} (h : ch_by c pc 84) : decode c pc = .ok (.bastore, 1) := by
  refine ch_dec ?_
  show Except.bind (ClassFile.Reader.u1 (ε := ClassFile.DecodeError) c pc) _ = _
  rw [ch_u1 h]
  rfl
theorem dz_87 {c : ByteArray} {pc : Nat} (h : ch_by c pc 87) : decode c pc = .ok (.pop, 1) := by
  refine ch_dec ?_
  show Except.bind (ClassFile.Reader.u1 (ε := ClassFile.DecodeError) c pc) _ = _
  rw [ch_u1 h]
  rfl
theorem dz_89 {c : ByteArray} {pc : Nat} (h : ch_by c pc 89) : decode c pc = .ok (.dup, 1) := by
  refine ch_dec ?_
  show Except.bind (ClassFile.Reader.u1 (ε := ClassFile.DecodeError) c pc) _ = _
  rw [ch_u1 h]
  rfl
theorem dz_90 {c : ByteArray} {pc : Nat} (h : ch_by c pc 90) : decode c pc = .ok (.dup_x1, 1) := by
  refine ch_dec ?_
  show Except.bind (ClassFile.Reader.u1 (ε := ClassFile.DecodeError) c pc) _ = _
  rw [ch_u1 h]
  rfl
theorem dz_92 {c : ByteArray} {pc : Nat} (h : ch_by c pc 92) : decode c pc = .ok (.dup2, 1) := by
  refine ch_dec ?_
  show Except.bind (ClassFile.Reader.u1 (ε := ClassFile.DecodeError) c pc) _ = _
  rw [ch_u1 h]
  rfl
theorem dz_96 {c : ByteArray} {pc : Nat} (h : ch_by c pc 96) : decode c pc = .ok (.iadd, 1) := by
  refine ch_dec ?_
  show Except.bind (ClassFile.Reader.u1 (ε := ClassFile.DecodeError) c pc) _ = _
  rw [ch_u1 h]
  rfl
theorem dz_100 {c : ByteArray} {pc : Nat} (h : ch_by c pc 100) : decode c pc = .ok (.isub, 1) := by
  refine ch_dec ?_
  show Except.bind (ClassFile.Reader.u1 (ε := ClassFile.DecodeError) c pc) _ = _
  rw [ch_u1 h]
  rfl
theorem dz_104 {c : ByteArray} {pc : Nat} (h : ch_by c pc 104) : decode c pc = .ok (.imul, 1) := by
  refine ch_dec ?_
  show Except.bind (ClassFile.Reader.u1 (ε := ClassFile.DecodeError) c pc) _ = _
  rw [ch_u1 h]
  rfl
theorem dz_108 {c : ByteArray} {pc : Nat} (h : ch_by c pc 108) : decode c pc = .ok (.idiv, 1) := by
  refine ch_dec ?_
  show Except.bind (ClassFile.Reader.u1 (ε := ClassFile.DecodeError) c pc) _ = _
  rw [ch_u1 h]
  rfl
theorem dz_112 {c : ByteArray} {pc : Nat} (h : ch_by c pc 112) : decode c pc = .ok (.irem, 1) := by
  refine ch_dec ?_
  show Except.bind (ClassFile.Reader.u1 (ε := ClassFile.DecodeError) c pc) _ = _
  rw [ch_u1 h]
  rfl
theorem dz_116 {c : ByteArray} {pc : Nat} (h : ch_by c pc 116) : decode c pc = .ok (.ineg, 1) := by
  refine ch_dec ?_
  show Except.bind (ClassFile.Reader.u1 (ε := ClassFile.DecodeError) c pc) _ = _
  rw [ch_u1 h]
  rfl
theorem dz_120 {c : ByteArray} {pc : Nat} (h : ch_by c pc 120) : decode c pc = .ok (.ishl, 1) := by
  refine ch_dec ?_
  show Except.bind (ClassFile.Reader.u1 (ε := ClassFile.DecodeError) c pc) _ = _
  rw [ch_u1 h]
  rfl
theorem dz_121 {c : ByteArray} {pc : Nat} (h : ch_by c pc 121) : decode c pc = .ok (.lshl, 1) := by
  refine ch_dec ?_
  show Except.bind (ClassFile.Reader.u1 (ε := ClassFile.DecodeError) c pc) _ = _
  rw [ch_u1 h]
  rfl
theorem dz_122 {c : ByteArray} {pc : Nat} (h : ch_by c pc 122) : decode c pc = .ok (.ishr, 1) := by
  refine ch_dec ?_
  show Except.bind (ClassFile.Reader.u1 (ε := ClassFile.DecodeError) c pc) _ = _
  rw [ch_u1 h]
  rfl
theorem dz_123 {c : ByteArray} {pc : Nat} (h : ch_by c pc 123) : decode c pc = .ok (.lshr, 1) := by
  refine ch_dec ?_
  show Except.bind (ClassFile.Reader.u1 (ε := ClassFile.DecodeError) c pc) _ = _
  rw [ch_u1 h]
  rfl
theorem dz_126 {c : ByteArray} {pc : Nat} (h : ch_by c pc 126) : decode c pc = .ok (.iand, 1) := by
  refine ch_dec ?_
  show Except.bind (ClassFile.Reader.u1 (ε := ClassFile.DecodeError) c pc) _ = _
  rw [ch_u1 h]
  rfl
theorem dz_127 {c : ByteArray} {pc : Nat} (h : ch_by c pc 127) : decode c pc = .ok (.land, 1) := by
  refine ch_dec ?_
  show Except.bind (ClassFile.Reader.u1 (ε := ClassFile.DecodeError) c pc) _ = _
  rw [ch_u1 h]
  rfl
theorem dz_128 {c : ByteArray} {pc : Nat} (h : ch_by c pc 128) : decode c pc = .ok (.ior, 1) := by
  refine ch_dec ?_
  show Except.bind (ClassFile.Reader.u1 (ε := ClassFile.DecodeError) c pc) _ = _
  rw [ch_u1 h]
  rfl
theorem dz_129 {c : ByteArray} {pc : Nat} (h : ch_by c pc 129) : decode c pc = .ok (.lor, 1) := by
  refine ch_dec ?_
  show Except.bind (ClassFile.Reader.u1 (ε := ClassFile.DecodeError) c pc) _ = _
  rw [ch_u1 h]
  rfl
theorem dz_132 {c : ByteArray} {pc x y : Nat} (h : ch_by c pc 132) (h1 : ch_by c (pc + 1) x) (h2 : ch_by c (pc + 2) y) : decode c pc = .ok (.iinc x (ClassFile.Reader.signed 8 y), 3) := by
  refine ch_dec ?_
  show Except.bind (ClassFile.Reader.u1 (ε := ClassFile.DecodeError) c pc) _ = _
  rw [ch_u1 h]
  show Except.bind (ClassFile.Reader.u1 (ε := ClassFile.DecodeError) c (pc + 1)) _ = _
  rw [ch_u1 h1]
  show Except.bind (Except.bind (ClassFile.Reader.u1 (ε := ClassFile.DecodeError) c (pc + 2)) _) _ = _
  rw [ch_u1 h2]
  rfl
theorem dz_133 {c : ByteArray} {pc : Nat} (h : ch_by c pc 133) : decode c pc = .ok (.i2l, 1) := by
  refine ch_dec ?_
  show Except.bind (ClassFile.Reader.u1 (ε := ClassFile.DecodeError) c pc) _ = _
  rw [ch_u1 h]
  rfl
theorem dz_136 {c : ByteArray} {pc : Nat} (h : ch_by c pc 136) : decode c pc = .ok (.l2i, 1) := by
  refine ch_dec ?_
  show Except.bind (ClassFile.Reader.u1 (ε := ClassFile.DecodeError) c pc) _ = _
  rw [ch_u1 h]
  rfl
theorem dz_145 {c : ByteArray} {pc : Nat} (h : ch_by c pc 145) : decode c pc = .ok (.i2b, 1) := by
  refine ch_dec ?_
  show Except.bind (ClassFile.Reader.u1 (ε := ClassFile.DecodeError) c pc) _ = _
  rw [ch_u1 h]
  rfl
theorem dz_146 {c : ByteArray} {pc : Nat} (h : ch_by c pc 146) : decode c pc = .ok (.i2c, 1) := by
  refine ch_dec ?_
  show Except.bind (ClassFile.Reader.u1 (ε := ClassFile.DecodeError) c pc) _ = _
  rw [ch_u1 h]
  rfl
theorem dz_148 {c : ByteArray} {pc : Nat} (h : ch_by c pc 148) : decode c pc = .ok (.lcmp, 1) := by
  refine ch_dec ?_
  show Except.bind (ClassFile.Reader.u1 (ε := ClassFile.DecodeError) c pc) _ = _
  rw [ch_u1 h]
  rfl
theorem dz_153 {c : ByteArray} {pc x y : Nat} (h : ch_by c pc 153) (h1 : ch_by c (pc + 1) x) (h2 : ch_by c (pc + 2) y) : decode c pc = .ok (.ifCond .eq (ClassFile.Reader.signed 16 (x * 256 + y)), 3) := by
  refine ch_dec ?_
  show Except.bind (ClassFile.Reader.u1 (ε := ClassFile.DecodeError) c pc) _ = _
  rw [ch_u1 h]
  show Except.bind (Except.bind (Except.bind (ClassFile.Reader.u1 (ε := ClassFile.DecodeError) c (pc + 1)) _) _) _ = _
  rw [ch_u1 h1]
  show Except.bind (Except.bind (Except.bind (ClassFile.Reader.u1 (ε := ClassFile.DecodeError) c (pc + 2)) _) _) _ = _
  rw [ch_u1 h2]
  rfl
theorem dz_154 {c : ByteArray} {pc x y : Nat} (h : ch_by c pc 154) (h1 : ch_by c (pc + 1) x) (h2 : ch_by c (pc + 2) y) : decode c pc = .ok (.ifCond .ne (ClassFile.Reader.signed 16 (x * 256 + y)), 3) := by
  refine ch_dec ?_
  show Except.bind (ClassFile.Reader.u1 (ε := ClassFile.DecodeError) c pc) _ = _
  rw [ch_u1 h]
  show Except.bind (Except.bind (Except.bind (ClassFile.Reader.u1 (ε := ClassFile.DecodeError) c (pc + 1)) _) _) _ = _
  rw [ch_u1 h1]
  show Except.bind (Except.bind (Except.bind (ClassFile.Reader.u1 (ε := ClassFile.DecodeError) c (pc + 2)) _) _) _ = _
  rw [ch_u1 h2]
  rfl
theorem dz_155 {c : ByteArray} {pc x y : Nat} (h : ch_by c pc 155) (h1 : ch_by c (pc + 1) x) (h2 : ch_by c (pc + 2) y) : decode c pc = .ok (.ifCond .lt (ClassFile.Reader.signed 16 (x * 256 + y)), 3) := by
  refine ch_dec ?_
  show Except.bind (ClassFile.Reader.u1 (ε := ClassFile.DecodeError) c pc) _ = _
  rw [ch_u1 h]
  show Except.bind (Except.bind (Except.bind (ClassFile.Reader.u1 (ε := ClassFile.DecodeError) c (pc + 1)) _) _) _ = _
  rw [ch_u1 h1]
  show Except.bind (Except.bind (Except.bind (ClassFile.Reader.u1 (ε := ClassFile.DecodeError) c (pc + 2)) _) _) _ = _
  rw [ch_u1 h2]
  rfl
theorem dz_156 {c : ByteArray} {pc x y : Nat} (h : ch_by c pc 156) (h1 : ch_by c (pc + 1) x) (h2 : ch_by c (pc + 2) y) : decode c pc = .ok (.ifCond .ge (ClassFile.Reader.signed 16 (x * 256 + y)), 3) := by
  refine ch_dec ?_
  show Except.bind (ClassFile.Reader.u1 (ε := ClassFile.DecodeError) c pc) _ = _
  rw [ch_u1 h]
  show Except.bind (Except.bind (Except.bind (ClassFile.Reader.u1 (ε := ClassFile.DecodeError) c (pc + 1)) _) _) _ = _
  rw [ch_u1 h1]
  show Except.bind (Except.bind (Except.bind (ClassFile.Reader.u1 (ε := ClassFile.DecodeError) c (pc + 2)) _) _) _ = _
  rw [ch_u1 h2]
  rfl
theorem dz_157 {c : ByteArray} {pc x y : Nat} (h : ch_by c pc 157) (h1 : ch_by c (pc + 1) x) (h2 : ch_by c (pc + 2) y) : decode c pc = .ok (.ifCond .gt (ClassFile.Reader.signed 16 (x * 256 + y)), 3) := by
  refine ch_dec ?_
  show Except.bind (ClassFile.Reader.u1 (ε := ClassFile.DecodeError) c pc) _ = _
  rw [ch_u1 h]
  show Except.bind (Except.bind (Except.bind (ClassFile.Reader.u1 (ε := ClassFile.DecodeError) c (pc + 1)) _) _) _ = _
  rw [ch_u1 h1]
  show Except.bind (Except.bind (Except.bind (ClassFile.Reader.u1 (ε := ClassFile.DecodeError) c (pc + 2)) _) _) _ = _
  rw [ch_u1 h2]
  rfl
theorem dz_158 {c : ByteArray} {pc x y : Nat} (h : ch_by c pc 158) (h1 : ch_by c (pc + 1) x) (h2 : ch_by c (pc + 2) y) : decode c pc = .ok (.ifCond .le (ClassFile.Reader.signed 16 (x * 256 + y)), 3) := by
  refine ch_dec ?_
  show Except.bind (ClassFile.Reader.u1 (ε := ClassFile.DecodeError) c pc) _ = _
  rw [ch_u1 h]
  show Except.bind (Except.bind (Except.bind (ClassFile.Reader.u1 (ε := ClassFile.DecodeError) c (pc + 1)) _) _) _ = _
  rw [ch_u1 h1]
  show Except.bind (Except.bind (Except.bind (ClassFile.Reader.u1 (ε := ClassFile.DecodeError) c (pc + 2)) _) _) _ = _
  rw [ch_u1 h2]
  rfl
theorem dz_159 {c : ByteArray} {pc x y : Nat} (h : ch_by c pc 159) (h1 : ch_by c (pc + 1) x) (h2 : ch_by c (pc + 2) y) : decode c pc = .ok (.if_icmp .eq (ClassFile.Reader.signed 16 (x * 256 + y)), 3) := by
  refine ch_dec ?_
  show Except.bind (ClassFile.Reader.u1 (ε := ClassFile.DecodeError) c pc) _ = _
  rw [ch_u1 h]
  show Except.bind (Except.bind (Except.bind (ClassFile.Reader.u1 (ε := ClassFile.DecodeError) c (pc + 1)) _) _) _ = _
  rw [ch_u1 h1]
  show Except.bind (Except.bind (Except.bind (ClassFile.Reader.u1 (ε := ClassFile.DecodeError) c (pc + 2)) _) _) _ = _
  rw [ch_u1 h2]
  rfl
theorem dz_160 {c : ByteArray} {pc x y : Nat} (h : ch_by c pc 160) (h1 : ch_by c (pc + 1) x) (h2 : ch_by c (pc + 2) y) : decode c pc = .ok (.if_icmp .ne (ClassFile.Reader.signed 16 (x * 256 + y)), 3) := by
  refine ch_dec ?_
  show Except.bind (ClassFile.Reader.u1 (ε := ClassFile.DecodeError) c pc) _ = _
  rw [ch_u1 h]
  show Except.bind (Except.bind (Except.bind (ClassFile.Reader.u1 (ε := ClassFile.DecodeError) c (pc + 1)) _) _) _ = _
  rw [ch_u1 h1]
  show Except.bind (Except.bind (Except.bind (ClassFile.Reader.u1 (ε := ClassFile.DecodeError) c (pc + 2)) _) _) _ = _
  rw [ch_u1 h2]
  rfl
theorem dz_161 {c : ByteArray} {pc x y : Nat} (h : ch_by c pc 161) (h1 : ch_by c (pc + 1) x) (h2 : ch_by c (pc + 2) y) : decode c pc = .ok (.if_icmp .lt (ClassFile.Reader.signed 16 (x * 256 + y)), 3) := by
  refine ch_dec ?_
  show Except.bind (ClassFile.Reader.u1 (ε := ClassFile.DecodeError) c pc) _ = _
  rw [ch_u1 h]
  show Except.bind (Except.bind (Except.bind (ClassFile.Reader.u1 (ε := ClassFile.DecodeError) c (pc + 1)) _) _) _ = _
  rw [ch_u1 h1]
  show Except.bind (Except.bind (Except.bind (ClassFile.Reader.u1 (ε := ClassFile.DecodeError) c (pc + 2)) _) _) _ = _
  rw [ch_u1 h2]
  rfl
theorem dz_162 {c : ByteArray} {pc x y : Nat} (h : ch_by c pc 162) (h1 : ch_by c (pc + 1) x) (h2 : ch_by c (pc + 2) y) : decode c pc = .ok (.if_icmp .ge (ClassFile.Reader.signed 16 (x * 256 + y)), 3) := by
  refine ch_dec ?_
  show Except.bind (ClassFile.Reader.u1 (ε := ClassFile.DecodeError) c pc) _ = _
  rw [ch_u1 h]
  show Except.bind (Except.bind (Except.bind (ClassFile.Reader.u1 (ε := ClassFile.DecodeError) c (pc + 1)) _) _) _ = _
  rw [ch_u1 h1]
  show Except.bind (Except.bind (Except.bind (ClassFile.Reader.u1 (ε := ClassFile.DecodeError) c (pc + 2)) _) _) _ = _
  rw [ch_u1 h2]
  rfl
theorem dz_163 {c : ByteArray} {pc x y : Nat} (h : ch_by c pc 163) (h1 : ch_by c (pc + 1) x) (h2 : ch_by c (pc + 2) y) : decode c pc = .ok (.if_icmp .gt (ClassFile.Reader.signed 16 (x * 256 + y)), 3) := by
  refine ch_dec ?_
  show Except.bind (ClassFile.Reader.u1 (ε := ClassFile.DecodeError) c pc) _ = _
  rw [ch_u1 h]
  show Except.bind (Except.bind (Except.bind (ClassFile.Reader.u1 (ε := ClassFile.DecodeError) c (pc + 1)) _) _) _ = _
  rw [ch_u1 h1]
  show Except.bind (Except.bind (Except.bind (ClassFile.Reader.u1 (ε := ClassFile.DecodeError) c (pc + 2)) _) _) _ = _
  rw [ch_u1 h2]
  rfl
theorem dz_164 {c : ByteArray} {pc x y : Nat} (h : ch_by c pc 164) (h1 : ch_by c (pc + 1) x) (h2 : ch_by c (pc + 2) y) : decode c pc = .ok (.if_icmp .le (ClassFile.Reader.signed 16 (x * 256 + y)), 3) := by
  refine ch_dec ?_
  show Except.bind (ClassFile.Reader.u1 (ε := ClassFile.DecodeError) c pc) _ = _
  rw [ch_u1 h]
  show Except.bind (Except.bind (Except.bind (ClassFile.Reader.u1 (ε := ClassFile.DecodeError) c (pc + 1)) _) _) _ = _
  rw [ch_u1 h1]
  show Except.bind (Except.bind (Except.bind (ClassFile.Reader.u1 (ε := ClassFile.DecodeError) c (pc + 2)) _) _) _ = _
  rw [ch_u1 h2]
  rfl
theorem dz_165 {c : ByteArray} {pc x y : Nat} (h : ch_by c pc 165) (h1 : ch_by c (pc + 1) x) (h2 : ch_by c (pc + 2) y) : decode c pc = .ok (.if_acmp .eq (ClassFile.Reader.signed 16 (x * 256 + y)), 3) := by
  refine ch_dec ?_
  show Except.bind (ClassFile.Reader.u1 (ε := ClassFile.DecodeError) c pc) _ = _
  rw [ch_u1 h]
  show Except.bind (Except.bind (Except.bind (ClassFile.Reader.u1 (ε := ClassFile.DecodeError) c (pc + 1)) _) _) _ = _
  rw [ch_u1 h1]
  show Except.bind (Except.bind (Except.bind (ClassFile.Reader.u1 (ε := ClassFile.DecodeError) c (pc + 2)) _) _) _ = _
  rw [ch_u1 h2]
  rfl
theorem dz_166 {c : ByteArray} {pc x y : Nat} (h : ch_by c pc 166) (h1 : ch_by c (pc + 1) x) (h2 : ch_by c (pc + 2) y) : decode c pc = .ok (.if_acmp .ne (ClassFile.Reader.signed 16 (x * 256 + y)), 3) := by
  refine ch_dec ?_
  show Except.bind (ClassFile.Reader.u1 (ε := ClassFile.DecodeError) c pc) _ = _
  rw [ch_u1 h]
  show Except.bind (Except.bind (Except.bind (ClassFile.Reader.u1 (ε := ClassFile.DecodeError) c (pc + 1)) _) _) _ = _
  rw [ch_u1 h1]
  show Except.bind (Except.bind (Except.bind (ClassFile.Reader.u1 (ε := ClassFile.DecodeError) c (pc + 2)) _) _) _ = _
  rw [ch_u1 h2]
  rfl
theorem dz_167 {c : ByteArray} {pc x y : Nat} (h : ch_by c pc 167) (h1 : ch_by c (pc + 1) x) (h2 : ch_by c (pc + 2) y) : decode c pc = .ok (.goto (ClassFile.Reader.signed 16 (x * 256 + y)), 3) := by
  refine ch_dec ?_
  show Except.bind (ClassFile.Reader.u1 (ε := ClassFile.DecodeError) c pc) _ = _
  rw [ch_u1 h]
  show Except.bind (Except.bind (Except.bind (ClassFile.Reader.u1 (ε := ClassFile.DecodeError) c (pc + 1)) _) _) _ = _
  rw [ch_u1 h1]
  show Except.bind (Except.bind (Except.bind (ClassFile.Reader.u1 (ε := ClassFile.DecodeError) c (pc + 2)) _) _) _ = _
  rw [ch_u1 h2]
  rfl
theorem dz_172 {c : ByteArray} {pc : Nat} (h : ch_by c pc 172) : decode c pc = .ok (.ireturn, 1) := by
  refine ch_dec ?_
  show Except.bind (ClassFile.Reader.u1 (ε := ClassFile.DecodeError) c pc) _ = _
  rw [ch_u1 h]
  rfl
theorem dz_173 {c : ByteArray} {pc : Nat} (h : ch_by c pc 173) : decode c pc = .ok (.lreturn, 1) := by
  refine ch_dec ?_
  show Except.bind (ClassFile.Reader.u1 (ε := ClassFile.DecodeError) c pc) _ = _
  rw [ch_u1 h]
  rfl
theorem dz_176 {c : ByteArray} {pc : Nat} (h : ch_by c pc 176) : decode c pc = .ok (.areturn, 1) := by
  refine ch_dec ?_
  show Except.bind (ClassFile.Reader.u1 (ε := ClassFile.DecodeError) c pc) _ = _
  rw [ch_u1 h]
  rfl
theorem dz_177 {c : ByteArray} {pc : Nat} (h : ch_by c pc 177) : decode c pc = .ok (.return_, 1) := by
  refine ch_dec ?_
  show Except.bind (ClassFile.Reader.u1 (ε := ClassFile.DecodeError) c pc) _ = _
  rw [ch_u1 h]
  rfl
theorem dz_178 {c : ByteArray} {pc x y : Nat} (h : ch_by c pc 178) (h1 : ch_by c (pc + 1) x) (h2 : ch_by c (pc + 2) y) : decode c pc = .ok (.getstatic (x * 256 + y), 3) := by
  refine ch_dec ?_
  show Except.bind (ClassFile.Reader.u1 (ε := ClassFile.DecodeError) c pc) _ = _
  rw [ch_u1 h]
  show Except.bind (Except.bind (ClassFile.Reader.u1 (ε := ClassFile.DecodeError) c (pc + 1)) _) _ = _
  rw [ch_u1 h1]
  show Except.bind (Except.bind (ClassFile.Reader.u1 (ε := ClassFile.DecodeError) c (pc + 2)) _) _ = _
  rw [ch_u1 h2]
  rfl
theorem dz_180 {c : ByteArray} {pc x y : Nat} (h : ch_by c pc 180) (h1 : ch_by c (pc + 1) x) (h2 : ch_by c (pc + 2) y) : decode c pc = .ok (.getfield (x * 256 + y), 3) := by
  refine ch_dec ?_
  show Except.bind (ClassFile.Reader.u1 (ε := ClassFile.DecodeError) c pc) _ = _
  rw [ch_u1 h]
  show Except.bind (Except.bind (ClassFile.Reader.u1 (ε := ClassFile.DecodeError) c (pc + 1)) _) _ = _
  rw [ch_u1 h1]
  show Except.bind (Except.bind (ClassFile.Reader.u1 (ε := ClassFile.DecodeError) c (pc + 2)) _) _ = _
  rw [ch_u1 h2]
  rfl
theorem dz_181 {c : ByteArray} {pc x y : Nat} (h : ch_by c pc 181) (h1 : ch_by c (pc + 1) x) (h2 : ch_by c (pc + 2) y) : decode c pc = .ok (.putfield (x * 256 + y), 3) := by
  refine ch_dec ?_
  show Except.bind (ClassFile.Reader.u1 (ε := ClassFile.DecodeError) c pc) _ = _
  rw [ch_u1 h]
  show Except.bind (Except.bind (ClassFile.Reader.u1 (ε := ClassFile.DecodeError) c (pc + 1)) _) _ = _
  rw [ch_u1 h1]
  show Except.bind (Except.bind (ClassFile.Reader.u1 (ε := ClassFile.DecodeError) c (pc + 2)) _) _ = _
  rw [ch_u1 h2]
  rfl
theorem dz_182 {c : ByteArray} {pc x y : Nat} (h : ch_by c pc 182) (h1 : ch_by c (pc + 1) x) (h2 : ch_by c (pc + 2) y) : decode c pc = .ok (.invokevirtual (x * 256 + y), 3) := by
  refine ch_dec ?_
  show Except.bind (ClassFile.Reader.u1 (ε := ClassFile.DecodeError) c pc) _ = _
  rw [ch_u1 h]
  show Except.bind (Except.bind (ClassFile.Reader.u1 (ε := ClassFile.DecodeError) c (pc + 1)) _) _ = _
  rw [ch_u1 h1]
  show Except.bind (Except.bind (ClassFile.Reader.u1 (ε := ClassFile.DecodeError) c (pc + 2)) _) _ = _
  rw [ch_u1 h2]
  rfl
theorem dz_183 {c : ByteArray} {pc x y : Nat} (h : ch_by c pc 183) (h1 : ch_by c (pc + 1) x) (h2 : ch_by c (pc + 2) y) : decode c pc = .ok (.invokespecial (x * 256 + y), 3) := by
  refine ch_dec ?_
  show Except.bind (ClassFile.Reader.u1 (ε := ClassFile.DecodeError) c pc) _ = _
  rw [ch_u1 h]
  show Except.bind (Except.bind (ClassFile.Reader.u1 (ε := ClassFile.DecodeError) c (pc + 1)) _) _ = _
  rw [ch_u1 h1]
  show Except.bind (Except.bind (ClassFile.Reader.u1 (ε := ClassFile.DecodeError) c (pc + 2)) _) _ = _
  rw [ch_u1 h2]
  rfl
theorem dz_184 {c : ByteArray} {pc x y : Nat} (h : ch_by c pc 184) (h1 : ch_by c (pc + 1) x) (h2 : ch_by c (pc + 2) y) : decode c pc = .ok (.invokestatic (x * 256 + y), 3) := by
  refine ch_dec ?_
  show Except.bind (ClassFile.Reader.u1 (ε := ClassFile.DecodeError) c pc) _ = _
  rw [ch_u1 h]
  show Except.bind (Except.bind (ClassFile.Reader.u1 (ε := ClassFile.DecodeError) c (pc + 1)) _) _ = _
  rw [ch_u1 h1]
  show Except.bind (Except.bind (ClassFile.Reader.u1 (ε := ClassFile.DecodeError) c (pc + 2)) _) _ = _
  rw [ch_u1 h2]
  rfl
theorem dz_187 {c : ByteArray} {pc x y : Nat} (h : ch_by c pc 187) (h1 : ch_by c (pc + 1) x) (h2 : ch_by c (pc + 2) y) : decode c pc = .ok (.new (x * 256 + y), 3) := by
  refine ch_dec ?_
  show Except.bind (ClassFile.Reader.u1 (ε := ClassFile.DecodeError) c pc) _ = _
  rw [ch_u1 h]
  show Except.bind (Except.bind (ClassFile.Reader.u1 (ε := ClassFile.DecodeError) c (pc + 1)) _) _ = _
  rw [ch_u1 h1]
  show Except.bind (Except.bind (ClassFile.Reader.u1 (ε := ClassFile.DecodeError) c (pc + 2)) _) _ = _
  rw [ch_u1 h2]
  rfl
theorem dz_188_4 {c : ByteArray} {pc : Nat} (h : ch_by c pc 188) (h1 : ch_by c (pc + 1) 4) : decode c pc = .ok (.newarray .boolean, 2) := by
  refine ch_dec ?_
  show Except.bind (ClassFile.Reader.u1 (ε := ClassFile.DecodeError) c pc) _ = _
  rw [ch_u1 h]
  show Except.bind (ClassFile.Reader.u1 (ε := ClassFile.DecodeError) c (pc + 1)) _ = _
  rw [ch_u1 h1]
  rfl
theorem dz_188_8 {c : ByteArray} {pc : Nat} (h : ch_by c pc 188) (h1 : ch_by c (pc + 1) 8) : decode c pc = .ok (.newarray .byte, 2) := by
  refine ch_dec ?_
  show Except.bind (ClassFile.Reader.u1 (ε := ClassFile.DecodeError) c pc) _ = _
  rw [ch_u1 h]
  show Except.bind (ClassFile.Reader.u1 (ε := ClassFile.DecodeError) c (pc + 1)) _ = _
  rw [ch_u1 h1]
  rfl
theorem dz_188_10 {c : ByteArray} {pc : Nat} (h : ch_by c pc 188) (h1 : ch_by c (pc + 1) 10) : decode c pc = .ok (.newarray .int, 2) := by
  refine ch_dec ?_
  show Except.bind (ClassFile.Reader.u1 (ε := ClassFile.DecodeError) c pc) _ = _
  rw [ch_u1 h]
  show Except.bind (ClassFile.Reader.u1 (ε := ClassFile.DecodeError) c (pc + 1)) _ = _
  rw [ch_u1 h1]
  rfl
theorem dz_188_11 {c : ByteArray} {pc : Nat} (h : ch_by c pc 188) (h1 : ch_by c (pc + 1) 11) : decode c pc = .ok (.newarray .long, 2) := by
  refine ch_dec ?_
  show Except.bind (ClassFile.Reader.u1 (ε := ClassFile.DecodeError) c pc) _ = _
  rw [ch_u1 h]
  show Except.bind (ClassFile.Reader.u1 (ε := ClassFile.DecodeError) c (pc + 1)) _ = _
  rw [ch_u1 h1]
  rfl
theorem dz_189 {c : ByteArray} {pc x y : Nat} (h : ch_by c pc 189) (h1 : ch_by c (pc + 1) x) (h2 : ch_by c (pc + 2) y) : decode c pc = .ok (.anewarray (x * 256 + y), 3) := by
  refine ch_dec ?_
  show Except.bind (ClassFile.Reader.u1 (ε := ClassFile.DecodeError) c pc) _ = _
  rw [ch_u1 h]
  show Except.bind (Except.bind (ClassFile.Reader.u1 (ε := ClassFile.DecodeError) c (pc + 1)) _) _ = _
  rw [ch_u1 h1]
  show Except.bind (Except.bind (ClassFile.Reader.u1 (ε := ClassFile.DecodeError) c (pc + 2)) _) _ = _
  rw [ch_u1 h2]
  rfl
theorem dz_190 {c : ByteArray} {pc : Nat} (h : ch_by c pc 190) : decode c pc = .ok (.arraylength, 1) := by
  refine ch_dec ?_
  show Except.bind (ClassFile.Reader.u1 (ε := ClassFile.DecodeError) c pc) _ = _
  rw [ch_u1 h]
  rfl
theorem dz_191 {c : ByteArray} {pc : Nat} (h : ch_by c pc 191) : decode c pc = .ok (.athrow, 1) := by
  refine ch_dec ?_
  show Except.bind (ClassFile.Reader.u1 (ε := ClassFile.DecodeError) c pc) _ = _
  rw [ch_u1 h]
  rfl
theorem dz_192 {c : ByteArray} {pc x y : Nat} (h : ch_by c pc 192) (h1 : ch_by c (pc + 1) x) (h2 : ch_by c (pc + 2) y) : decode c pc = .ok (.checkcast (x * 256 + y), 3) := by
  refine ch_dec ?_
  show Except.bind (ClassFile.Reader.u1 (ε := ClassFile.DecodeError) c pc) _ = _
  rw [ch_u1 h]
  show Except.bind (Except.bind (ClassFile.Reader.u1 (ε := ClassFile.DecodeError) c (pc + 1)) _) _ = _
  rw [ch_u1 h1]
  show Except.bind (Except.bind (ClassFile.Reader.u1 (ε := ClassFile.DecodeError) c (pc + 2)) _) _ = _
  rw [ch_u1 h2]
  rfl
theorem dz_198 {c : ByteArray} {pc x y : Nat} (h : ch_by c pc 198) (h1 : ch_by c (pc + 1) x) (h2 : ch_by c (pc + 2) y) : decode c pc = .ok (.ifnull (ClassFile.Reader.signed 16 (x * 256 + y)), 3) := by
  refine ch_dec ?_
  show Except.bind (ClassFile.Reader.u1 (ε := ClassFile.DecodeError) c pc) _ = _
  rw [ch_u1 h]
  show Except.bind (Except.bind (Except.bind (ClassFile.Reader.u1 (ε := ClassFile.DecodeError) c (pc + 1)) _) _) _ = _
  rw [ch_u1 h1]
  show Except.bind (Except.bind (Except.bind (ClassFile.Reader.u1 (ε := ClassFile.DecodeError) c (pc + 2)) _) _) _ = _
  rw [ch_u1 h2]
  rfl
theorem dz_199 {c : ByteArray} {pc x y : Nat} (h : ch_by c pc 199) (h1 : ch_by c (pc + 1) x) (h2 : ch_by c (pc + 2) y) : decode c pc = .ok (.ifnonnull (ClassFile.Reader.signed 16 (x * 256 + y)), 3) := by
  refine ch_dec ?_
  show Except.bind (ClassFile.Reader.u1 (ε := ClassFile.DecodeError) c pc) _ = _
  rw [ch_u1 h]
  show Except.bind (Except.bind (Except.bind (ClassFile.Reader.u1 (ε := ClassFile.DecodeError) c (pc + 1)) _) _) _ = _
  rw [ch_u1 h1]
  show Except.bind (Except.bind (Except.bind (ClassFile.Reader.u1 (ε := ClassFile.DecodeError) c (pc + 2)) _) _) _ = _
  rw [ch_u1 h2]
  rfl
