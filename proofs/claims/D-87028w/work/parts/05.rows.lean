/-! LEVEL A: rows of plain instructions (by tools/rows.py) -/
section ROWS
variable {g : State} {kb : Bool} {M : ch_M} {d pc : Nat} {ls : List (Option Value)} {st : List Value} {w : ch_W} {Q : Outcome → ch_W → Prop}
theorem ch_iconst (n : Int) (v : Int32) (hd : decode M.2.1 pc = .ok (.iconst n, 1)) (hv : Int32.ofInt n = v) (k : ch_FT g kb M d (pc + 1) ls (.int v :: st) w Q) : ch_FT g kb M d pc ls (st) w Q := by
  intro p l e R s m args below meth c H locs cells slots w0 ls' hI hD hL
  exact lv_iconst hI.1 hI.2.1 hd hv (k hI hD hL)
theorem ch_bipush (n : Int) (v : Int32) (hd : decode M.2.1 pc = .ok (.bipush n, 2)) (hv : (Int8.ofInt n).toInt32 = v) (k : ch_FT g kb M d (pc + 2) ls (.int v :: st) w Q) : ch_FT g kb M d pc ls (st) w Q := by
  intro p l e R s m args below meth c H locs cells slots w0 ls' hI hD hL
  exact lv_bipush hI.1 hI.2.1 hd hv (k hI hD hL)
theorem ch_sipush (n : Int) (v : Int32) (hd : decode M.2.1 pc = .ok (.sipush n, 3)) (hv : (Int16.ofInt n).toInt32 = v) (k : ch_FT g kb M d (pc + 3) ls (.int v :: st) w Q) : ch_FT g kb M d pc ls (st) w Q := by
  intro p l e R s m args below meth c H locs cells slots w0 ls' hI hD hL
  exact lv_sipush hI.1 hI.2.1 hd hv (k hI hD hL)
theorem ch_lconst (n : Fin 2) (v : Int64) (hd : decode M.2.1 pc = .ok (.lconst n, 1)) (hv : Int64.ofNat (n : Nat) = v) (k : ch_FT g kb M d (pc + 1) ls (.long v :: st) w Q) : ch_FT g kb M d pc ls (st) w Q := by
  intro p l e R s m args below meth c H locs cells slots w0 ls' hI hD hL
  exact lv_lconst hI.1 hI.2.1 hd hv (k hI hD hL)
theorem ch_null (hd : decode M.2.1 pc = .ok (.aconst_null, 1)) (k : ch_FT g kb M d (pc + 1) ls (.null :: st) w Q) : ch_FT g kb M d pc ls (st) w Q := by
  intro p l e R s m args below meth c H locs cells slots w0 ls' hI hD hL
  exact lv_null hI.1 hI.2.1 hd (k hI hD hL)
theorem ch_iload_n (n : Fin 4) (x : Int32) (hd : decode M.2.1 pc = .ok (.iload_n n, 1)) (hl : ls[(n : Nat)]? = some (some (.int x))) (k : ch_FT g kb M d (pc + 1) ls (.int x :: st) w Q) : ch_FT g kb M d pc ls st w Q := by
  intro p l e R s m args below meth c H locs cells slots w0 ls' hI hD hL
  exact lv_iload_n hI.1 hI.2.1 hd rfl (hL.2.2 _ _ hl) (k hI hD hL)
theorem ch_iload (i : Nat) (x : Int32) (hd : decode M.2.1 pc = .ok (.iload i, 2)) (hl : ls[i]? = some (some (.int x))) (k : ch_FT g kb M d (pc + 2) ls (.int x :: st) w Q) : ch_FT g kb M d pc ls st w Q := by
  intro p l e R s m args below meth c H locs cells slots w0 ls' hI hD hL
  exact lv_iload hI.1 hI.2.1 hd (hL.2.2 _ _ hl) (k hI hD hL)
theorem ch_lload_n (n : Fin 4) (x : Int64) (hd : decode M.2.1 pc = .ok (.lload_n n, 1)) (hl : ls[(n : Nat)]? = some (some (.long x))) (k : ch_FT g kb M d (pc + 1) ls (.long x :: st) w Q) : ch_FT g kb M d pc ls st w Q := by
  intro p l e R s m args below meth c H locs cells slots w0 ls' hI hD hL
  exact lv_lload_n hI.1 hI.2.1 hd rfl (hL.2.2 _ _ hl) (k hI hD hL)
theorem ch_lload (i : Nat) (x : Int64) (hd : decode M.2.1 pc = .ok (.lload i, 2)) (hl : ls[i]? = some (some (.long x))) (k : ch_FT g kb M d (pc + 2) ls (.long x :: st) w Q) : ch_FT g kb M d pc ls st w Q := by
  intro p l e R s m args below meth c H locs cells slots w0 ls' hI hD hL
  exact lv_lload hI.1 hI.2.1 hd (hL.2.2 _ _ hl) (k hI hD hL)
theorem ch_aload_n (n : Fin 4) (r : Option Nat) (hd : decode M.2.1 pc = .ok (.aload_n n, 1)) (hl : ls[(n : Nat)]? = some (some (va_rf r))) (k : ch_FT g kb M d (pc + 1) ls (va_rf r :: st) w Q) : ch_FT g kb M d pc ls st w Q := by
  intro p l e R s m args below meth c H locs cells slots w0 ls' hI hD hL
  cases r with
  | none => exact lv_aload_nN hI.1 hI.2.1 hd rfl (hL.2.2 _ _ hl) (k hI hD hL)
  | some x => exact lv_aload_n hI.1 hI.2.1 hd rfl (hL.2.2 _ _ hl) (k hI hD hL)
theorem ch_aload (i : Nat) (r : Option Nat) (hd : decode M.2.1 pc = .ok (.aload i, 2)) (hl : ls[i]? = some (some (va_rf r))) (k : ch_FT g kb M d (pc + 2) ls (va_rf r :: st) w Q) : ch_FT g kb M d pc ls st w Q := by
  intro p l e R s m args below meth c H locs cells slots w0 ls' hI hD hL
  cases r with
  | none => exact lv_aloadN hI.1 hI.2.1 hd (hL.2.2 _ _ hl) (k hI hD hL)
  | some x => exact lv_aload hI.1 hI.2.1 hd (hL.2.2 _ _ hl) (k hI hD hL)
theorem ch_L.st1 {ls' ls2 : Array Slot} {nL i : Nat} {v : Value} (h : lv_has ls2 nL ((i, v) :: (ch_prs ls).filter (fun q => !(q.1 == i) && !(q.1 + 1 == i && q.2.category == 2)))) : ch_L ls2 nL (ch_s1 ls i v) := by
  refine ⟨h.1, h.2.1, fun j u hu => ?_⟩
  rcases ch_s1_get hu with ⟨rfl, rfl⟩ | ⟨h1, h2, h3⟩
  · exact h.2.2 (j, u) List.mem_cons_self
  · refine h.2.2 (j, u) (List.mem_cons_of_mem _ (List.mem_filter.mpr ⟨ch_prs_mem.mpr h2, ?_⟩))
    simp only [Bool.and_eq_true, Bool.not_eq_true', beq_eq_false_iff_ne, ne_eq, Bool.and_eq_false_iff]
    refine ⟨h1, ?_⟩
    by_cases hj : j + 1 = i
    · exact Or.inr (fun q => h3 ⟨hj, q⟩)
    · exact Or.inl hj
theorem ch_L.st2 {ls' ls2 : Array Slot} {nL i : Nat} {v : Value} (h : lv_has ls2 nL ((i, v) :: (ch_prs ls).filter (fun q => !(q.1 == i) && (!(q.1 == i + 1) && !(q.1 + 1 == i && q.2.category == 2))))) : ch_L ls2 nL (ch_s2 ls i v) := by
  refine ⟨h.1, h.2.1, fun j u hu => ?_⟩
  rcases ch_s2_get hu with ⟨rfl, rfl⟩ | ⟨h1, h1', h2, h3⟩
  · exact h.2.2 (j, u) List.mem_cons_self
  · refine h.2.2 (j, u) (List.mem_cons_of_mem _ (List.mem_filter.mpr ⟨ch_prs_mem.mpr h2, ?_⟩))
    simp only [Bool.and_eq_true, Bool.not_eq_true', beq_eq_false_iff_ne, ne_eq, Bool.and_eq_false_iff]
    refine ⟨h1, h1', ?_⟩
    by_cases hj : j + 1 = i
    · exact Or.inr (fun q => h3 ⟨hj, q⟩)
    · exact Or.inl hj
theorem ch_istore_n (n : Fin 4) (x : Int32) {ls1 : List (Option Value)} (hd : decode M.2.1 pc = .ok (.istore_n n, 1)) (hn : (n : Nat) < M.2.2.1) (hl : ch_s1 ls (n : Nat) (.int x) = ls1) (k : ch_FT g kb M d (pc + 1) ls1 st w Q) : ch_FT g kb M d pc ls (.int x :: st) w Q := by
  intro p l e R s m args below meth c H locs cells slots w0 ls' hI hD hL
  subst hl
  exact lv_istore_n hI.1 hI.2.1 hd rfl hL.has hn rfl (fun ls2 h2 => k hI hD (ch_L.st1 (ls' := ls2) h2))
theorem ch_istore (i : Nat) (x : Int32) {ls1 : List (Option Value)} (hd : decode M.2.1 pc = .ok (.istore i, 2)) (hn : i < M.2.2.1) (hl : ch_s1 ls i (.int x) = ls1) (k : ch_FT g kb M d (pc + 2) ls1 st w Q) : ch_FT g kb M d pc ls (.int x :: st) w Q := by
  intro p l e R s m args below meth c H locs cells slots w0 ls' hI hD hL
  subst hl
  exact lv_istore hI.1 hI.2.1 hd hL.has hn rfl (fun ls2 h2 => k hI hD (ch_L.st1 (ls' := ls2) h2))
theorem ch_lstore_n (n : Fin 4) (x : Int64) {ls1 : List (Option Value)} (hd : decode M.2.1 pc = .ok (.lstore_n n, 1)) (hn : (n : Nat) + 1 < M.2.2.1) (hl : ch_s2 ls (n : Nat) (.long x) = ls1) (k : ch_FT g kb M d (pc + 1) ls1 st w Q) : ch_FT g kb M d pc ls (.long x :: st) w Q := by
  intro p l e R s m args below meth c H locs cells slots w0 ls' hI hD hL
  subst hl
  exact lv_lstore_n hI.1 hI.2.1 hd rfl hL.has hn rfl (fun ls2 h2 => k hI hD (ch_L.st2 (ls' := ls2) h2))
theorem ch_lstore (i : Nat) (x : Int64) {ls1 : List (Option Value)} (hd : decode M.2.1 pc = .ok (.lstore i, 2)) (hn : i + 1 < M.2.2.1) (hl : ch_s2 ls i (.long x) = ls1) (k : ch_FT g kb M d (pc + 2) ls1 st w Q) : ch_FT g kb M d pc ls (.long x :: st) w Q := by
  intro p l e R s m args below meth c H locs cells slots w0 ls' hI hD hL
  subst hl
  exact lv_lstore hI.1 hI.2.1 hd hL.has hn rfl (fun ls2 h2 => k hI hD (ch_L.st2 (ls' := ls2) h2))
theorem ch_astore_n (n : Fin 4) (r : Option Nat) {ls1 : List (Option Value)} (hd : decode M.2.1 pc = .ok (.astore_n n, 1)) (hn : (n : Nat) < M.2.2.1) (hl : ch_s1 ls (n : Nat) (va_rf r) = ls1) (k : ch_FT g kb M d (pc + 1) ls1 st w Q) : ch_FT g kb M d pc ls (va_rf r :: st) w Q := by
  intro p l e R s m args below meth c H locs cells slots w0 ls' hI hD hL
  subst hl
  cases r with
  | none => exact lv_astore_nN hI.1 hI.2.1 hd rfl hL.has hn rfl (fun ls2 h2 => k hI hD (ch_L.st1 (ls' := ls2) h2))
  | some x => exact lv_astore_n hI.1 hI.2.1 hd rfl hL.has hn rfl (fun ls2 h2 => k hI hD (ch_L.st1 (ls' := ls2) h2))
theorem ch_astore (i : Nat) (r : Option Nat) {ls1 : List (Option Value)} (hd : decode M.2.1 pc = .ok (.astore i, 2)) (hn : i < M.2.2.1) (hl : ch_s1 ls i (va_rf r) = ls1) (k : ch_FT g kb M d (pc + 2) ls1 st w Q) : ch_FT g kb M d pc ls (va_rf r :: st) w Q := by
  intro p l e R s m args below meth c H locs cells slots w0 ls' hI hD hL
  subst hl
  cases r with
  | none => exact lv_astoreN hI.1 hI.2.1 hd hL.has hn rfl (fun ls2 h2 => k hI hD (ch_L.st1 (ls' := ls2) h2))
  | some x => exact lv_astore hI.1 hI.2.1 hd hL.has hn rfl (fun ls2 h2 => k hI hD (ch_L.st1 (ls' := ls2) h2))
theorem ch_iinc (i : Nat) (n : Int) (x v : Int32) {ls1 : List (Option Value)} (hd : decode M.2.1 pc = .ok (.iinc i n, 3)) (hx : ls[i]? = some (some (.int x))) (hv : x + Int32.ofInt n = v) (hn : i < M.2.2.1) (hl : ch_s1 ls i (.int v) = ls1) (k : ch_FT g kb M d (pc + 3) ls1 st w Q) : ch_FT g kb M d pc ls st w Q := by
  intro p l e R s m args below meth c H locs cells slots w0 ls' hI hD hL
  subst hl
  obtain ⟨j, hj⟩ := List.getElem?_of_mem (ch_prs_mem.mpr hx)
  exact lv_iinc hI.1 hI.2.1 hd hL.has hj hv hn rfl (fun ls2 h2 => k hI hD (ch_L.st1 (ls' := ls2) h2))
theorem ch_iadd (x y : Int32) (hd : decode M.2.1 pc = .ok (.iadd, 1)) (k : ch_FT g kb M d (pc + 1) ls (.int (x + y) :: st) w Q) : ch_FT g kb M d pc ls (.int y :: .int x :: st) w Q := by
  intro p l e R s m args below meth c H locs cells slots w0 ls' hI hD hL
  exact lv_iadd hI.1 hI.2.1 hd (k hI hD hL)
theorem ch_isub (x y : Int32) (hd : decode M.2.1 pc = .ok (.isub, 1)) (k : ch_FT g kb M d (pc + 1) ls (.int (x - y) :: st) w Q) : ch_FT g kb M d pc ls (.int y :: .int x :: st) w Q := by
  intro p l e R s m args below meth c H locs cells slots w0 ls' hI hD hL
  exact lv_isub hI.1 hI.2.1 hd (k hI hD hL)
theorem ch_imul (x y : Int32) (hd : decode M.2.1 pc = .ok (.imul, 1)) (k : ch_FT g kb M d (pc + 1) ls (.int (x * y) :: st) w Q) : ch_FT g kb M d pc ls (.int y :: .int x :: st) w Q := by
  intro p l e R s m args below meth c H locs cells slots w0 ls' hI hD hL
  exact lv_imul hI.1 hI.2.1 hd (k hI hD hL)
theorem ch_iand (x y : Int32) (hd : decode M.2.1 pc = .ok (.iand, 1)) (k : ch_FT g kb M d (pc + 1) ls (.int (x &&& y) :: st) w Q) : ch_FT g kb M d pc ls (.int y :: .int x :: st) w Q := by
  intro p l e R s m args below meth c H locs cells slots w0 ls' hI hD hL
  exact lv_iand hI.1 hI.2.1 hd (k hI hD hL)
theorem ch_ior (x y : Int32) (hd : decode M.2.1 pc = .ok (.ior, 1)) (k : ch_FT g kb M d (pc + 1) ls (.int (x ||| y) :: st) w Q) : ch_FT g kb M d pc ls (.int y :: .int x :: st) w Q := by
  intro p l e R s m args below meth c H locs cells slots w0 ls' hI hD hL
  exact lv_ior hI.1 hI.2.1 hd (k hI hD hL)
theorem ch_ishl (x y : Int32) (hd : decode M.2.1 pc = .ok (.ishl, 1)) (k : ch_FT g kb M d (pc + 1) ls (.int (x <<< (y &&& 31)) :: st) w Q) : ch_FT g kb M d pc ls (.int y :: .int x :: st) w Q := by
  intro p l e R s m args below meth c H locs cells slots w0 ls' hI hD hL
  exact lv_ishl hI.1 hI.2.1 hd (k hI hD hL)
theorem ch_ishr (x y : Int32) (hd : decode M.2.1 pc = .ok (.ishr, 1)) (k : ch_FT g kb M d (pc + 1) ls (.int (x >>> (y &&& 31)) :: st) w Q) : ch_FT g kb M d pc ls (.int y :: .int x :: st) w Q := by
  intro p l e R s m args below meth c H locs cells slots w0 ls' hI hD hL
  exact lv_ishr hI.1 hI.2.1 hd (k hI hD hL)
theorem ch_idiv (x y : Int32) (hd : decode M.2.1 pc = .ok (.idiv, 1)) (hne : ¬ y = 0) (k : ch_FT g kb M d (pc + 1) ls (.int (x / y) :: st) w Q) : ch_FT g kb M d pc ls (.int y :: .int x :: st) w Q := by
  intro p l e R s m args below meth c H locs cells slots w0 ls' hI hD hL
  exact lv_idiv hI.1 hI.2.1 hd hne (k hI hD hL)
theorem ch_irem (x y : Int32) (hd : decode M.2.1 pc = .ok (.irem, 1)) (hne : ¬ y = 0) (k : ch_FT g kb M d (pc + 1) ls (.int (x - x / y * y) :: st) w Q) : ch_FT g kb M d pc ls (.int y :: .int x :: st) w Q := by
  intro p l e R s m args below meth c H locs cells slots w0 ls' hI hD hL
  exact lv_irem hI.1 hI.2.1 hd hne (k hI hD hL)
theorem ch_ineg (x : Int32) (hd : decode M.2.1 pc = .ok (.ineg, 1)) (k : ch_FT g kb M d (pc + 1) ls (.int (-x) :: st) w Q) : ch_FT g kb M d pc ls (.int x :: st) w Q := by
  intro p l e R s m args below meth c H locs cells slots w0 ls' hI hD hL
  exact lv_ineg hI.1 hI.2.1 hd (k hI hD hL)
theorem ch_land (x y : Int64) (hd : decode M.2.1 pc = .ok (.land, 1)) (k : ch_FT g kb M d (pc + 1) ls (.long (x &&& y) :: st) w Q) : ch_FT g kb M d pc ls (.long y :: .long x :: st) w Q := by
  intro p l e R s m args below meth c H locs cells slots w0 ls' hI hD hL
  exact lv_land hI.1 hI.2.1 hd (k hI hD hL)
theorem ch_lor (x y : Int64) (hd : decode M.2.1 pc = .ok (.lor, 1)) (k : ch_FT g kb M d (pc + 1) ls (.long (x ||| y) :: st) w Q) : ch_FT g kb M d pc ls (.long y :: .long x :: st) w Q := by
  intro p l e R s m args below meth c H locs cells slots w0 ls' hI hD hL
  exact lv_lor hI.1 hI.2.1 hd (k hI hD hL)
theorem ch_lshl (x : Int64) (y : Int32) (hd : decode M.2.1 pc = .ok (.lshl, 1)) (k : ch_FT g kb M d (pc + 1) ls (.long (x <<< (y.toInt64 &&& 63)) :: st) w Q) : ch_FT g kb M d pc ls (.int y :: .long x :: st) w Q := by
  intro p l e R s m args below meth c H locs cells slots w0 ls' hI hD hL
  exact lv_lshl hI.1 hI.2.1 hd rfl (k hI hD hL)
theorem ch_lshr (x : Int64) (y : Int32) (hd : decode M.2.1 pc = .ok (.lshr, 1)) (k : ch_FT g kb M d (pc + 1) ls (.long (x >>> (y.toInt64 &&& 63)) :: st) w Q) : ch_FT g kb M d pc ls (.int y :: .long x :: st) w Q := by
  intro p l e R s m args below meth c H locs cells slots w0 ls' hI hD hL
  exact lv_lshr hI.1 hI.2.1 hd rfl (k hI hD hL)
theorem ch_i2l (x : Int32) (hd : decode M.2.1 pc = .ok (.i2l, 1)) (k : ch_FT g kb M d (pc + 1) ls (.long x.toInt64 :: st) w Q) : ch_FT g kb M d pc ls (.int x :: st) w Q := by
  intro p l e R s m args below meth c H locs cells slots w0 ls' hI hD hL
  exact lv_i2l hI.1 hI.2.1 hd rfl (k hI hD hL)
theorem ch_l2i (x : Int64) (hd : decode M.2.1 pc = .ok (.l2i, 1)) (k : ch_FT g kb M d (pc + 1) ls (.int x.toInt32 :: st) w Q) : ch_FT g kb M d pc ls (.long x :: st) w Q := by
  intro p l e R s m args below meth c H locs cells slots w0 ls' hI hD hL
  exact lv_l2i hI.1 hI.2.1 hd rfl (k hI hD hL)
theorem ch_i2b (x : Int32) (hd : decode M.2.1 pc = .ok (.i2b, 1)) (k : ch_FT g kb M d (pc + 1) ls (.int x.toInt8.toInt32 :: st) w Q) : ch_FT g kb M d pc ls (.int x :: st) w Q := by
  intro p l e R s m args below meth c H locs cells slots w0 ls' hI hD hL
  exact lv_i2b hI.1 hI.2.1 hd rfl (k hI hD hL)
theorem ch_i2c (x : Int32) (hd : decode M.2.1 pc = .ok (.i2c, 1)) (k : ch_FT g kb M d (pc + 1) ls (.int (x.toUInt32 % 65536).toInt32 :: st) w Q) : ch_FT g kb M d pc ls (.int x :: st) w Q := by
  intro p l e R s m args below meth c H locs cells slots w0 ls' hI hD hL
  exact lv_i2c hI.1 hI.2.1 hd rfl (k hI hD hL)
theorem ch_lcmp (x y : Int64) (hd : decode M.2.1 pc = .ok (.lcmp, 1)) (k : ch_FT g kb M d (pc + 1) ls (.int (lg_cmp x y) :: st) w Q) : ch_FT g kb M d pc ls (.long y :: .long x :: st) w Q := by
  intro p l e R s m args below meth c H locs cells slots w0 ls' hI hD hL
  exact W.lcmp hI.1 hI.2.1 hd (k hI hD hL)
theorem ch_dup {a : Value} (hd : decode M.2.1 pc = .ok (.dup, 1)) (ha : a.category = 1) (k : ch_FT g kb M d (pc + 1) ls (a :: a :: st) w Q) : ch_FT g kb M d pc ls (a :: st) w Q := by
  intro p l e R s m args below meth c H locs cells slots w0 ls' hI hD hL
  exact lv_dup hI.1 hI.2.1 hd ha (k hI hD hL)
theorem ch_pop {a : Value} (hd : decode M.2.1 pc = .ok (.pop, 1)) (ha : a.category = 1) (k : ch_FT g kb M d (pc + 1) ls (st) w Q) : ch_FT g kb M d pc ls (a :: st) w Q := by
  intro p l e R s m args below meth c H locs cells slots w0 ls' hI hD hL
  exact lv_pop hI.1 hI.2.1 hd ha (k hI hD hL)
theorem ch_dup_x1 {a b : Value} (hd : decode M.2.1 pc = .ok (.dup_x1, 1)) (ha : a.category = 1) (hb : b.category = 1) (k : ch_FT g kb M d (pc + 1) ls (a :: b :: a :: st) w Q) : ch_FT g kb M d pc ls (a :: b :: st) w Q := by
  intro p l e R s m args below meth c H locs cells slots w0 ls' hI hD hL
  exact lv_dup_x1 hI.1 hI.2.1 hd ha hb (k hI hD hL)
theorem ch_dup2 {a b : Value} (hd : decode M.2.1 pc = .ok (.dup2, 1)) (ha : a.category = 1) (hb : b.category = 1) (k : ch_FT g kb M d (pc + 1) ls (a :: b :: a :: b :: st) w Q) : ch_FT g kb M d pc ls (a :: b :: st) w Q := by
  intro p l e R s m args below meth c H locs cells slots w0 ls' hI hD hL
  exact lv_dup2_11 hI.1 hI.2.1 hd ha hb (k hI hD hL)
theorem ch_if_eq (x : Int32) {off : Int} {tgt : Nat} (hd : decode M.2.1 pc = .ok (.ifCond .eq off, 3)) (ht : (pc : Int) + off = (tgt : Int)) (kt : x = 0 → ch_FT g kb M d tgt ls st w Q) (kf : ¬ (x = 0) → ch_FT g kb M d (pc + 3) ls st w Q) : ch_FT g kb M d pc ls (.int x :: st) w Q := by
  intro p l e R s m args below meth c H locs cells slots w0 ls' hI hD hL
  exact lv_if_eq hI.1 hI.2.1 hd ht (fun h => kt h hI hD hL) (fun h => kf h hI hD hL)
theorem ch_icmp_eq (x y : Int32) {off : Int} {tgt : Nat} (hd : decode M.2.1 pc = .ok (.if_icmp .eq off, 3)) (ht : (pc : Int) + off = (tgt : Int)) (kt : x = y → ch_FT g kb M d tgt ls st w Q) (kf : ¬ (x = y) → ch_FT g kb M d (pc + 3) ls st w Q) : ch_FT g kb M d pc ls (.int y :: .int x :: st) w Q := by
  intro p l e R s m args below meth c H locs cells slots w0 ls' hI hD hL
  exact lv_icmp_eq hI.1 hI.2.1 hd ht (fun h => kt h hI hD hL) (fun h => kf h hI hD hL)
theorem ch_if_ne (x : Int32) {off : Int} {tgt : Nat} (hd : decode M.2.1 pc = .ok (.ifCond .ne off, 3)) (ht : (pc : Int) + off = (tgt : Int)) (kt : ¬ x = 0 → ch_FT g kb M d tgt ls st w Q) (kf : x = 0 → ch_FT g kb M d (pc + 3) ls st w Q) : ch_FT g kb M d pc ls (.int x :: st) w Q := by
  intro p l e R s m args below meth c H locs cells slots w0 ls' hI hD hL
  exact lv_if_ne hI.1 hI.2.1 hd ht (fun h => kt h hI hD hL) (fun h => kf h hI hD hL)
theorem ch_icmp_ne (x y : Int32) {off : Int} {tgt : Nat} (hd : decode M.2.1 pc = .ok (.if_icmp .ne off, 3)) (ht : (pc : Int) + off = (tgt : Int)) (kt : ¬ x = y → ch_FT g kb M d tgt ls st w Q) (kf : x = y → ch_FT g kb M d (pc + 3) ls st w Q) : ch_FT g kb M d pc ls (.int y :: .int x :: st) w Q := by
  intro p l e R s m args below meth c H locs cells slots w0 ls' hI hD hL
  exact lv_icmp_ne hI.1 hI.2.1 hd ht (fun h => kt h hI hD hL) (fun h => kf h hI hD hL)
theorem ch_if_lt (x : Int32) {off : Int} {tgt : Nat} (hd : decode M.2.1 pc = .ok (.ifCond .lt off, 3)) (ht : (pc : Int) + off = (tgt : Int)) (kt : x < 0 → ch_FT g kb M d tgt ls st w Q) (kf : ¬ (x < 0) → ch_FT g kb M d (pc + 3) ls st w Q) : ch_FT g kb M d pc ls (.int x :: st) w Q := by
  intro p l e R s m args below meth c H locs cells slots w0 ls' hI hD hL
  exact lv_if_lt hI.1 hI.2.1 hd ht (fun h => kt h hI hD hL) (fun h => kf h hI hD hL)
theorem ch_icmp_lt (x y : Int32) {off : Int} {tgt : Nat} (hd : decode M.2.1 pc = .ok (.if_icmp .lt off, 3)) (ht : (pc : Int) + off = (tgt : Int)) (kt : x < y → ch_FT g kb M d tgt ls st w Q) (kf : ¬ (x < y) → ch_FT g kb M d (pc + 3) ls st w Q) : ch_FT g kb M d pc ls (.int y :: .int x :: st) w Q := by
  intro p l e R s m args below meth c H locs cells slots w0 ls' hI hD hL
  exact lv_icmp_lt hI.1 hI.2.1 hd ht (fun h => kt h hI hD hL) (fun h => kf h hI hD hL)
theorem ch_if_ge (x : Int32) {off : Int} {tgt : Nat} (hd : decode M.2.1 pc = .ok (.ifCond .ge off, 3)) (ht : (pc : Int) + off = (tgt : Int)) (kt : 0 ≤ x → ch_FT g kb M d tgt ls st w Q) (kf : ¬ (0 ≤ x) → ch_FT g kb M d (pc + 3) ls st w Q) : ch_FT g kb M d pc ls (.int x :: st) w Q := by
  intro p l e R s m args below meth c H locs cells slots w0 ls' hI hD hL
  exact lv_if_ge hI.1 hI.2.1 hd ht (fun h => kt h hI hD hL) (fun h => kf h hI hD hL)
theorem ch_icmp_ge (x y : Int32) {off : Int} {tgt : Nat} (hd : decode M.2.1 pc = .ok (.if_icmp .ge off, 3)) (ht : (pc : Int) + off = (tgt : Int)) (kt : y ≤ x → ch_FT g kb M d tgt ls st w Q) (kf : ¬ (y ≤ x) → ch_FT g kb M d (pc + 3) ls st w Q) : ch_FT g kb M d pc ls (.int y :: .int x :: st) w Q := by
  intro p l e R s m args below meth c H locs cells slots w0 ls' hI hD hL
  exact lv_icmp_ge hI.1 hI.2.1 hd ht (fun h => kt h hI hD hL) (fun h => kf h hI hD hL)
theorem ch_if_gt (x : Int32) {off : Int} {tgt : Nat} (hd : decode M.2.1 pc = .ok (.ifCond .gt off, 3)) (ht : (pc : Int) + off = (tgt : Int)) (kt : 0 < x → ch_FT g kb M d tgt ls st w Q) (kf : ¬ (0 < x) → ch_FT g kb M d (pc + 3) ls st w Q) : ch_FT g kb M d pc ls (.int x :: st) w Q := by
  intro p l e R s m args below meth c H locs cells slots w0 ls' hI hD hL
  exact lv_if_gt hI.1 hI.2.1 hd ht (fun h => kt h hI hD hL) (fun h => kf h hI hD hL)
theorem ch_icmp_gt (x y : Int32) {off : Int} {tgt : Nat} (hd : decode M.2.1 pc = .ok (.if_icmp .gt off, 3)) (ht : (pc : Int) + off = (tgt : Int)) (kt : y < x → ch_FT g kb M d tgt ls st w Q) (kf : ¬ (y < x) → ch_FT g kb M d (pc + 3) ls st w Q) : ch_FT g kb M d pc ls (.int y :: .int x :: st) w Q := by
  intro p l e R s m args below meth c H locs cells slots w0 ls' hI hD hL
  exact lv_icmp_gt hI.1 hI.2.1 hd ht (fun h => kt h hI hD hL) (fun h => kf h hI hD hL)
theorem ch_if_le (x : Int32) {off : Int} {tgt : Nat} (hd : decode M.2.1 pc = .ok (.ifCond .le off, 3)) (ht : (pc : Int) + off = (tgt : Int)) (kt : x ≤ 0 → ch_FT g kb M d tgt ls st w Q) (kf : ¬ (x ≤ 0) → ch_FT g kb M d (pc + 3) ls st w Q) : ch_FT g kb M d pc ls (.int x :: st) w Q := by
  intro p l e R s m args below meth c H locs cells slots w0 ls' hI hD hL
  exact lv_if_le hI.1 hI.2.1 hd ht (fun h => kt h hI hD hL) (fun h => kf h hI hD hL)
theorem ch_icmp_le (x y : Int32) {off : Int} {tgt : Nat} (hd : decode M.2.1 pc = .ok (.if_icmp .le off, 3)) (ht : (pc : Int) + off = (tgt : Int)) (kt : x ≤ y → ch_FT g kb M d tgt ls st w Q) (kf : ¬ (x ≤ y) → ch_FT g kb M d (pc + 3) ls st w Q) : ch_FT g kb M d pc ls (.int y :: .int x :: st) w Q := by
  intro p l e R s m args below meth c H locs cells slots w0 ls' hI hD hL
  exact lv_icmp_le hI.1 hI.2.1 hd ht (fun h => kt h hI hD hL) (fun h => kf h hI hD hL)
theorem ch_goto {off : Int} (tgt : Nat) (hd : decode M.2.1 pc = .ok (.goto off, 3)) (ht : (pc : Int) + off = (tgt : Int)) (k : ch_FT g kb M d tgt ls st w Q) : ch_FT g kb M d pc ls st w Q := by
  intro p l e R s m args below meth c H locs cells slots w0 ls' hI hD hL
  exact lv_goto hI.1 hI.2.1 hd ht (k hI hD hL)
theorem ch_ifnull (r : Option Nat) {off : Int} {tgt : Nat} (hd : decode M.2.1 pc = .ok (.ifnull off, 3)) (ht : (pc : Int) + off = (tgt : Int)) (kt : r = none → ch_FT g kb M d tgt ls st w Q) (kf : ∀ b, r = some b → ch_FT g kb M d (pc + 3) ls st w Q) : ch_FT g kb M d pc ls (va_rf r :: st) w Q := by
  intro p l e R s m args below meth c H locs cells slots w0 ls' hI hD hL
  cases r with
  | none => exact lv_ifnullN hI.1 hI.2.1 hd ht (kt rfl hI hD hL)
  | some x => exact lv_ifnull hI.1 hI.2.1 hd (kf x rfl hI hD hL)
theorem ch_ifnonnull (r : Option Nat) {off : Int} {tgt : Nat} (hd : decode M.2.1 pc = .ok (.ifnonnull off, 3)) (ht : (pc : Int) + off = (tgt : Int)) (kt : ∀ b, r = some b → ch_FT g kb M d tgt ls st w Q) (kf : r = none → ch_FT g kb M d (pc + 3) ls st w Q) : ch_FT g kb M d pc ls (va_rf r :: st) w Q := by
  intro p l e R s m args below meth c H locs cells slots w0 ls' hI hD hL
  cases r with
  | none => exact lv_ifnonnullN hI.1 hI.2.1 hd (kf rfl hI hD hL)
  | some x => exact lv_ifnonnull hI.1 hI.2.1 hd ht (kt x rfl hI hD hL)
theorem ch_acmp_eq (x y : Option Nat) {off : Int} {tgt : Nat} (hd : decode M.2.1 pc = .ok (.if_acmp .eq off, 3)) (ht : (pc : Int) + off = (tgt : Int)) (kt : x = y → ch_FT g kb M d tgt ls st w Q) (kf : ¬ x = y → ch_FT g kb M d (pc + 3) ls st w Q) : ch_FT g kb M d pc ls (va_rf y :: va_rf x :: st) w Q := by
  intro p l e R s m args below meth c H locs cells slots w0 ls' hI hD hL
  exact lv_acmp_eq hI.1 hI.2.1 hd ht (fun h => kt h hI hD hL) (fun h => kf h hI hD hL)
theorem ch_acmp_ne (x y : Option Nat) {off : Int} {tgt : Nat} (hd : decode M.2.1 pc = .ok (.if_acmp .ne off, 3)) (ht : (pc : Int) + off = (tgt : Int)) (kt : ¬ x = y → ch_FT g kb M d tgt ls st w Q) (kf : x = y → ch_FT g kb M d (pc + 3) ls st w Q) : ch_FT g kb M d pc ls (va_rf y :: va_rf x :: st) w Q := by
  intro p l e R s m args below meth c H locs cells slots w0 ls' hI hD hL
  exact lv_acmp_ne hI.1 hI.2.1 hd ht (fun h => kt h hI hD hL) (fun h => kf h hI hD hL)
theorem ch_ldc (i : Nat) (v : Int32) (hd : decode M.2.1 pc = .ok (.ldc i, 2)) (hw : Cond.constant M.1.cls i v ∈ lw_all) (k : ch_FT g kb M d (pc + 2) ls (.int v :: st) w Q) : ch_FT g kb M d pc ls st w Q := by
  intro p l e R s m args below meth c H locs cells slots w0 ls' hI hD hL
  exact lv_ldc hI.1 hI.2.1 hI.2.2.2.2.2.2.2.1 (hI.2.2.2.2.2.2.2.2.1.use hw) hd (k hI hD hL)
theorem ch_ldcw (i : Nat) (v : Int32) (hd : decode M.2.1 pc = .ok (.ldc_w i, 3)) (hw : Cond.constant M.1.cls i v ∈ lw_all) (k : ch_FT g kb M d (pc + 3) ls (.int v :: st) w Q) : ch_FT g kb M d pc ls st w Q := by
  intro p l e R s m args below meth c H locs cells slots w0 ls' hI hD hL
  exact lv_ldcw hI.1 hI.2.1 hI.2.2.2.2.2.2.2.1 (hI.2.2.2.2.2.2.2.2.1.use hw) hd (k hI hD hL)
theorem ch_ldc2 (i : Nat) (v : Int64) (hd : decode M.2.1 pc = .ok (.ldc2_w i, 3)) (hw : Cond.constantLong M.1.cls i v ∈ lw_all) (k : ch_FT g kb M d (pc + 3) ls (.long v :: st) w Q) : ch_FT g kb M d pc ls st w Q := by
  intro p l e R s m args below meth c H locs cells slots w0 ls' hI hD hL
  exact lv_ldc2 hI.1 hI.2.1 hI.2.2.2.2.2.2.2.1 (hI.2.2.2.2.2.2.2.2.1.use hw) hd (k hI hD hL)
theorem ch_tableOut (x : Int32) {dflt lo hi : Int} {offs : Array Int} {len tgt : Nat} (hd : decode M.2.1 pc = .ok (.tableswitch dflt lo hi offs, len)) (h : x.toInt < lo ∨ hi < x.toInt) (ht : (pc : Int) + dflt = (tgt : Int)) (k : ch_FT g kb M d tgt ls st w Q) : ch_FT g kb M d pc ls (.int x :: st) w Q := by
  intro p l e R s m args below meth c H locs cells slots w0 ls' hI hD hL
  exact lv_tableOut hI.1 hI.2.1 hd h ht (k hI hD hL)
theorem ch_tableIn (x : Int32) {dflt lo hi off : Int} {offs : Array Int} {len tgt : Nat} (hd : decode M.2.1 pc = .ok (.tableswitch dflt lo hi offs, len)) (h1 : ¬ x.toInt < lo) (h2 : ¬ hi < x.toInt) (ho : offs[(x.toInt - lo).toNat]? = some off) (ht : (pc : Int) + off = (tgt : Int)) (k : ch_FT g kb M d tgt ls st w Q) : ch_FT g kb M d pc ls (.int x :: st) w Q := by
  intro p l e R s m args below meth c H locs cells slots w0 ls' hI hD hL
  exact lv_tableIn hI.1 hI.2.1 hd h1 h2 ho ht (k hI hD hL)
theorem ch_lookup (x : Int32) {dflt off : Int} {ps : Array (Int × Int)} {len tgt : Nat} (hd : decode M.2.1 pc = .ok (.lookupswitch dflt ps, len)) (hp : (ps.toList.zip (ps.toList.drop 1)).all (fun (a, next) => a.1 < next.1) = true) (ho : Op.lookupswitch.offset ps.toList dflt x.toInt = off) (ht : (pc : Int) + off = (tgt : Int)) (k : ch_FT g kb M d tgt ls st w Q) : ch_FT g kb M d pc ls (.int x :: st) w Q := by
  intro p l e R s m args below meth c H locs cells slots w0 ls' hI hD hL
  exact lv_lookup hI.1 hI.2.1 hd hp ho ht (k hI hD hL)
end ROWS
