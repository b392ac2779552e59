/-! LEVEL C: System.arraycopy within arrays of Object -/
def ch_cpR (w : ch_W) (r0 : Option Nat) (sp : Int32) (r1 : Option Nat) (dp n : Int32) : Option ch_W := r0.bind fun a0 => r1.bind fun a1 =>
  if (ch_tg w a0 = 25 ∧ ch_tg w a1 = 25 ∧ ¬ sp < 0 ∧ ¬ dp < 0 ∧ ¬ n < 0 ∧ sp.toNatClampNeg + n.toNatClampNeg ≤ ch_ln w a0 ∧ dp.toNatClampNeg + n.toNatClampNeg ≤ ch_ln w a1) ∧ ∀ i, i < n.toNatClampNeg → ch_fitR w (ch_gr w a0 (sp.toNatClampNeg + i)) 0 = true
  then some (va_up w.1 a1 (ch_cpO (w.1 a0) (w.1 a1) sp.toNatClampNeg dp.toNatClampNeg n.toNatClampNeg), w.2) else none
theorem cp_copyR {g : State} {kb : Bool} {M : ch_M} {d pc : Nat} {ls : List (Option Value)} {st : List Value} {w : ch_W} {Q : Outcome → ch_W → Prop} {β : Type} {res : β} {f : ch_W → Option β} {r0 r1 : Option Nat} {sp dp n : Int32} {idx : Nat}
    (hd : decode M.2.1 pc = .ok (.invokestatic idx, 3)) (hlink : Cond.methodLink M.1.cls idx arraycopyName ∈ lw_all) (hd1 : 1 ≤ d) (hw : 2 * st.length + 20 ≤ 41) (h : (ch_cpR w r0 sp r1 dp n).bind f = some res)
    (kk : ∀ v, f v = some res → ch_FT g kb M d (pc + 3) ls st v Q) : ch_FT g kb M d pc ls (.int n :: .int dp :: va_rf r1 :: .int sp :: va_rf r0 :: st) w Q := by
  obtain ⟨v, h1, h2⟩ := ch_bd h
  unfold ch_cpR at h1
  obtain ⟨a0, rfl, h3⟩ := ch_bd h1
  obtain ⟨a1, rfl, h4⟩ := ch_bd h3
  split at h4
  case isFalse => cases h4
  case isTrue hc =>
    cases h4
    obtain ⟨⟨c1, c2, c3, c4, c5, c6, c7⟩, c8⟩ := hc
    intro p l e R s m args below meth c H locs cells slots w0 ls' hI hD hL T hT X
    obtain ⟨hx, hb, hml, -, -, -, -, hown, hok, ⟨hr1, hr2, -⟩, -⟩ := id hI
    have ht : ch_aty 25 = some (.object "java/lang/Object") := rfl
    obtain ⟨e0, hb0⟩ := ch_arrM hD.1 (by rw [c1]; exact ht) (by rw [c1]; decide)
    obtain ⟨e1, hb1⟩ := ch_arrM hD.1 (by rw [c2]; exact ht) (by rw [c2]; decide)
    have nn : ∀ z : Int32, ¬ z < 0 → z.toInt = (z.toNatClampNeg : Int) := by
      intro z hz
      have hz0 : (0 : Int) ≤ z.toInt := by
        have := Int32.not_lt.mp hz
        simpa using Int32.le_iff_toInt_le.mp this
      show z.toInt = ((z.toInt.toNat : Nat) : Int)
      omega
    have hmem : FieldType.object "java/lang/Object" ∈ ch_ty := (ch_aty_mem ht).1
    obtain ⟨kA, comp, k1, k2, k3, -⟩ := (hok.2.1.2 _ hmem).2.moved hok.1
    obtain ⟨kE, hkE, -⟩ := Vm.findClass_spec k3
    obtain ⟨vm', X', step⟩ := X.arraycopy hx hown (hok.use hlink) (hok.use q629) (hok.use q628) (hok.use q218) (src := a0) (dst := a1) (srcPos := sp) (destPos := dp) (n := n) (by rw [hT]; exact e0) (by rw [hT]; exact e1)
      (fun _ h => by cases h) (fun _ h => by cases h) (fun h => by cases h) (fun h => by cases h) k1 k1 k2 k2 rfl c3 c4 c5
      (by rw [nn sp c3, nn n c5, arrV_size]; omega)
      (by rw [nn dp c4, nn n c5, arrV_size]; omega)
      (fun vm₁ hvm i hi => by
        have e : (arrV (ch_aC g (.object "java/lang/Object")) (ch_ln w a0) (fun k => ch_val (.object "java/lang/Object") (w.1 a0) k)).slots.getD (sp.toNatClampNeg + i) .null = va_rf (ch_gr w a0 (sp.toNatClampNeg + i)) := by
          rw [Array.getD_eq_getD_getElem?, arrV_read _ _ (by omega)]
          rfl
        have h9 := c8 i hi
        rw [e]
        cases hv : ch_gr w a0 (sp.toNatClampNeg + i) with
        | none => exact ⟨rfl, trivial⟩
        | some x =>
          rw [hv] at h9
          simp only [ch_fitR, if_true, Bool.and_eq_true, bne_iff_ne, ne_eq, decide_eq_true_eq] at h9
          obtain ⟨cellV, g1, g3, ⟨kC, hkC⟩, hasg⟩ := ch_any hok hD.1 (v := x) (E := "java/lang/Object") (Or.inl ⟨rfl, h9.1.1, by omega, h9.2⟩)
          refine ⟨rfl, cellV, by rw [← hT] at g1; exact g1, fun k hk => (by rw [hk] at g3; cases g3), ?_, ?_, ?_⟩
          · obtain ⟨k', hk', -⟩ := hvm.2.2 _ _ hkC
            exact ⟨k', hk'⟩
          · obtain ⟨k', hk', -⟩ := hvm.2.2 _ _ hkE
            exact ⟨k', hk'⟩
          · have := hasg _ k3
            rw [show (T.setVm vm₁).vm = vm₁ from rfl, hvm.assignable]
            exact this)
      (g := F0 m pc ls' (.int n :: .int dp :: .ref a1 :: .int sp :: .ref a0 :: st)) rfl (by rw [hml]; exact hL.1) (rest := st) rfl (by rw [hb]; exact hd) (by omega) (by
        have h9 := ch_hwA st
        have h8 : nativeFrameWords "java/lang/System" "arraycopy" 5 ≤ 9 := by decide
        show 2 * 0 + (st.map fun v => v.category).sum + (nativeFrameWords "java/lang/System" "arraycopy" 5 + 11) ≤ R.locals
        omega)
    have e2 : copied (arrV (ch_aC g (.object "java/lang/Object")) (ch_ln w a0) (fun k => ch_val (.object "java/lang/Object") (w.1 a0) k)) (arrV (ch_aC g (.object "java/lang/Object")) (ch_ln w a1) (fun k => ch_val (.object "java/lang/Object") (w.1 a1) k)) sp dp n = arrV (ch_aC g (.object "java/lang/Object")) (ch_ln w a1) (fun j => va_cpy (fun k => ch_val (.object "java/lang/Object") (w.1 a0) k) (fun k => ch_val (.object "java/lang/Object") (w.1 a1) k) sp.toNatClampNeg dp.toNatClampNeg n.toNatClampNeg j) := va_copied (fun z => z) _ _ _ _ c6
    rw [e2] at X' step
    have hl : a1 < H.size := (Array.getElem?_eq_some_iff.mp e1).1
    have hheap : ∀ cell : Cell, ((T.setVm vm').setCell a1 cell).heap = H.setIfInBounds a1 cell := fun cell => by rw [← hT]; rfl
    obtain ⟨t1, a2, b2⟩ := kk _ h2 (l := l) (e := e) (args := args) (below := below) (cells := cells) (slots := slots) hI (H := H.setIfInBounds a1 (arrV (ch_aC g (.object "java/lang/Object")) (ch_ln w a1) (fun j => va_cpy (fun k => ch_val (.object "java/lang/Object") (w.1 a0) k) (fun k => ch_val (.object "java/lang/Object") (w.1 a1) k) sp.toNatClampNeg dp.toNatClampNeg n.toNatClampNeg j))) ⟨hD.1.upd (by simp) (fun q hq => by simp [Array.getElem?_setIfInBounds, Ne.symm hq]) hb1 (Or.inr (Or.inl ⟨.object "java/lang/Object", by show (w.1 a1).1 < 51; have : (w.1 a1).1 = 25 := c2; omega, by show ch_aty (w.1 a1).1 = some _; have : (w.1 a1).1 = 25 := c2; rw [this]; exact ht, by
        have hfun : (fun j => va_cpy (fun k => ch_val (.object "java/lang/Object") (w.1 a0) k) (fun k => ch_val (.object "java/lang/Object") (w.1 a1) k) sp.toNatClampNeg dp.toNatClampNeg n.toNatClampNeg j) = fun k => ch_val (.object "java/lang/Object") (ch_cpO (w.1 a0) (w.1 a1) sp.toNatClampNeg dp.toNatClampNeg n.toNatClampNeg) k := funext fun j => (ch_cpO_val (.object "java/lang/Object") _ _ _ _ _ j).symm
        rw [hfun, Array.getElem?_setIfInBounds, if_pos rfl, if_pos hl]
        rfl, hb1⟩)), hD.2.1, hD.2.2.1, fun q hq => by
        rcases List.mem_append.mp hq with h | h
        · exact hD.2.2.2.1 q h
        · obtain ⟨z, -, hz⟩ := List.mem_map.mp h
          rw [← hz]
          exact hb1, hD.2.2.2.2.upd (by rw [c2]; cases kb <;> rfl)⟩ hL _ (hheap _) X'
    exact ⟨t1, step t1 a2, b2⟩
/-- what a narrower answer holds -/
def ch_nar (ty : FieldType) (x : Int32) : Option Int32 := if vp_nar ty x = x then some x else none
theorem cp_nret {g : State} {kb : Bool} {M : ch_M} {d pc : Nat} {ls : List (Option Value)} {w : ch_W} {Q : Outcome → ch_W → Prop} {β : Type} {res : β} {f : Int32 → Option β} {ty : FieldType} (x : Int32) (hd : decode M.2.1 pc = .ok (.ireturn, 1)) (hr : M.2.2.2.1 = some ty) (hi : ch_isI ty = true) (h : (ch_nar ty x).bind f = some res) (hq : f x = some res → Q (.returned (some (.int x))) w) : ch_FT g kb M d pc ls [.int x] w Q := by
  obtain ⟨b, hb, h⟩ := ch_bd h
  unfold ch_nar at hb
  split at hb
  case isFalse => cases hb
  case isTrue hb0 =>
    cases hb
    refine ch_ireturn _ hd hr ?_ (hq h)
    cases ty <;> first | rfl | (simp only [vp_nar, narrow] at hb0 ⊢; rw [hb0]) | cases hi
/-- how arguments lie in the locals -/
def ch_LY (vs : List Value) (l : List (Option Value)) : Prop := ch_lay vs = l ∧ (lg_sl vs).length = l.length
theorem ch_ly0 : ch_LY [] [] := ⟨rfl, rfl⟩
theorem ch_lgc (a : Value) (vs : List Value) : lg_sl (a :: vs) = (if a.category = 2 then [Slot.val a, Slot.second] else [Slot.val a]) ++ lg_sl vs := by
  simp [lg_sl]
theorem ch_lyi {x : Int32} {vs : List Value} {l : List (Option Value)} (h : ch_LY vs l) : ch_LY (.int x :: vs) (some (.int x) :: l) := by
  have hc : (Value.int x).category ≠ 2 := by intro q; cases q
  refine ⟨by simp [ch_lay, hc, h.1], ?_⟩
  rw [ch_lgc, if_neg hc, List.length_append, h.2]
  simp [Nat.add_comm]
theorem ch_lyl {x : Int64} {vs : List Value} {l : List (Option Value)} (h : ch_LY vs l) : ch_LY (.long x :: vs) (some (.long x) :: none :: l) := by
  have hc : (Value.long x).category = 2 := rfl
  refine ⟨by simp [ch_lay, hc, h.1], ?_⟩
  rw [ch_lgc, if_pos hc, List.length_append, h.2]
  simp only [List.length_cons, List.length_nil]
  omega
theorem ch_lyr {r : Option Nat} {vs : List Value} {l : List (Option Value)} (h : ch_LY vs l) : ch_LY (va_rf r :: vs) (some (va_rf r) :: l) := by
  have hc : (va_rf r).category ≠ 2 := by rw [ch_cat]; decide
  refine ⟨by simp [ch_lay, hc, h.1], ?_⟩
  rw [ch_lgc, if_neg hc, List.length_append, h.2]
  simp [Nat.add_comm]
theorem ch_ctL {g : State} {kb : Bool} (M : ch_M) {d : Nat} {av : List Value} {l ls : List (Option Value)} {w : ch_W} {Q : Outcome → ch_W → Prop} (hc : Cond.code M.1 M.2.1 M.2.2.1 M.2.2.2.1 ∈ lw_all) (hh : M.2.2.2.2 = []) (hl : ch_LY av l) (hn : l.length ≤ M.2.2.1) (he : l ++ List.replicate (M.2.2.1 - l.length) none = ls) (k : ch_FT g kb M d 0 ls [] w Q) : ch_CT g kb M.1 d av w Q := by
  refine ch_ct M hc hh (by rw [hl.2]; exact hn) ?_
  rw [ch_en, hl.1, he]
  exact k
