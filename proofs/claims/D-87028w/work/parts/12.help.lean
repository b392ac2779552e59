/-! LEVEL C: small helpers of the printed proofs; System.arraycopy -/
theorem ch_s1o {ls ls1 : List (Option Value)} {j : Nat} {r : Option Nat} {v : Value} (h1 : ls[j]? = some (some (va_rf r))) (h2 : ls.set (j + 1) (some v) = ls1) : ch_s1 ls (j + 1) v = ls1 := by
  have h3 : (va_rf r).category ≠ 2 := by rw [ch_cat]; decide
  simp only [ch_s1, ch_c2, h1, if_neg h3]
  exact h2
theorem ch_hwA : ∀ rest : List Value, (rest.map fun v => v.category).sum ≤ 2 * rest.length := by
  intro rest
  induction rest with
  | nil => exact Nat.le_refl _
  | cons a r ih =>
    simp only [List.map_cons, List.sum_cons, List.length_cons]
    have : a.category ≤ 2 := by cases a <;> exact Nat.le_of_ble_eq_true rfl
    omega
theorem ch_hw {rest : List Value} {mL : Nat} (h : 2 * rest.length + (mL + 11) ≤ 41) : (rest.map fun v => v.category).sum + (mL + 11) ≤ 41 := by
  have := ch_hwA rest
  omega
theorem ch_ne {x y : Int32} {n : Int} (h : ¬ x = y) (hy : y.toInt = n) : x.toInt ≠ n := fun q => h (Int32.toInt_inj.mp (q.trans hy.symm))
def ch_rc (w : ch_W) (r : Option Nat) (t : Nat) : Option Nat := r.bind fun a => if ch_tg w a = t then some a else none
theorem ch_rcb {w : ch_W} {r : Option Nat} {t b : Nat} (h : ch_rc w r t = some b) : r = some b ∧ ch_tg w b = t := by
  obtain ⟨a, rfl, h1⟩ := ch_bd h
  by_cases hc : ch_tg w a = t
  · rw [if_pos hc] at h1; cases h1; exact ⟨rfl, hc⟩
  · rw [if_neg hc] at h1; cases h1
theorem ch_rs {w : ch_W} {r : Option Nat} {t b : Nat} (h : ch_rc w r t = some b) : r = some b := (ch_rcb h).1
theorem ch_rtg {w : ch_W} {r : Option Nat} {t b : Nat} (h : ch_rc w r t = some b) : ch_tg w b = t := (ch_rcb h).2
theorem ch_rts {w : ch_W} {t a b : Nat} (h : ch_rc w (some a) t = some b) : ch_tg w a = t := by
  obtain ⟨h1, h2⟩ := ch_rcb h
  cases h1
  exact h2
theorem ch_put_tag {m : Nat} {w : ch_W} {σ : ch_S} : ch_tg (ch_put m w σ) m = 3 + 1 := by rw [ch_tg, ch_put_m]
theorem el_0 : ch_elt "java/lang/Object" 0 := Or.inl ⟨rfl, rfl⟩
theorem el_7 : ch_elt "ClassHouse$Kind" 7 := Or.inr (Or.inl ⟨6, _, rfl, rfl, rfl⟩)
theorem el_8 : ch_elt "ClassHouse$Member" 8 := Or.inr (Or.inl ⟨7, _, rfl, rfl, rfl⟩)
theorem el_10 : ch_elt "ClassHouse$Statement" 10 := Or.inr (Or.inl ⟨9, _, rfl, rfl, rfl⟩)
theorem el_11 : ch_elt "ClassHouse$Value" 11 := Or.inr (Or.inl ⟨10, _, rfl, rfl, rfl⟩)
theorem el_20 : ch_elt "java/lang/String" 20 := Or.inr (Or.inr ⟨rfl, rfl⟩)
/-- System.arraycopy within arrays of one type -/
def ch_cpO (o0 o1 : ch_O) (sp dp n : Nat) : ch_O := (o1.1, o1.2.1, va_cpy o0.2.2.1 o1.2.2.1 sp dp n, va_cpy o0.2.2.2.1 o1.2.2.2.1 sp dp n, va_cpy o0.2.2.2.2 o1.2.2.2.2 sp dp n)
theorem ch_cpO_val (ty : FieldType) (o0 o1 : ch_O) (sp dp n j : Nat) : ch_val ty (ch_cpO o0 o1 sp dp n) j = va_cpy (fun k => ch_val ty o0 k) (fun k => ch_val ty o1 k) sp dp n j := by
  by_cases h : dp ≤ j ∧ j < dp + n <;> cases ty <;> simp [ch_val, ch_cpO, va_cpy, h]
/-- the tags whose arrays are copied, and what fits them -/
def ch_cpf (t : Nat) (v : Int32) : Bool := if t = 22 then fits .byte (.int v) else if t = 23 then fits .boolean (.int v) else true
def ch_cp (w : ch_W) (t : Nat) (r0 : Option Nat) (sp : Int32) (r1 : Option Nat) (dp n : Int32) : Option ch_W := r0.bind fun a0 => r1.bind fun a1 =>
  if (ch_tg w a0 = t ∧ ch_tg w a1 = t ∧ ¬ sp < 0 ∧ ¬ dp < 0 ∧ ¬ n < 0 ∧ sp.toNatClampNeg + n.toNatClampNeg ≤ ch_ln w a0 ∧ dp.toNatClampNeg + n.toNatClampNeg ≤ ch_ln w a1) ∧ ∀ i, i < n.toNatClampNeg → ch_cpf t (ch_gi w a0 (sp.toNatClampNeg + i)) = true
  then some (va_up w.1 a1 (ch_cpO (w.1 a0) (w.1 a1) sp.toNatClampNeg dp.toNatClampNeg n.toNatClampNeg), w.2) else none
theorem cp_copy {g : State} {kb : Bool} {M : ch_M} {d pc : Nat} {ls : List (Option Value)} {st : List Value} {w : ch_W} {Q : Outcome → ch_W → Prop} {β : Type} {res : β} {f : ch_W → Option β} {r0 r1 : Option Nat} {sp dp n : Int32} {t idx : Nat} {ty : FieldType}
    (hd : decode M.2.1 pc = .ok (.invokestatic idx, 3)) (ht : ch_aty t = some ty) (hm : t < 51) (hfit : ∀ (o : ch_O) (k : Nat), ch_cpf t (o.2.2.1 k) = true → fits ty (ch_val ty o k) = true) (hprim : refKind ty = false) (hkb : (kb && ch_mt t) = false) (hlink : Cond.methodLink M.1.cls idx arraycopyName ∈ lw_all) (hd1 : 1 ≤ d) (hw : 2 * st.length + 20 ≤ 41) (h : (ch_cp w t r0 sp r1 dp n).bind f = some res)
    (kk : ∀ v, f v = some res → ch_FT g kb M d (pc + 3) ls st v Q) : ch_FT g kb M d pc ls (.int n :: .int dp :: va_rf r1 :: .int sp :: va_rf r0 :: st) w Q := by
  obtain ⟨v, h1, h2⟩ := ch_bd h
  unfold ch_cp at h1
  obtain ⟨a0, rfl, h3⟩ := ch_bd h1
  obtain ⟨a1, rfl, h4⟩ := ch_bd h3
  split at h4
  case isFalse => cases h4
  case isTrue hc =>
    cases h4
    obtain ⟨⟨c1, c2, c3, c4, c5, c6, c7⟩, c8⟩ := hc
    intro p l e R s m args below meth c H locs cells slots w0 ls' hI hD hL T hT X
    obtain ⟨hx, hb, hml, -, -, -, -, hown, hok, ⟨hr1, hr2, -⟩, -⟩ := id hI
    obtain ⟨e0, hb0⟩ := ch_arrM hD.1 (by rw [c1]; exact ht) (by rw [c1]; exact hm)
    obtain ⟨e1, hb1⟩ := ch_arrM hD.1 (by rw [c2]; exact ht) (by rw [c2]; exact hm)
    have nn : ∀ z : Int32, ¬ z < 0 → z.toInt = (z.toNatClampNeg : Int) := by
      intro z hz
      have hz0 : (0 : Int) ≤ z.toInt := by
        have := Int32.not_lt.mp hz
        simpa using Int32.le_iff_toInt_le.mp this
      show z.toInt = ((z.toInt.toNat : Nat) : Int)
      omega
    have hmem : ty ∈ ch_ty := (ch_aty_mem ht).1
    have hAr := arrOfT_moved hok.1 (hok.2.1.2 _ hmem).1
    obtain ⟨-, k0, hk0, cm0, hkk0⟩ := hAr (ch_ln w a0) (fun k => ch_val ty (w.1 a0) k)
    obtain ⟨-, k1, hk1, cm1, hkk1⟩ := hAr (ch_ln w a1) (fun k => ch_val ty (w.1 a1) k)
    obtain ⟨vm', X', step⟩ := X.arraycopy hx hown (hok.use hlink) (hok.use q629) (hok.use q628) (hok.use q218) (src := a0) (dst := a1) (srcPos := sp) (destPos := dp) (n := n) (by rw [hT]; exact e0) (by rw [hT]; exact e1)
      (fun _ h => by cases h) (fun _ h => by cases h) (fun h => by cases h) (fun h => by cases h) hk0 hk1 hkk0 hkk1 (by simp [hprim]) c3 c4 c5
      (by rw [nn sp c3, nn n c5, arrV_size]; omega)
      (by rw [nn dp c4, nn n c5, arrV_size]; omega)
      (fun vm₁ _ i hi => by
        have e : (arrV (ch_aC g ty) (ch_ln w a0) (fun k => ch_val ty (w.1 a0) k)).slots.getD (sp.toNatClampNeg + i) .null = ch_val ty (w.1 a0) (sp.toNatClampNeg + i) := by
          rw [Array.getD_eq_getD_getElem?, arrV_read _ _ (by omega)]
          rfl
        refine ⟨?_, ?_⟩
        · rw [e]
          exact hfit _ _ (c8 i hi)
        · rw [e]
          cases ty <;> first | exact trivial | cases hprim)
      (g := F0 m pc ls' (.int n :: .int dp :: .ref a1 :: .int sp :: .ref a0 :: st)) rfl (by rw [hml]; exact hL.1) (rest := st) rfl (by rw [hb]; exact hd) (by omega) (by
        have h9 := ch_hwA st
        have h8 : nativeFrameWords "java/lang/System" "arraycopy" 5 ≤ 9 := by decide
        show 2 * 0 + (st.map fun v => v.category).sum + (nativeFrameWords "java/lang/System" "arraycopy" 5 + 11) ≤ R.locals
        omega)
    have e2 : copied (arrV (ch_aC g ty) (ch_ln w a0) (fun k => ch_val ty (w.1 a0) k)) (arrV (ch_aC g ty) (ch_ln w a1) (fun k => ch_val ty (w.1 a1) k)) sp dp n = arrV (ch_aC g ty) (ch_ln w a1) (fun j => va_cpy (fun k => ch_val ty (w.1 a0) k) (fun k => ch_val ty (w.1 a1) k) sp.toNatClampNeg dp.toNatClampNeg n.toNatClampNeg j) := va_copied (fun z => z) _ _ _ _ c6
    rw [e2] at X' step
    have hl : a1 < H.size := (Array.getElem?_eq_some_iff.mp e1).1
    have hheap : ∀ cell : Cell, ((T.setVm vm').setCell a1 cell).heap = H.setIfInBounds a1 cell := fun cell => by rw [← hT]; rfl
    obtain ⟨t1, a2, b2⟩ := kk _ h2 (l := l) (e := e) (args := args) (below := below) (cells := cells) (slots := slots) hI (H := H.setIfInBounds a1 (arrV (ch_aC g ty) (ch_ln w a1) (fun j => va_cpy (fun k => ch_val ty (w.1 a0) k) (fun k => ch_val ty (w.1 a1) k) sp.toNatClampNeg dp.toNatClampNeg n.toNatClampNeg j))) ⟨hD.1.upd (by simp) (fun q hq => by simp [Array.getElem?_setIfInBounds, Ne.symm hq]) hb1 (Or.inr (Or.inl ⟨ty, by show (w.1 a1).1 < 51; have : (w.1 a1).1 = t := c2; omega, by show ch_aty (w.1 a1).1 = some ty; have : (w.1 a1).1 = t := c2; rw [this]; exact ht, by
        have hfun : (fun j => va_cpy (fun k => ch_val ty (w.1 a0) k) (fun k => ch_val ty (w.1 a1) k) sp.toNatClampNeg dp.toNatClampNeg n.toNatClampNeg j) = fun k => ch_val ty (ch_cpO (w.1 a0) (w.1 a1) sp.toNatClampNeg dp.toNatClampNeg n.toNatClampNeg) k := funext fun j => (ch_cpO_val ty _ _ _ _ _ j).symm
        rw [hfun, Array.getElem?_setIfInBounds, if_pos rfl, if_pos hl]
        rfl, hb1⟩)), hD.2.1, hD.2.2.1, fun q hq => by
        rcases List.mem_append.mp hq with h | h
        · exact hD.2.2.2.1 q h
        · obtain ⟨z, -, hz⟩ := List.mem_map.mp h
          rw [← hz]
          exact hb1, hD.2.2.2.2.upd (by rw [c2]; exact hkb)⟩ hL _ (hheap _) X'
    exact ⟨t1, step t1 a2, b2⟩
theorem ft_21 : ∀ (o : ch_O) (k : Nat), ch_cpf 21 (o.2.2.1 k) = true → fits .int (ch_val .int o k) = true := fun _ _ _ => rfl
theorem ft_22 : ∀ (o : ch_O) (k : Nat), ch_cpf 22 (o.2.2.1 k) = true → fits .byte (ch_val .byte o k) = true := fun _ _ h => h
theorem ft_23 : ∀ (o : ch_O) (k : Nat), ch_cpf 23 (o.2.2.1 k) = true → fits .boolean (ch_val .boolean o k) = true := fun _ _ h => h
theorem ft_24 : ∀ (o : ch_O) (k : Nat), ch_cpf 24 (o.2.2.1 k) = true → fits .long (ch_val .long o k) = true := fun _ _ _ => rfl
