/-! LEVEL A: rows of the heap -/
theorem ch_at.kept {g : State} {H H' : Heap} {a : Nat} {o : ch_O} (h : ch_at g H a o) (he : H'[a]? = H[a]?) : ch_at g H' a o := by
  rcases h with ⟨ci, q, h1, h2, h3, h4, h5⟩ | ⟨ty, h1, h2, h3, h4⟩ | ⟨ty, h1, h2, cell, h3, h4⟩ | h
  · exact Or.inl ⟨ci, q, h1, h2, h3.kept he, h4, by rw [he]; exact h5⟩
  · exact Or.inr (Or.inl ⟨ty, h1, h2, by rw [he]; exact h3, h4⟩)
  · exact Or.inr (Or.inr (Or.inl ⟨ty, h1, h2, cell, by rw [he]; exact h3, h4⟩))
  · exact Or.inr (Or.inr (Or.inr h))
theorem ch_Rep.upd {g : State} {w : ch_W} {H H' : Heap} {a : Nat} {o' : ch_O} (hr : ch_Rep g w H) (hz : H'.size = H.size) (ho : ∀ q, q ≠ a → H'[q]? = H[q]?) (hb : g.heap.size ≤ a) (hat : ch_at g H' a o') : ch_Rep g (va_up w.1 a o', w.2) H' := by
  obtain ⟨h1, h2, h3, h4, h5⟩ := hr
  refine ⟨fun b hb' => ?_, by rw [hz]; exact h2, by rw [hz]; exact h3, fun q hq => ?_, h5⟩
  · by_cases hab : b = a
    · subst hab
      simp only [va_up, if_true] at hb' ⊢
      exact hat
    · simp only [va_up, if_neg hab] at hb' ⊢
      exact (h1 b hb').kept (ho b hab)
  · rw [ho q (by omega)]
    exact h4 q hq
theorem ch_Rep.push {g : State} {w : ch_W} {H H' : Heap} {o' : ch_O} (hr : ch_Rep g w H) (hz : H'.size = H.size + 1) (ho : ∀ q, q < H.size → H'[q]? = H[q]?) (hat : ch_at g H' H.size o') (hc : w.2.2.1 + 1 ≤ 601024) (hs : w.2.2.2 + o'.2.1 ≤ 7293034) : ch_Rep g (ch_nw w o') H' := by
  obtain ⟨h1, h2, h3, h4, h5⟩ := hr
  refine ⟨fun b hb' => ?_, by rw [hz]; show w.2.1 + 1 = _; rw [h2], by omega, fun q hq => ?_, hc, hs⟩
  · by_cases hab : b = w.2.1
    · subst hab
      simp only [ch_nw, va_up, if_true] at hb' ⊢
      rw [h2]
      exact hat
    · simp only [ch_nw, va_up, if_neg hab] at hb' ⊢
      have h6 := h1 b hb'
      by_cases hlt : b < H.size
      · exact h6.kept (ho b hlt)
      · exfalso
        have hno : H[b]? = none := Array.getElem?_eq_none (by omega)
        rcases h6 with ⟨ci, q, -, -, ⟨cell, g1, -⟩, -⟩ | ⟨ty, -, -, g1, -⟩ | ⟨ty, -, -, cell, g1, -⟩ | ⟨-, ⟨cell, g1, -⟩, -⟩
        · rw [hno] at g1; cases g1
        · rw [hno] at g1; cases g1
        · rw [hno] at g1; cases g1
        · have : b < g.heap.size := (Array.getElem?_eq_some_iff.mp g1).1
          omega
  · rw [ho q (by omega)]
    exact h4 q hq
/-- what holds of every world that a heap holds -/
def ch_WF (w : ch_W) : Prop := (∀ b, ch_tg w b ≠ 0 → b < ch_nx w) ∧ ch_cs w ≤ 601024 ∧ ch_sl w ≤ 7293034
/-- room for one more cell of n slots -/
def ch_rm (w : ch_W) (n : Nat) : Prop := ch_cs w + 1 ≤ 601024 ∧ ch_sl w + n ≤ 7293034
theorem ch_Rep.wf {g : State} {w : ch_W} {H : Heap} (h : ch_Rep g w H) : ch_WF w := by
  refine ⟨fun b hb => ?_, h.2.2.2.2.1, h.2.2.2.2.2⟩
  show b < w.2.1
  rw [h.2.1]
  rcases h.1 b hb with ⟨ci, q, -, -, ⟨cell, g1, -⟩, -⟩ | ⟨ty, -, -, g1, -⟩ | ⟨ty, -, -, cell, g1, -⟩ | ⟨-, ⟨cell, g1, -⟩, -⟩
  · exact (Array.getElem?_eq_some_iff.mp g1).1
  · exact (Array.getElem?_eq_some_iff.mp g1).1
  · exact (Array.getElem?_eq_some_iff.mp g1).1
  · exact Nat.lt_of_lt_of_le (Array.getElem?_eq_some_iff.mp g1).1 h.2.2.1
theorem ch_Dy.nw {g : State} {kb : Bool} {w0 w : ch_W} {H : Heap} {locs : List Loc} {cells slots : Nat} {o : ch_O} (hD : ch_Dy g kb w0 w H locs cells slots) : ch_kp kb w0 (ch_nw w o) := by
  refine hD.2.2.2.2.upd ?_
  have h0 : ch_tg w w.2.1 = 0 := by
    by_cases h : ch_tg w w.2.1 = 0
    · exact h
    · exact absurd (hD.1.wf.1 _ h) (Nat.lt_irrefl _)
  rw [h0]
  cases kb <;> rfl
/-- what the words say of each class -/
def ch_plain : FieldType → Bool
  | .float => false
  | .double => false
  | _ => true
def ch_clsok (ci : Nat) (q : vw_C) : Prop := (∀ w ∈ u_ws q.1 q.2.1 q.2.2, w ∈ lw_all) ∧ (∀ k, k < q.2.2 → parseFieldDescriptor (q.2.1 k).2.2.1 = some (ch_ft ci k)) ∧ (∀ a, a < q.2.2 → ∀ b, b < q.2.2 → a ≠ b → (q.2.1 a).2.1 ≠ (q.2.1 b).2.1)
theorem ch_cls : ∀ (ci : Nat) (q : vw_C), ch_cl[ci]? = some q → ch_clsok ci q := by
  intro ci q h
  match ci, h with
  | 0, h => cases h; exact ⟨in_X0, tyX0_ok, nmX0⟩
  | 1, h => cases h; exact ⟨in_X1, tyX1_ok, nmX1⟩
  | 2, h => cases h; exact ⟨in_X2, tyX2_ok, nmX2⟩
  | 3, h => cases h; exact ⟨in_X3, tyX3_ok, nmX3⟩
  | 4, h => cases h; exact ⟨in_X4, tyX4_ok, nmX4⟩
  | 5, h => cases h; exact ⟨in_X5, tyX5_ok, nmX5⟩
  | 6, h => cases h; exact ⟨in_X6, tyX6_ok, nmX6⟩
  | 7, h => cases h; exact ⟨in_X7, tyX7_ok, nmX7⟩
  | 8, h => cases h; exact ⟨in_X8, tyX8_ok, nmX8⟩
  | 9, h => cases h; exact ⟨in_X9, tyX9_ok, nmX9⟩
  | 10, h => cases h; exact ⟨in_X10, tyX10_ok, nmX10⟩
  | 11, h => cases h; exact ⟨in_X11, tyX11_ok, nmX11⟩
  | 12, h => cases h; exact ⟨in_X12, tyX12_ok, nmX12⟩
  | 13, h => cases h; exact ⟨in_J5, tyJ5_ok, nmJ5⟩
  | n + 14, h => simp [ch_cl] at h
theorem ch_obj {g : State} {w : ch_W} {H : Heap} {a ci : Nat} {q : vw_C} (hr : ch_Rep g w H) (hq : ch_cl[ci]? = some q) (ht : ch_tg w a = ci + 1) : t_OB a (ch_dC g ci) q.2.2 (ch_dI g ci) H (fun k => ch_val (ch_ft ci k) (w.1 a) k) ∧ g.heap.size ≤ a ∧ ∀ cell : Cell, H[a]? = some cell → cell.monitor.owner = none ∧ cell.monitor.count = 0 := by
  have htg : (w.1 a).1 = ci + 1 := ht
  have hci : ci < 14 := (List.getElem?_eq_some_iff.mp hq).1
  rcases hr.1 a (by omega) with ⟨ci', q', h1, h3, h4, h5⟩ | ⟨ty, -, h1, -⟩ | ⟨ty, h0, -⟩ | ⟨h0, -⟩
  · have he : ci' = ci := by omega
    subst he
    cases h3.symm.trans hq
    exact ⟨h4, h5⟩
  · rw [htg] at h1
    unfold ch_aty at h1
    rw [if_pos (by omega)] at h1
    cases h1
  · omega
  · omega
theorem ch_aty_mem {t : Nat} {ty : FieldType} (h : ch_aty t = some ty) : ty ∈ ch_ty ∧ 21 ≤ t := by
  unfold ch_aty at h
  split at h
  · cases h
  · split at h
    · exact ⟨List.mem_of_getElem? h, by omega⟩
    · split at h
      · exact ⟨List.mem_of_getElem? h, by omega⟩
      · exact ⟨List.mem_of_getElem? h, by omega⟩
theorem ch_arrM {g : State} {w : ch_W} {H : Heap} {a : Nat} {ty : FieldType} (hr : ch_Rep g w H) (ht : ch_aty (ch_tg w a) = some ty) (hm : ch_tg w a < 51) : H[a]? = some (arrV (ch_aC g ty) (ch_ln w a) (fun k => ch_val ty (w.1 a) k)) ∧ g.heap.size ≤ a := by
  obtain ⟨-, h21⟩ := ch_aty_mem ht
  have e0 : (w.1 a).1 = ch_tg w a := rfl
  rcases hr.1 a (by omega) with ⟨ci', q', h1, h3, h4, h5⟩ | ⟨ty', -, h1, h2, h3⟩ | ⟨ty', h0, -⟩ | ⟨h0, -⟩
  · have hci : ci' < 14 := (List.getElem?_eq_some_iff.mp h3).1
    omega
  · cases h1.symm.trans ht
    exact ⟨h2, h3⟩
  · omega
  · omega
theorem ch_arrR {g s : State} {w : ch_W} {H : Heap} {a : Nat} {ty : FieldType} (hok : ch_ok g s) (hr : ch_Rep g w H) (ht : ch_aty (ch_tg w a) = some ty) : ∃ cell : Cell, H[a]? = some cell ∧ s.isArrayOf cell ty ∧ cell.vm ≠ .unknown ∧ ch_ln w a ≤ cell.slots.size ∧ cell.slots.size.toInt32 = Int32.ofNat (ch_ln w a) ∧ ∀ j : Nat, j < ch_ln w a → cell.slots[j]? = some (ch_val ty (w.1 a) j) := by
  by_cases hm : ch_tg w a < 51
  · obtain ⟨h1, -⟩ := ch_arrM hr ht hm
    refine ⟨_, h1, ?_, (fun q => by cases q), ?_, ?_, fun j hj => ?_⟩
    · exact (arrOfT_moved hok.1 (hok.2.1.2 ty (ch_aty_mem ht).1).1) _ _
    · rw [arrV_size]; exact Nat.le_refl _
    · rw [arrV_size] <;> rfl
    · rw [arrV_read _ _ hj]
  · obtain ⟨-, h21⟩ := ch_aty_mem ht
    have e0 : (w.1 a).1 = ch_tg w a := rfl
    rcases hr.1 a (by omega) with ⟨ci', q', h1, h3, h4, h5⟩ | ⟨ty', h0, -⟩ | ⟨ty', h0, h1, cell, g1, g2, g3, g4, g5, g6, -⟩ | ⟨h0, -⟩
    · have hci : ci' < 14 := (List.getElem?_eq_some_iff.mp h3).1
      omega
    · omega
    · cases h1.symm.trans ht
      exact ⟨cell, g1, State.isArrayOf_alike hok.1 g2, g3, g4, g5, g6⟩
    · omega
/-- the object after a store of an int, a reference, a long, by its values -/
theorem ch_val_si {ty : FieldType} {o : ch_O} {k j : Nat} {x : Int32} (h : ∀ o' : ch_O, ∀ i, ch_val ty o' i = .int (o'.2.2.1 i)) : ch_val ty ((o.1, o.2.1, va_up o.2.2.1 k x, o.2.2.2) : ch_O) j = if j = k then .int x else ch_val ty o j := by
  rw [h, h]
  by_cases hj : j = k
  · subst hj; simp [va_up]
  · simp [va_up, hj]
theorem ch_val_siO {ty : FieldType} {o : ch_O} {k j : Nat} {x : Int32} (hj : j ≠ k) : ch_val ty ((o.1, o.2.1, va_up o.2.2.1 k x, o.2.2.2) : ch_O) j = ch_val ty o j := by
  cases ty <;> simp [ch_val, va_up, hj]
theorem ch_val_srO {ty : FieldType} {o : ch_O} {k j : Nat} {x : Option Nat} (hj : j ≠ k) : ch_val ty ((o.1, o.2.1, o.2.2.1, va_up o.2.2.2.1 k x, o.2.2.2.2) : ch_O) j = ch_val ty o j := by
  cases ty <;> simp [ch_val, va_up, hj]
theorem ch_val_sLO {ty : FieldType} {o : ch_O} {k j : Nat} {x : Int64} (hj : j ≠ k) : ch_val ty ((o.1, o.2.1, o.2.2.1, o.2.2.2.1, va_up o.2.2.2.2 k x) : ch_O) j = ch_val ty o j := by
  cases ty <;> simp [ch_val, va_up, hj]
/-- which type has its values among the ints, the references, the longs -/
def ch_isI : FieldType → Bool
  | .int => true
  | .byte => true
  | .boolean => true
  | .char => true
  | .short => true
  | _ => false
def ch_isR : FieldType → Bool
  | .object _ => true
  | .array _ => true
  | _ => false
theorem ch_val_I {ty : FieldType} (h : ch_isI ty = true) (o : ch_O) (k : Nat) : ch_val ty o k = .int (o.2.2.1 k) := by
  cases ty <;> first | rfl | cases h
theorem ch_val_R {ty : FieldType} (h : ch_isR ty = true) (o : ch_O) (k : Nat) : ch_val ty o k = va_rf (o.2.2.2.1 k) := by
  cases ty <;> first | rfl | cases h
section HEAP
variable {g : State} {kb : Bool} {M : ch_M} {d pc : Nat} {ls : List (Option Value)} {st : List Value} {w : ch_W} {Q : Outcome → ch_W → Prop}
/-- the field that an entry of the pool means is the k-th of the class ci -/
def ch_fl (own : String) (idx ci k : Nat) : Prop := ∃ (q : vw_C) (ref : String), ch_cl[ci]? = some q ∧ k < q.2.2 ∧ (ref = (q.2.1 k).1 ∨ Cond.sameField ref (q.2.1 k).1 (q.2.1 k).2.1 (q.2.1 k).2.2.1 ∈ lw_all) ∧ (Cond.fieldLink own idx ref (q.2.1 k).2.1 (q.2.1 k).2.2.1 ∈ lw_all ∨ ∃ host, Cond.fieldLinkNest own idx ref (q.2.1 k).2.1 (q.2.1 k).2.2.1 host ∈ lw_tbl)
theorem ch_get (r : Option Nat) {a ci k idx : Nat} (v : Value) (hr : r = some a) (hd : decode M.2.1 pc = .ok (.getfield idx, 3)) (hf : ch_fl M.1.cls idx ci k) (hv : ch_val (ch_ft ci k) (w.1 a) k = v) (ht : ch_tg w a = ci + 1) (kk : ch_FT g kb M d (pc + 3) ls (v :: st) w Q) : ch_FT g kb M d pc ls (va_rf r :: st) w Q := by
  intro p l e R s m args below meth c H locs cells slots w0 ls' hI hD hL
  subst hr
  obtain ⟨q, ref, hq, hk, hsm, hlink⟩ := hf
  have hok := hI.2.2.2.2.2.2.2.2.1
  have hown := hI.2.2.2.2.2.2.2.1
  obtain ⟨⟨cell, q1, q2, q3, q4⟩, -⟩ := ch_obj hD.1 hq ht
  obtain ⟨hS, hfc, kC, hkC, hkind⟩ := u_Kn_moved hok.1 (hok.2.1.1 ci q hq)
  obtain ⟨cf, kf, fi, f, hi, hsl⟩ := hS k hk
  have hts : ∀ w ∈ lw_all, w.before args s = true := fun w h => hok.use h
  have hsame : s.fieldFound? ref (q.2.1 k).2.1 (q.2.1 k).2.2.1 = some (cf, kf, fi, f) := by
    rcases hsm with rfl | h
    · exact hi
    · exact u_same (hts _ h) _ hi
  have hst := (u_facts hfc hkC (u_lays hts (ch_cls ci q hq).1 hk) hi).1
  have hsv : cell.slots[f.slot]? = some v := by rw [hsl, q4 k hk]; exact congrArg some hv
  rcases hlink with h | ⟨host, h⟩
  · exact W.getf hI.1 hI.2.1 hown (hts _ h) hsame hst q1 (by rw [q3]; exact fun h => by cases h) hsv rfl rfl hd (kk hI hD hL)
  · exact va_Wgetf hI.1 hI.2.1 hown (hok.nest h rfl rfl) hsame hst q1 (by rw [q3]; exact fun h => by cases h) hsv rfl rfl hd (kk hI hD hL)
/-- the general store in a field: o' is the object behind it -/
theorem ch_putG (r : Option Nat) {a ci k idx : Nat} {v : Value} {o' : ch_O} (hr : r = some a) (hd : decode M.2.1 pc = .ok (.putfield idx, 3)) (hf : ch_fl M.1.cls idx ci k) (ht : ch_tg w a = ci + 1) (hfin : (match ch_cl[ci]? with | some q => (!(q.2.1 k).2.2.2) || (decide (M.1.name = "<init>") && decide ((q.2.1 k).1 = M.1.cls)) | none => false) = true)
    (hn : narrow (ch_ft ci k) v = v) (hfit : fits (ch_ft ci k) v = true) (ho1 : o'.1 = (w.1 a).1) (ho2 : ∀ j, ch_val (ch_ft ci j) o' j = if j = k then v else ch_val (ch_ft ci j) (w.1 a) j)
    (hkb : (kb && ch_mt (ci + 1)) = false) (kk : ch_FT g kb M d (pc + 3) ls st (va_up w.1 a o', w.2) Q) : ch_FT g kb M d pc ls (v :: va_rf r :: st) w Q := by
  intro p l e R s m args below meth c H locs cells slots w0 ls' hI hD hL
  subst hr
  obtain ⟨q, ref, hq, hk, hsm, hlink⟩ := hf
  have hok := hI.2.2.2.2.2.2.2.2.1
  have hown := hI.2.2.2.2.2.2.2.1
  obtain ⟨⟨cell, q1, q2, q3, q4⟩, hbase, hmon⟩ := ch_obj hD.1 hq ht
  have hKn := u_Kn_moved hok.1 (hok.2.1.1 ci q hq)
  obtain ⟨hS, hfc, kC, hkC, hkind⟩ := hKn
  obtain ⟨cf, kf, fi, f, hi, hsl⟩ := hS k hk
  have hts : ∀ w ∈ lw_all, w.before args s = true := fun w h => hok.use h
  obtain ⟨hin, hty, hnm⟩ := ch_cls ci q hq
  have hap : ∀ x y, x < q.2.2 → y < q.2.2 → x ≠ y → ch_dI g ci x ≠ ch_dI g ci y := by
    intro x y hx hy hne
    obtain ⟨_, _, _, fa, hia, ea⟩ := hS x hx
    obtain ⟨_, _, _, fb, hib, eb⟩ := hS y hy
    rw [← ea, ← eb]
    refine u_apart (u_lays hts hin hx) (u_lays hts hin hy) hia hib ?_
    rw [(State.fieldFound?_type hia (hty x hx)).1, (State.fieldFound?_type hib (hty y hy)).1]
    exact hnm x hx y hy hne
  have hsame : s.fieldFound? ref (q.2.1 k).2.1 (q.2.1 k).2.2.1 = some (cf, kf, fi, f) := by
    rcases hsm with rfl | h
    · exact hi
    · exact u_same (hts _ h) _ hi
  have hst := (u_facts hfc hkC (u_lays hts hin hk) hi).1
  have hd' := hty k hk
  have hlay := hts _ (hin _ (u_in_lay hk))
  have fin : ∀ H' : Heap, H'[a]? = some (cell.setSlot f.slot v) → H'.size = H.size → (∀ q, q ≠ a → H'[q]? = H[q]?) →
      W p l e R s m args below meth c H' (locs ++ [⟨a, f.slot⟩]) cells slots (ch_End g kb below s w0 Q) (F0 m (pc + 3) ls' st) := by
    intro H' e1 e2 e3
    rw [hsl] at e1
    refine kk hI ⟨hD.1.upd e2 e3 hbase (Or.inl ⟨ci, q, ho1.trans ht, hq, t_OB.to (V := updV (fun k => ch_val (ch_ft ci k) (w.1 a) k) k v) ⟨_, e1, q2, q3, t_set q4 hap hk v⟩ (fun j _ => (ho2 j).symm ▸ rfl), hbase, fun cell' hc' => by rw [e1] at hc'; cases hc'; exact hmon cell q1⟩), hD.2.1, hD.2.2.1, fun x hx => ?_, hD.2.2.2.2.upd (by rw [ht]; exact hkb)⟩ hL
    rcases List.mem_append.mp hx with h | h
    · exact hD.2.2.2.1 x h
    · rw [List.mem_singleton.mp h]; exact hbase
  rw [hq] at hfin
  simp only [Bool.or_eq_true, Bool.not_eq_true', Bool.and_eq_true, decide_eq_true_eq] at hfin
  unfold u_lay at hlay
  by_cases hff : (q.2.1 k).2.2.2 = true
  · rw [if_pos hff] at hlay
    rcases hfin with h | ⟨hini, hdecl⟩
    · rw [hff] at h; cases h
    · have hcf : m.cls = cf := by
        obtain ⟨_, _, c', _, _, _, -, -, hf', -, -, -, hown2, -⟩ := Cond.laysFinal_spec hlay
        have e1 : c' = cf := by have := hi.symm.trans hf'; simp at this; exact this.1.symm
        rw [hdecl] at hown2
        rw [← e1]; exact Option.some.inj (hown.symm.trans hown2)
      have h6 := u_fits hfc hkC hkind (Or.inr hlay) hi hd' hn hfit
      have hmn : meth.name = "<init>" := hI.2.2.2.2.2.1.trans hini
      rcases hlink with h | ⟨host, h⟩
      · exact W.putFinK hI.1 hI.2.1 hown (hts _ h) hsame hst hcf hmn (by rw [q2]; exact h6) q1 q3 (by rw [hsl]; exact k2_hasslot (q4 k hk)) rfl rfl hd fin
      · have ha : a < H.size := (Array.getElem?_eq_some_iff.mp q1).1
        refine va_Wputf hI.1 hI.2.1 hown (hok.nest h rfl rfl) hsame hst (Or.inr ⟨hcf, hmn⟩) q1 (by rw [q3]; exact fun h => by cases h) (by rw [hsl]; exact k2_hasslot (q4 k hk)) h6.1 (by rw [q3, q2]; exact h6.2) rfl rfl hd ?_
        refine fin _ ?_ ?_ ?_
        · simp [Array.getElem?_setIfInBounds, ha]
        · simp
        · intro q hq
          simp [Array.getElem?_setIfInBounds, Ne.symm hq]
  · rw [if_neg hff] at hlay
    have h6 := u_store hfc hkC hkind hlay hi hd' hn hfit
    rcases hlink with h | ⟨host, h⟩
    · exact W.putK hI.1 hI.2.1 (f := f) ⟨hown, hts _ h, ⟨_, _, _, hsame⟩, hst⟩ (by rw [q2]; exact h6) q1 q3 (by rw [hsl]; exact k2_hasslot (q4 k hk)) rfl rfl hd fin
    · exact va_WputK hI.1 hI.2.1 hown (hok.nest h rfl rfl) hsame hst (by rw [q2]; exact h6) q1 q3 (by rw [hsl]; exact k2_hasslot (q4 k hk)) rfl rfl hd fin
/-- stores in fields: an int, a reference, a long -/
theorem ch_putI (r : Option Nat) {a ci k idx : Nat} (x : Int32) (hr : r = some a) (hd : decode M.2.1 pc = .ok (.putfield idx, 3)) (hf : ch_fl M.1.cls idx ci k) (hfin : (match ch_cl[ci]? with | some q => (!(q.2.1 k).2.2.2) || (decide (M.1.name = "<init>") && decide ((q.2.1 k).1 = M.1.cls)) | none => false) = true)
    (hi : ch_isI (ch_ft ci k) = true) (ht : ch_tg w a = ci + 1) (hn : narrow (ch_ft ci k) (.int x) = .int x) (hfit : fits (ch_ft ci k) (.int x) = true) (hkb : (kb && ch_mt (ci + 1)) = false) (kk : ch_FT g kb M d (pc + 3) ls st (ch_si w a k x) Q) : ch_FT g kb M d pc ls (.int x :: va_rf r :: st) w Q := by
  refine ch_putG r (o' := ((w.1 a).1, (w.1 a).2.1, va_up (w.1 a).2.2.1 k x, (w.1 a).2.2.2)) hr hd hf ht hfin hn hfit rfl (fun j => ?_) hkb kk
  by_cases hj : j = k
  · subst hj
    rw [if_pos rfl, ch_val_I hi]
    simp [va_up]
  · rw [if_neg hj]
    exact ch_val_siO hj
theorem ch_putR (r : Option Nat) {a ci k idx : Nat} (x : Option Nat) (hr : r = some a) (hd : decode M.2.1 pc = .ok (.putfield idx, 3)) (hf : ch_fl M.1.cls idx ci k) (hfin : (match ch_cl[ci]? with | some q => (!(q.2.1 k).2.2.2) || (decide (M.1.name = "<init>") && decide ((q.2.1 k).1 = M.1.cls)) | none => false) = true)
    (hi : ch_isR (ch_ft ci k) = true) (ht : ch_tg w a = ci + 1) (hkb : (kb && ch_mt (ci + 1)) = false) (kk : ch_FT g kb M d (pc + 3) ls st (ch_sr w a k x) Q) : ch_FT g kb M d pc ls (va_rf x :: va_rf r :: st) w Q := by
  have hn : narrow (ch_ft ci k) (va_rf x) = va_rf x := by
    cases hty : ch_ft ci k <;> rw [hty] at hi <;> first | (cases x <;> rfl) | cases hi
  have hfit : fits (ch_ft ci k) (va_rf x) = true := by
    cases hty : ch_ft ci k <;> rw [hty] at hi <;> first | (cases x <;> rfl) | cases hi
  refine ch_putG r (o' := ((w.1 a).1, (w.1 a).2.1, (w.1 a).2.2.1, va_up (w.1 a).2.2.2.1 k x, (w.1 a).2.2.2.2)) hr hd hf ht hfin hn hfit rfl (fun j => ?_) hkb kk
  by_cases hj : j = k
  · subst hj
    rw [if_pos rfl, ch_val_R hi]
    simp [va_up]
  · rw [if_neg hj]
    exact ch_val_srO hj
theorem ch_putL (r : Option Nat) {a ci k idx : Nat} (x : Int64) (hr : r = some a) (hd : decode M.2.1 pc = .ok (.putfield idx, 3)) (hf : ch_fl M.1.cls idx ci k) (hfin : (match ch_cl[ci]? with | some q => (!(q.2.1 k).2.2.2) || (decide (M.1.name = "<init>") && decide ((q.2.1 k).1 = M.1.cls)) | none => false) = true)
    (hi : ch_ft ci k = .long) (ht : ch_tg w a = ci + 1) (hkb : (kb && ch_mt (ci + 1)) = false) (kk : ch_FT g kb M d (pc + 3) ls st (ch_sL w a k x) Q) : ch_FT g kb M d pc ls (.long x :: va_rf r :: st) w Q := by
  refine ch_putG r (o' := ((w.1 a).1, (w.1 a).2.1, (w.1 a).2.2.1, (w.1 a).2.2.2.1, va_up (w.1 a).2.2.2.2 k x)) hr hd hf ht hfin (by rw [hi]; rfl) (by rw [hi]; rfl) rfl (fun j => ?_) hkb kk
  by_cases hj : j = k
  · subst hj
    rw [if_pos rfl, hi]
    simp [va_up, ch_val]
  · rw [if_neg hj]
    exact ch_val_sLO hj
/-- loads from arrays -/
theorem ch_iald (r : Option Nat) {a : Nat} (i : Int32) (hr : r = some a) (hd : decode M.2.1 pc = .ok (.iaload, 1)) (ht : ch_aty (ch_tg w a) = some .int) (hin : vp_in i (ch_ln w a)) (kk : ch_FT g kb M d (pc + 1) ls (.int (ch_gi w a i.toNatClampNeg) :: st) w Q) : ch_FT g kb M d pc ls (.int i :: va_rf r :: st) w Q := by
  intro p l e R s m args below meth c H locs cells slots w0 ls' hI hD hL
  subst hr
  obtain ⟨cell, h1, h2, h3, h4, -, h6⟩ := ch_arrR hI.2.2.2.2.2.2.2.2.1 hD.1 ht
  exact W.iald hI.1 hI.2.1 h1 h2 h3 (fun q => hin (q.imp id (fun q => Nat.le_trans h4 q))) (h6 _ (Nat.not_le.mp fun q => hin (Or.inr q))) rfl rfl hd (kk hI hD hL)
theorem ch_bald (r : Option Nat) {a : Nat} (i : Int32) (hr : r = some a) (hd : decode M.2.1 pc = .ok (.baload, 1)) (ht : ch_aty (ch_tg w a) = some .byte) (hin : vp_in i (ch_ln w a)) (kk : ch_FT g kb M d (pc + 1) ls (.int (ch_gi w a i.toNatClampNeg) :: st) w Q) : ch_FT g kb M d pc ls (.int i :: va_rf r :: st) w Q := by
  intro p l e R s m args below meth c H locs cells slots w0 ls' hI hD hL
  subst hr
  obtain ⟨cell, h1, h2, h3, h4, -, h6⟩ := ch_arrR hI.2.2.2.2.2.2.2.2.1 hD.1 ht
  exact W.bald hI.1 hI.2.1 h1 h2 h3 (fun q => hin (q.imp id (fun q => Nat.le_trans h4 q))) (h6 _ (Nat.not_le.mp fun q => hin (Or.inr q))) rfl rfl hd (kk hI hD hL)
theorem ch_zald (r : Option Nat) {a : Nat} (i : Int32) (hr : r = some a) (hd : decode M.2.1 pc = .ok (.baload, 1)) (ht : ch_aty (ch_tg w a) = some .boolean) (hin : vp_in i (ch_ln w a)) (kk : ch_FT g kb M d (pc + 1) ls (.int (ch_gi w a i.toNatClampNeg) :: st) w Q) : ch_FT g kb M d pc ls (.int i :: va_rf r :: st) w Q := by
  intro p l e R s m args below meth c H locs cells slots w0 ls' hI hD hL
  subst hr
  obtain ⟨cell, h1, h2, h3, h4, -, h6⟩ := ch_arrR hI.2.2.2.2.2.2.2.2.1 hD.1 ht
  exact W.zald hI.1 hI.2.1 h1 h2 h3 (fun q => hin (q.imp id (fun q => Nat.le_trans h4 q))) (h6 _ (Nat.not_le.mp fun q => hin (Or.inr q))) rfl rfl hd (kk hI hD hL)
theorem ch_lald (r : Option Nat) {a : Nat} (i : Int32) (hr : r = some a) (hd : decode M.2.1 pc = .ok (.laload, 1)) (ht : ch_aty (ch_tg w a) = some .long) (hin : vp_in i (ch_ln w a)) (kk : ch_FT g kb M d (pc + 1) ls (.long (ch_gl w a i.toNatClampNeg) :: st) w Q) : ch_FT g kb M d pc ls (.int i :: va_rf r :: st) w Q := by
  intro p l e R s m args below meth c H locs cells slots w0 ls' hI hD hL
  subst hr
  obtain ⟨cell, h1, h2, h3, h4, -, h6⟩ := ch_arrR hI.2.2.2.2.2.2.2.2.1 hD.1 ht
  exact W.lald hI.1 hI.2.1 h1 h2 h3 (fun q => hin (q.imp id (fun q => Nat.le_trans h4 q))) (h6 _ (Nat.not_le.mp fun q => hin (Or.inr q))) rfl rfl hd (kk hI hD hL)
theorem ch_aald (r : Option Nat) {a : Nat} {C : String} (i : Int32) (hr : r = some a) (hd : decode M.2.1 pc = .ok (.aaload, 1)) (ht : ch_aty (ch_tg w a) = some (.object C)) (hin : vp_in i (ch_ln w a)) (kk : ch_FT g kb M d (pc + 1) ls (va_rf (ch_gr w a i.toNatClampNeg) :: st) w Q) : ch_FT g kb M d pc ls (.int i :: va_rf r :: st) w Q := by
  intro p l e R s m args below meth c H locs cells slots w0 ls' hI hD hL
  subst hr
  obtain ⟨cell, h1, h2, h3, h4, -, h6⟩ := ch_arrR hI.2.2.2.2.2.2.2.2.1 hD.1 ht
  exact W.aald hI.1 hI.2.1 h1 h2 rfl h3 (fun q => hin (q.imp id (fun q => Nat.le_trans h4 q))) (h6 _ (Nat.not_le.mp fun q => hin (Or.inr q))) rfl rfl hd (kk hI hD hL)
theorem ch_alen (r : Option Nat) {a : Nat} {ty : FieldType} (hr : r = some a) (hd : decode M.2.1 pc = .ok (.arraylength, 1)) (ht : ch_aty (ch_tg w a) = some ty) (kk : ch_FT g kb M d (pc + 1) ls (.int (Int32.ofNat (ch_ln w a)) :: st) w Q) : ch_FT g kb M d pc ls (va_rf r :: st) w Q := by
  intro p l e R s m args below meth c H locs cells slots w0 ls' hI hD hL
  subst hr
  obtain ⟨cell, h1, h2, h3, h4, h5, h6⟩ := ch_arrR hI.2.2.2.2.2.2.2.2.1 hD.1 ht
  exact W.alen hI.1 hI.2.1 h1 h2 h5 rfl rfl hd (kk hI hD hL)
/-- stores in arrays -/
theorem ch_astG {p : Program} {l : Launch} {e : Env} {R : Room} {s : State} {m : MethodId} {args : Array Value} {below : List Frame} {meth : Method} {c : Code} {H H1 : Heap} {locs : List Loc} {cells slots n : Nat} {w0 : ch_W} {ls' : Array Slot} {a : Nat} {ty : FieldType} {v : Value} {o' : ch_O}
    (hI : ch_In g M d p e R s m meth c w0) (hD : ch_Dy g kb w0 w H locs cells slots) (hL : ch_L ls' M.2.2.1 ls) (ht : ch_aty (ch_tg w a) = some ty) (hm : ch_tg w a < 51)
    (e1 : H1[a]? = some ((arrV (ch_aC g ty) (ch_ln w a) (fun k => ch_val ty (w.1 a) k)).setSlot n v)) (e2 : H1.size = H.size) (e3 : ∀ q, q ≠ a → H1[q]? = H[q]?) (ho1 : o'.1 = (w.1 a).1) (ho3 : o'.2.1 = (w.1 a).2.1) (ho2 : ∀ j, ch_val ty o' j = if j = n then v else ch_val ty (w.1 a) j)
    (hkb : (kb && ch_mt (ch_tg w a)) = false) (kk : ch_FT g kb M d (pc + 1) ls st (va_up w.1 a o', w.2) Q) : W p l e R s m args below meth c H1 (locs ++ [⟨a, n⟩]) cells slots (ch_End g kb below s w0 Q) (F0 m (pc + 1) ls' st) := by
  obtain ⟨-, hbase⟩ := ch_arrM hD.1 ht hm
  refine kk hI ⟨hD.1.upd e2 e3 hbase (Or.inr (Or.inl ⟨ty, by rw [ho1]; exact hm, by rw [ho1]; exact ht, ?_, hbase⟩)), hD.2.1, hD.2.2.1, fun x hx => ?_, hD.2.2.2.2.upd hkb⟩ hL
  · rw [e1, arrV_store, ho3]
    have : updV (fun k => ch_val ty (w.1 a) k) n v = fun k => ch_val ty o' k := by
      funext j
      rw [ho2 j]
      rfl
    rw [this]
    rfl
  · rcases List.mem_append.mp hx with h | h
    · exact hD.2.2.2.1 x h
    · rw [List.mem_singleton.mp h]; exact hbase
theorem ch_arrIn {a : Nat} {ty : FieldType} {i : Int32} (hin : vp_in i (ch_ln w a)) : ¬ (i < 0 ∨ (arrV (ch_aC g ty) (ch_ln w a) (fun k => ch_val ty (w.1 a) k)).slots.size ≤ i.toNatClampNeg) := by
  rw [arrV_size]; exact hin
theorem ch_si_val {ty : FieldType} (h : ch_isI ty = true) {a k : Nat} {x : Int32} (j : Nat) : ch_val ty (((w.1 a).1, (w.1 a).2.1, va_up (w.1 a).2.2.1 k x, (w.1 a).2.2.2) : ch_O) j = if j = k then .int x else ch_val ty (w.1 a) j := by
  by_cases hj : j = k
  · subst hj
    rw [if_pos rfl, ch_val_I h]
    simp [va_up]
  · rw [if_neg hj]
    exact ch_val_siO hj
theorem ch_iast (r : Option Nat) {a : Nat} (i x : Int32) (hr : r = some a) (hd : decode M.2.1 pc = .ok (.iastore, 1)) (ht : ch_aty (ch_tg w a) = some .int) (hm : ch_tg w a < 51) (hin : vp_in i (ch_ln w a)) (hkb : (kb && ch_mt (ch_tg w a)) = false) (kk : ch_FT g kb M d (pc + 1) ls st (ch_si w a i.toNatClampNeg x) Q) : ch_FT g kb M d pc ls (.int x :: .int i :: va_rf r :: st) w Q := by
  intro p l e R s m args below meth c H locs cells slots w0 ls' hI hD hL
  subst hr
  obtain ⟨h1, hbase⟩ := ch_arrM hD.1 ht hm
  have hok := hI.2.2.2.2.2.2.2.2.1
  exact W.iast hI.1 hI.2.1 h1 ((arrOfT_moved hok.1 (hok.2.1.2 _ (ch_aty_mem ht).1).1) _ _) (fun q => by cases q) (ch_arrIn hin) rfl rfl hd fun H1 e1 e2 e3 => ch_astG (o' := ((w.1 a).1, (w.1 a).2.1, va_up (w.1 a).2.2.1 i.toNatClampNeg x, (w.1 a).2.2.2)) hI hD hL ht hm e1 e2 e3 rfl rfl (ch_si_val rfl) hkb kk
theorem ch_bast (r : Option Nat) {a : Nat} (i x : Int32) (hr : r = some a) (hd : decode M.2.1 pc = .ok (.bastore, 1)) (ht : ch_aty (ch_tg w a) = some .byte) (hm : ch_tg w a < 51) (hin : vp_in i (ch_ln w a)) (hkb : (kb && ch_mt (ch_tg w a)) = false) (kk : ch_FT g kb M d (pc + 1) ls st (ch_si w a i.toNatClampNeg (vp_nar .byte x)) Q) : ch_FT g kb M d pc ls (.int x :: .int i :: va_rf r :: st) w Q := by
  intro p l e R s m args below meth c H locs cells slots w0 ls' hI hD hL
  subst hr
  obtain ⟨h1, hbase⟩ := ch_arrM hD.1 ht hm
  have hok := hI.2.2.2.2.2.2.2.2.1
  exact W.bast hI.1 hI.2.1 h1 ((arrOfT_moved hok.1 (hok.2.1.2 _ (ch_aty_mem ht).1).1) _ _) (fun q => by cases q) (ch_arrIn hin) rfl rfl hd fun H1 e1 e2 e3 => ch_astG (o' := ((w.1 a).1, (w.1 a).2.1, va_up (w.1 a).2.2.1 i.toNatClampNeg (vp_nar .byte x), (w.1 a).2.2.2)) hI hD hL ht hm e1 e2 e3 rfl rfl (ch_si_val rfl) hkb kk
theorem ch_zast (r : Option Nat) {a : Nat} (i x : Int32) (hr : r = some a) (hd : decode M.2.1 pc = .ok (.bastore, 1)) (ht : ch_aty (ch_tg w a) = some .boolean) (hm : ch_tg w a < 51) (hin : vp_in i (ch_ln w a)) (hkb : (kb && ch_mt (ch_tg w a)) = false) (kk : ch_FT g kb M d (pc + 1) ls st (ch_si w a i.toNatClampNeg (vp_nar .boolean x)) Q) : ch_FT g kb M d pc ls (.int x :: .int i :: va_rf r :: st) w Q := by
  intro p l e R s m args below meth c H locs cells slots w0 ls' hI hD hL
  subst hr
  obtain ⟨h1, hbase⟩ := ch_arrM hD.1 ht hm
  have hok := hI.2.2.2.2.2.2.2.2.1
  exact W.zast hI.1 hI.2.1 h1 ((arrOfT_moved hok.1 (hok.2.1.2 _ (ch_aty_mem ht).1).1) _ _) (fun q => by cases q) (ch_arrIn hin) rfl rfl hd fun H1 e1 e2 e3 => ch_astG (o' := ((w.1 a).1, (w.1 a).2.1, va_up (w.1 a).2.2.1 i.toNatClampNeg (vp_nar .boolean x), (w.1 a).2.2.2)) hI hD hL ht hm e1 e2 e3 rfl rfl (ch_si_val rfl) hkb kk
theorem ch_last (r : Option Nat) {a : Nat} (i : Int32) (x : Int64) (hr : r = some a) (hd : decode M.2.1 pc = .ok (.lastore, 1)) (ht : ch_aty (ch_tg w a) = some .long) (hm : ch_tg w a < 51) (hin : vp_in i (ch_ln w a)) (hkb : (kb && ch_mt (ch_tg w a)) = false) (kk : ch_FT g kb M d (pc + 1) ls st (ch_sL w a i.toNatClampNeg x) Q) : ch_FT g kb M d pc ls (.long x :: .int i :: va_rf r :: st) w Q := by
  intro p l e R s m args below meth c H locs cells slots w0 ls' hI hD hL
  subst hr
  obtain ⟨h1, hbase⟩ := ch_arrM hD.1 ht hm
  have hok := hI.2.2.2.2.2.2.2.2.1
  refine W.last hI.1 hI.2.1 h1 ((arrOfT_moved hok.1 (hok.2.1.2 _ (ch_aty_mem ht).1).1) _ _) (fun q => by cases q) (ch_arrIn hin) rfl rfl hd fun H1 e1 e2 e3 => ch_astG (o' := ((w.1 a).1, (w.1 a).2.1, (w.1 a).2.2.1, (w.1 a).2.2.2.1, va_up (w.1 a).2.2.2.2 i.toNatClampNeg x)) hI hD hL ht hm e1 e2 e3 rfl rfl (fun j => ?_) hkb kk
  by_cases hj : j = i.toNatClampNeg
  · subst hj
    rw [if_pos rfl]
    simp [va_up, ch_val]
  · rw [if_neg hj]
    exact ch_val_sLO hj
end HEAP
