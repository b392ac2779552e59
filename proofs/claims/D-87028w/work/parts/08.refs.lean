/-! LEVEL A: references in arrays, casts, copies -/
/-- any object of ours, as the tables see it -/
theorem ch_cell {g s : State} {w : ch_W} {H : Heap} {v : Nat} (hok : ch_ok g s) (hr : ch_Rep g w H) (hv : ch_tg w v ≠ 0) : ∃ (cell : Cell) (C : String), H[v]? = some cell ∧ cell.vm.isStatics = false ∧ s.vm.findClass C = some cell.cls ∧ Cond.castable C "java/lang/Object" ∈ lw_tbl ∧
    (∀ ci q, ch_cl[ci]? = some q → ch_tg w v = ci + 1 → C = q.1) ∧ (∀ ty, ch_aty (ch_tg w v) = some ty → ch_tg w v < 51 → C = "[" ++ ty.toString) ∨ 51 ≤ ch_tg w v ∨ ch_tg w v = 20 := by
  by_cases h20 : 51 ≤ ch_tg w v ∨ ch_tg w v = 20
  · exact ⟨default, "", Or.inr h20⟩
  · have h51 : ch_tg w v < 51 := Nat.lt_of_not_le fun q => h20 (Or.inl q)
    have e0 : (w.1 v).1 = ch_tg w v := rfl
    rcases hr.1 v hv with ⟨ci, q, h1, h2, ⟨cell, g1, g2, g3, -⟩, -, -⟩ | ⟨ty, -, h1, h2, h3⟩ | ⟨ty, h0, -⟩ | ⟨h0, -⟩
    · have hci : ci < 14 := (List.getElem?_eq_some_iff.mp h2).1
      have hk := (hok.2.1.1 ci q h2).2.1
      refine ⟨cell, q.1, Or.inl ⟨g1, by rw [g3]; rfl, by rw [hok.1.findClass, g2]; exact hk, ?_, fun ci' q' hq' ht' => ?_, fun ty hty _ => ?_⟩⟩
      · match ci, h2 with
        | 0, h2 => cases h2; exact q2334
        | 1, h2 => cases h2; exact q2335
        | 2, h2 => cases h2; exact q2336
        | 3, h2 => cases h2; exact q2337
        | 4, h2 => cases h2; exact q2338
        | 5, h2 => cases h2; exact q2340
        | 6, h2 => cases h2; exact q2333
        | 7, h2 => cases h2; exact q2329
        | 8, h2 => cases h2; exact q2341
        | 9, h2 => cases h2; exact q2331
        | 10, h2 => cases h2; exact q2330
        | 11, h2 => cases h2; exact q2342
        | 12, h2 => cases h2; exact q2343
        | 13, h2 => cases h2; exact q2339
        | n + 14, h2 => simp [ch_cl] at h2
      · have : ci' = ci := by omega
        subst this
        cases h2.symm.trans hq'
        rfl
      · have := (ch_aty_mem hty).2
        omega
    · have hty := (hok.2.1.2 ty (ch_aty_mem h1).1)
      have hfind : g.vm.findClass ("[" ++ ty.toString) = some (ch_aC g ty) := by
        have h5 := hty.2
        unfold va_RA at h5
        cases ty <;> first | exact h5 | (obtain ⟨kA, comp, -, -, -, h6⟩ := h5; exact h6)
      refine ⟨_, "[" ++ ty.toString, Or.inl ⟨h2, rfl, by rw [hok.1.findClass]; exact hfind, ?_, fun ci' q' hq' ht' => ?_, fun ty' hty' _ => ?_⟩⟩
      · have hmem := (ch_aty_mem h1).1
        simp only [ch_ty, List.mem_cons, List.not_mem_nil, or_false] at hmem
        rcases hmem with rfl | rfl | rfl | rfl | rfl | rfl | rfl | rfl | rfl | rfl
        · exact q2351
        · exact q2349
        · exact q2356
        · exact q2350
        · exact q2352
        · exact q2348
        · exact q2353
        · exact q2354
        · exact q2357
        · exact q2355
      · have hci : ci' < 14 := (List.getElem?_eq_some_iff.mp hq').1
        have := (ch_aty_mem h1).2
        omega
      · cases h1.symm.trans hty'
        rfl
    · omega
    · exact absurd (Or.inr (e0.symm.trans h0)) h20
/-- what may be stored in an array of E -/
def ch_stor (w : ch_W) (v : Nat) (E : String) : Prop := (E = "java/lang/Object" ∧ ch_tg w v ≠ 0 ∧ ch_tg w v < 51 ∧ ch_tg w v ≠ 20) ∨ (∃ (ci : Nat) (q : vw_C), ch_cl[ci]? = some q ∧ q.1 = E ∧ ch_tg w v = ci + 1) ∨ (E = "java/lang/String" ∧ ch_tg w v = 20)
/-- a String of the start, as the heap has it -/
theorem ch_strO {g : State} {w : ch_W} {H : Heap} {a : Nat} (hr : ch_Rep g w H) (ht : ch_tg w a = 20) : ch_isS g a (ch_gr w a 0) ∧ H[a]? = g.heap[a]? := by
  have htg : (w.1 a).1 = 20 := ht
  rcases hr.1 a (by omega) with ⟨ci', q', h1, h3, h4, h5⟩ | ⟨ty, h0, h1, -⟩ | ⟨ty, h0, -⟩ | ⟨h0, h1⟩
  · have : ci' < 14 := (List.getElem?_eq_some_iff.mp h3).1
    omega
  · rw [htg] at h1; cases h1
  · omega
  · refine ⟨h1, hr.2.2.2.1 a ?_⟩
    obtain ⟨⟨cell, g1, -⟩, -⟩ := h1
    exact (Array.getElem?_eq_some_iff.mp g1).1
theorem ch_any {g s : State} {w : ch_W} {H : Heap} {v : Nat} {E : String} (hok : ch_ok g s) (hr : ch_Rep g w H) (h : ch_stor w v E) : va_Any E s H v := by
  rcases h with ⟨rfl, h1, h2, h3⟩ | ⟨ci, q, hq, rfl, ht⟩ | ⟨rfl, ht⟩
  · obtain ⟨cell, C, hor⟩ := ch_cell hok hr h1
    rcases hor with ⟨g1, g2, g3, g4, -, -⟩ | h | h
    · obtain ⟨kC, hkC, -⟩ := Vm.findClass_spec g3
      refine ⟨cell, g1, g2, ⟨kC, hkC⟩, fun comp hcomp => ?_⟩
      obtain ⟨c0, t0, f1, f2, f3⟩ := Cond.castable_spec (hok.nest (args := #[]) g4 rfl rfl)
      cases g3.symm.trans f1
      cases hcomp.symm.trans f2
      exact f3
    · omega
    · exact absurd h h3
  · obtain ⟨cell, g1, g2, g3⟩ := ch_recv hok hr hq ht
    obtain ⟨kC, hkC, -⟩ := Vm.findClass_spec g3
    refine ⟨cell, g1, by rw [g2]; rfl, ⟨kC, hkC⟩, fun comp hcomp => ?_⟩
    have e := (u_Kn_moved hok.1 (hok.2.1.1 ci q hq)).2
    have e1 : cell.cls = ch_dC g ci := Option.some.inj (g3.symm.trans e.1)
    have e2 : comp = ch_dC g ci := Option.some.inj (hcomp.symm.trans e.1)
    rw [e1, e2]
    exact va_assign e
  · obtain ⟨⟨h1, -⟩, h2⟩ := ch_strO hr ht
    obtain ⟨cell, g1, g2, g3, -⟩ := va_O.moved hok.1 h1
    obtain ⟨kC, hkC, -⟩ := Vm.findClass_spec g3
    refine ⟨cell, by rw [h2]; exact g1, g2, ⟨kC, hkC⟩, fun comp hcomp => ?_⟩
    cases g3.symm.trans hcomp
    exact va_asg _ _
section REFS
variable {g : State} {kb : Bool} {M : ch_M} {d pc : Nat} {ls : List (Option Value)} {st : List Value} {w : ch_W} {Q : Outcome → ch_W → Prop}
theorem ch_sr_val {ty : FieldType} (h : ch_isR ty = true) {a k : Nat} {x : Option Nat} (j : Nat) : ch_val ty (((w.1 a).1, (w.1 a).2.1, (w.1 a).2.2.1, va_up (w.1 a).2.2.2.1 k x, (w.1 a).2.2.2.2) : ch_O) j = if j = k then va_rf x else ch_val ty (w.1 a) j := by
  by_cases hj : j = k
  · subst hj
    rw [if_pos rfl, ch_val_R h]
    simp [va_up]
  · rw [if_neg hj]
    exact ch_val_srO hj
theorem ch_aast (r : Option Nat) {a : Nat} {E : String} (i : Int32) (x : Option Nat) (hr : r = some a) (hd : decode M.2.1 pc = .ok (.aastore, 1)) (ht : ch_aty (ch_tg w a) = some (.object E)) (hm : ch_tg w a < 51) (hin : vp_in i (ch_ln w a)) (hx : ∀ v, x = some v → ch_stor w v E) (hkb : (kb && ch_mt (ch_tg w a)) = false) (kk : ch_FT g kb M d (pc + 1) ls st (ch_sr w a i.toNatClampNeg x) Q) : ch_FT g kb M d pc ls (va_rf x :: .int i :: va_rf r :: st) w Q := by
  intro p l e R s m args below meth c H locs cells slots w0 ls' hI hD hL
  subst hr
  obtain ⟨h1, hbase⟩ := ch_arrM hD.1 ht hm
  have hok := hI.2.2.2.2.2.2.2.2.1
  have hAr := arrOfT_moved hok.1 (hok.2.1.2 _ (ch_aty_mem ht).1).1
  have hRA := (hok.2.1.2 _ (ch_aty_mem ht).1).2.moved hok.1
  cases x with
  | none =>
    exact va_WaastN (C := E) hI.1 hI.2.1 h1 (hAr _ _) (fun q => by cases q) (ch_arrIn hin) rfl rfl hd fun H1 e1 e2 e3 => ch_astG (o' := ((w.1 a).1, (w.1 a).2.1, (w.1 a).2.2.1, va_up (w.1 a).2.2.2.1 i.toNatClampNeg none, (w.1 a).2.2.2.2)) hI hD hL ht hm e1 e2 e3 rfl rfl (ch_sr_val rfl) hkb kk
  | some v =>
    obtain ⟨cellV, g1, g3, ⟨kC, hkC⟩, hasg⟩ := ch_any hok hD.1 (hx v rfl)
    obtain ⟨kA, comp, k1, k2, k3, -⟩ := hRA
    obtain ⟨kE, hkE, -⟩ := Vm.findClass_spec k3
    exact W.aast hI.1 hI.2.1 h1 (fun q h => by cases h) (fun h => by cases h) k1 k2 rfl hkE ⟨fun q => hin (Or.inl q), by show _ < (arrV _ _ _).slots.size; rw [arrV_size]; exact Nat.not_le.mp fun q => hin (Or.inr q)⟩ g1 (fun q h => by rw [h] at g3; cases g3) hkC (hasg _ k3) rfl rfl hd
      fun H1 e1 e2 e3 => ch_astG (o' := ((w.1 a).1, (w.1 a).2.1, (w.1 a).2.2.1, va_up (w.1 a).2.2.2.1 i.toNatClampNeg (some v), (w.1 a).2.2.2.2)) hI hD hL ht hm e1 e2 e3 rfl rfl (ch_sr_val rfl) hkb kk
/-- checkcast of what is of that class -/
def ch_isa (w : ch_W) (v : Nat) (nm : String) : Prop := (∃ (ci : Nat) (q : vw_C), ch_cl[ci]? = some q ∧ q.1 = nm ∧ ch_tg w v = ci + 1) ∨ ∃ ty : FieldType, ch_aty (ch_tg w v) = some ty ∧ ch_tg w v < 51 ∧ nm = "[" ++ ty.toString
theorem ch_checkcast (r : Option Nat) {nm : String} {idx : Nat} (hd : decode M.2.1 pc = .ok (.checkcast idx, 3)) (hlink : Cond.classLink M.1.cls idx nm ∈ lw_all) (hx : ∀ v, r = some v → ch_isa w v nm) (kk : ch_FT g kb M d (pc + 3) ls (va_rf r :: st) w Q) : ch_FT g kb M d pc ls (va_rf r :: st) w Q := by
  intro p l e R s m args below meth c H locs cells slots w0 ls' hI hD hL
  have hok := hI.2.2.2.2.2.2.2.2.1
  have hown := hI.2.2.2.2.2.2.2.1
  cases r with
  | none => exact lv_castN hI.1 hI.2.1 hd (kk hI hD hL)
  | some v =>
    rcases hx v rfl with ⟨ci, q, hq, rfl, ht⟩ | ⟨ty, ht, hm, rfl⟩
    · obtain ⟨cell, g1, g2, g3⟩ := ch_recv hok hD.1 hq ht
      exact va_castS hI.1 hI.2.1 hown (hok.use hlink) (u_Kn_moved hok.1 (hok.2.1.1 ci q hq)).2 ⟨cell, g1, by rw [g2]; rfl, g3⟩ hd (kk hI hD hL)
    · obtain ⟨h1, hbase⟩ := ch_arrM hD.1 ht hm
      have hfind : s.vm.findClass ("[" ++ ty.toString) = some (ch_aC g ty) := by
        rw [hok.1.findClass]
        have h5 := (hok.2.1.2 ty (ch_aty_mem ht).1).2
        unfold va_RA at h5
        cases ty <;> first | exact h5 | (obtain ⟨kA, comp, -, -, -, h6⟩ := h5; exact h6)
      intro T hT X
      obtain ⟨vm', X', step⟩ := X.checkcastYes hI.1 hown (hok.use hlink) (by rw [hT]; exact h1) rfl hfind (va_asg _ _) (g := F0 m pc ls' (.ref v :: st)) rfl rfl (by rw [hI.2.1]; exact hd)
      obtain ⟨t, a1, b1⟩ := kk hI hD hL (T.setVm vm') hT X'
      exact ⟨t, step t a1, b1⟩
end REFS
