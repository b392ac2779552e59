/-! LEVEL C: RuntimeException's constructor, in a launch without stack traces -/
def ch_thr (g : State) (w : ch_W) (r : Option Nat) (t : Nat) : Option ch_W := r.bind fun a => if ch_tg w a = t ∧ ch_gr w a 4 = none then some (ch_sr (ch_sr (ch_sr w a 0 (some a)) a 1 (ch_stU g)) a 2 (ch_stP g)) else none
/-- a class of exceptions of ours, by its number -/
def ch_exc (ci : Nat) (q : vw_C) : Prop := ch_cl[ci]? = some q ∧ 6 < q.2.2 ∧
  q.2.1 0 = ("java/lang/Throwable", "cause", "Ljava/lang/Throwable;", false) ∧ q.2.1 1 = ("java/lang/Throwable", "stackTrace", "[Ljava/lang/StackTraceElement;", false) ∧
  q.2.1 2 = ("java/lang/Throwable", "suppressedExceptions", "Ljava/util/List;", false) ∧ q.2.1 4 = ("java/lang/Throwable", "backtrace", "Ljava/lang/Object;", false) ∧
  ch_ft ci 0 = .object "java/lang/Throwable" ∧ ch_ft ci 1 = .array (.object "java/lang/StackTraceElement") ∧ ch_ft ci 2 = .object "java/util/List" ∧ ch_ft ci 4 = .object "java/lang/Object" ∧
  Cond.selects q.1 Bundle.tFill0 Bundle.tFill0 ∈ lw_all ∧ Cond.selects q.1 Bundle.tFill Bundle.tFill ∈ lw_all ∧ ch_mt (ci + 1) = false
theorem th_X2 : ch_exc 2 (RX2, TX2, 7) := ⟨rfl, by decide, rfl, rfl, rfl, rfl, rfl, rfl, rfl, rfl, q254, q255, rfl⟩
theorem th_X5 : ch_exc 5 (RX5, TX5, 7) := ⟨rfl, by decide, rfl, rfl, rfl, rfl, rfl, rfl, rfl, rfl, q568, q279, rfl⟩
theorem th_X12 : ch_exc 12 (RX12, TX12, 7) := ⟨rfl, by decide, rfl, rfl, rfl, rfl, rfl, rfl, rfl, rfl, q1350, q278, rfl⟩
theorem ch_layS {g s : State} (hA : g.vm.Alike s.vm) (hh : ∀ q : Nat, q < g.heap.size → s.heap[q]? = g.heap[q]?) {O f d : String} (h : (Cond.laysStatic O f d).before #[] g = true) (args : Array Value) : (Cond.laysStatic O f d).before args s = true := by
  obtain ⟨c, k, i, f, a, cell, hc, hi, hst, ha, hcell, hs, hcls, hlt, hty⟩ := Cond.laysStatic_spec h
  obtain ⟨k', hi', hek⟩ := State.fieldFound?_setVm hA hi
  exact Cond.laysStatic_of (by rw [hA.findClass]; exact hc) hi' hst (by rw [hek]; exact ha) (by rw [hh a (Array.getElem?_eq_some_iff.mp hcell).1]; exact hcell) hs hcls hlt (by rw [hek]; exact hty)
theorem ch_thrAtoms {g s : State} (hok : ch_ok g s) (hh : ∀ q : Nat, q < g.heap.size → s.heap[q]? = g.heap[q]?) (args : Array Value) : ∀ c ∈ Bundle.throwableAtoms, c.before args s = true := by
  intro c hc
  simp only [Bundle.throwableAtoms, List.mem_cons, List.not_mem_nil, or_false] at hc
  rcases hc with rfl | rfl | rfl | rfl | rfl | rfl | rfl | rfl | rfl | rfl | rfl | rfl | rfl | rfl | rfl | rfl | rfl | rfl | rfl | rfl | rfl | rfl | rfl | rfl
  · exact hok.use q202
  · exact hok.use q267
  · exact hok.use q276
  · exact hok.use q280
  · exact hok.use q283
  · exact hok.use q285
  · exact hok.use q268
  · exact hok.use q269
  · exact hok.use q234
  · exact hok.use q235
  · exact hok.use q270
  · exact hok.use q275
  · exact hok.use q281
  · exact hok.use q299
  · exact hok.use q257
  · exact hok.use q300
  · exact hok.use q259
  · exact hok.use q301
  · exact hok.use q261
  · exact hok.use q271
  · exact ch_layS hok.1 hh hok.2.2.2.2.2.2.1.2.2.2.2.2.2.1 args
  · exact hok.use q273
  · exact ch_layS hok.1 hh hok.2.2.2.2.2.2.1.2.2.2.2.2.2.2.1 args
  · exact hok.use q263
theorem ch_chain {g s : State} (hok : ch_ok g s) (args : Array Value) : ∀ c ∈ Bundle.chain0Atoms "java/lang/RuntimeException" ["java/lang/Exception"], c.before args s = true := by
  intro c hc
  simp only [Bundle.chain0Atoms, Bundle.passAtoms, List.cons_append, List.nil_append, List.mem_cons, List.not_mem_nil, or_false] at hc
  rcases hc with rfl | rfl | rfl | rfl | rfl | rfl | rfl | rfl | rfl | rfl
  · exact hok.use q290
  · exact hok.use q291
  · exact hok.use q292
  · exact hok.use q293
  · exact hok.nest q250 rfl rfl
  · exact hok.use q293
  · exact hok.use q294
  · exact hok.use q295
  · exact hok.use q268
  · exact hok.nest q252 rfl rfl
/-- a static of the start, as the machine has it now -/
theorem ch_Znow {g s : State} {w : ch_W} {H : Heap} (hok : ch_ok g s) (hr : ch_Rep g w H) {C n d : String} {v : Value} (hZ : ch_Z g C n d v) {cf fi : Nat} {kf : Class} {f : Field} (hi : s.fieldFound? C n d = some (cf, kf, fi, f)) {a : Nat} (ha : kf.statics = some a) : ∃ cell : Cell, H[a]? = some cell ∧ cell.vm.isStatics = true ∧ cell.slots[f.slot]? = some v ∧ a < g.heap.size := by
  obtain ⟨cf', kf', fi', f', a', cell, h1, h2, h3, h4, h5, h6, h7, h8⟩ := va_Z.moved hok.1 hZ
  cases h1.symm.trans hi
  cases h4.symm.trans ha
  exact ⟨cell, by rw [hr.2.2.2.1 a (Nat.not_le.mp h8)]; exact h5, h6, h7, Nat.not_le.mp h8⟩
theorem ch_rfOk (r : Option Nat) : (va_rf r).isRef = true := by cases r <;> rfl
theorem cp_thr {g : State} {kb : Bool} {M : ch_M} {d pc : Nat} {ls : List (Option Value)} {st : List Value} {w : ch_W} {Q : Outcome → ch_W → Prop} {β : Type} {res : β} {f : ch_W → Option β} {r : Option Nat} {idx ci : Nat} {q : vw_C} (hex : ch_exc ci q) (hd : decode M.2.1 pc = .ok (.invokespecial idx, 3)) (hlink : Cond.methodLink M.1.cls idx ⟨"java/lang/RuntimeException", "<init>", "()V"⟩ ∈ lw_all) (hd1 : 6 ≤ d) (hw : 2 * st.length + 20 ≤ 41) (h : (ch_thr g w r (ci + 1)).bind f = some res) (kk : ∀ v, f v = some res → ch_FT g kb M d (pc + 3) ls st v Q) : ch_FT g kb M d pc ls (va_rf r :: st) w Q := by
  obtain ⟨v, h1, h2⟩ := ch_bd h
  unfold ch_thr at h1
  obtain ⟨a, rfl, h0⟩ := ch_bd h1
  split at h0
  case isFalse => cases h0
  case isTrue htg =>
    cases h0
    obtain ⟨htg, hbk⟩ := htg
    obtain ⟨hq, hn6, e0, e1, e2, e4, y0, y1, y2, y4, hs0, hsF, hmt⟩ := hex
    intro p l e R s m args below meth c H locs cells slots w0 ls' hI hD hL T hT X
    subst hT
    obtain ⟨hx, hb, hml, -, -, -, -, hown, hok, ⟨hr1, hr2, -⟩, hsh, htr⟩ := id hI
    obtain ⟨⟨cell, c1, c2, c3, c4⟩, hbase, hmon⟩ := ch_obj hD.1 hq htg
    obtain ⟨hm1, hm2⟩ := hmon cell c1
    have howns : e.platform.frameOwnsMonitors = true := by rw [X.admits.platform]
    have hfin : e.platform.finalization = false := by rw [X.admits.platform]
    have hpl : e.platform.magicAccessors = ({} : Platform).magicAccessors := by rw [X.admits.platform]
    obtain ⟨T0, Z, L, LZ, Y⟩ := ThrowableC.of_atoms (args := args) howns hfin hpl (ch_thrAtoms hok hsh args)
    obtain ⟨P1, Ps, hlen, L1, hLs, hP1m, hlink1, hlinkP⟩ := Bundle.chain0 (args := args) hpl Y.init0 ["java/lang/Exception"] "java/lang/RuntimeException" (by decide) (by decide) (ch_chain hok args)
    have hKn := u_Kn_moved hok.1 (hok.2.1.1 ci q hq)
    obtain ⟨hS, hfc, kC, hkC, hkind⟩ := hKn
    have hts : ∀ w ∈ lw_all, w.before args s = true := fun w h => hok.use h
    obtain ⟨hin, hty, hnm⟩ := ch_cls ci q hq
    have hcls : s.vm.findClass q.1 = some cell.cls := by rw [c2]; exact hfc
    have hap : ∀ x y, x < q.2.2 → y < q.2.2 → x ≠ y → ch_dI g ci x ≠ ch_dI g ci y := by
      intro x y hx hy hne
      obtain ⟨_, _, _, fa, hia, ea⟩ := hS x hx
      obtain ⟨_, _, _, fb, hib, eb⟩ := hS y hy
      rw [← ea, ← eb]
      refine u_apart (u_lays hts hin hx) (u_lays hts hin hy) hia hib ?_
      rw [(State.fieldFound?_type hia (hty x hx)).1, (State.fieldFound?_type hib (hty y hy)).1]
      exact hnm x hx y hy hne
    -- the slots
    have k0 : (0 : Nat) < q.2.2 := by omega
    have k1 : (1 : Nat) < q.2.2 := by omega
    have k2 : (2 : Nat) < q.2.2 := by omega
    have k4 : (4 : Nat) < q.2.2 := by omega
    obtain ⟨cf0, kf0, fi0, f0, i0, s0⟩ := hS 0 k0
    obtain ⟨cf1, kf1, fi1, f1, i1, s1⟩ := hS 1 k1
    obtain ⟨cf2, kf2, fi2, f2, i2, s2⟩ := hS 2 k2
    obtain ⟨cf4, kf4, fi4, f4, i4, s4⟩ := hS 4 k4
    rw [e0] at i0
    rw [e1] at i1
    rw [e2] at i2
    rw [e4] at i4
    cases i0.symm.trans Y.cause
    cases i1.symm.trans Y.stack
    cases i2.symm.trans Y.supp
    obtain ⟨ci198, i198, fB, hk198, hg198, ha198, hsB, -, hnB, htB, hffB⟩ := Cond.ownField (t := .object "java/lang/Object") Y.found L.cls (by decide +kernel) (hok.use (args := args) q266) (hok.use (args := args) q265) e.platform hpl
    have hB4 : fB.slot = ch_dI g ci 4 := by
      have h8 := Option.some.inj (i4.symm.trans hffB)
      rw [← s4]
      exact congrArg (fun z => z.2.2.2.slot) h8.symm
    have hsel0 : selectMethod e.platform s.vm cell.cls T0.fill0 = .method T0.fill0 := by
      obtain ⟨c2', r2, m2, q1, q2, q3, q4, -⟩ := Cond.selects_spec (hok.use hs0 (args := args))
      cases Option.some.inj (q1.symm.trans hcls)
      cases Option.some.inj (q2.symm.trans (State.methodFound?_of_named Y.fill0 (by decide)))
      cases Option.some.inj (q3.symm.trans Y.fill0)
      rw [Launch.admits_selectMethod X.admits]; exact q4
    have hselF : selectMethod e.platform s.vm cell.cls T0.fill = .method T0.fill := by
      obtain ⟨c2', r2, m2, q1, q2, q3, q4, -⟩ := Cond.selects_spec (hok.use hsF (args := args))
      cases Option.some.inj (q1.symm.trans hcls)
      cases Option.some.inj (q2.symm.trans (State.methodFound?_of_named Y.fill (by decide)))
      cases Option.some.inj (q3.symm.trans Y.fill)
      rw [Launch.admits_selectMethod X.admits]; exact q4
    obtain ⟨cellS, hcS, hiss, hvU, hltS⟩ := ch_Znow hok hD.1 hok.2.2.2.2.2.2.1.2.2.2.1 Y.unassigned L.statics
    obtain ⟨cellS', hcS', -, hvP, -⟩ := ch_Znow hok hD.1 hok.2.2.2.2.2.2.1.2.2.2.2.1 Y.sentinel L.statics
    cases hcS.symm.trans hcS'
    have hneS : T0.aS ≠ a := Nat.ne_of_lt (Nat.lt_of_lt_of_le hltS hbase)
    have hknownS : cellS.vm ≠ .unknown := fun hu => by rw [hu] at hiss; cases hiss
    have tk : ∀ (k : Nat) (hk : k < q.2.2) (fd : Field) (cf fi : Nat) (kf : Class) (v : Value), s.fieldFound? (q.2.1 k).1 (q.2.1 k).2.1 (q.2.1 k).2.2.1 = some (cf, kf, fi, fd) → fd.slot = ch_dI g ci k → narrow (ch_ft ci k) v = v → fits (ch_ft ci k) v = true → Takes s cell fd v := by
      intro k hk fd cf fi kf v hi hsl hn hv
      have h6 := u_fits hfc hkC hkind (u_lays hts hin hk) hi (hty k hk) hn hv
      refine ⟨?_, ?_⟩
      · rw [hsl]
        exact (Array.getElem?_eq_some_iff.mp (c4 k hk)).1
      · rw [c3, c2]; exact h6.2
    have hRf : ∀ (n : String) (r : Option Nat), fits (.object n) (va_rf r) = true := fun n r => by cases r <;> rfl
    have hRa : ∀ (n : FieldType) (r : Option Nat), fits (.array n) (va_rf r) = true := fun n r => by cases r <;> rfl
    have hNf : ∀ (n : String) (r : Option Nat), narrow (.object n) (va_rf r) = va_rf r := fun n r => by cases r <;> rfl
    have hNa : ∀ (n : FieldType) (r : Option Nat), narrow (.array n) (va_rf r) = va_rf r := fun n r => by cases r <;> rfl
    have htC : Takes s cell T0.fCause (.ref a) := tk 0 k0 _ _ _ _ _ (by rw [e0]; exact Y.cause) s0 (by rw [y0]; rfl) (by rw [y0]; rfl)
    have htS : Takes s cell T0.fStack (va_rf (ch_stU g)) := tk 1 k1 _ _ _ _ _ (by rw [e1]; exact Y.stack) s1 (by rw [y1]; exact hNa _ _) (by rw [y1]; exact hRa _ _)
    have htP : Takes s cell T0.fSupp (va_rf (ch_stP g)) := tk 2 k2 _ _ _ _ _ (by rw [e2]; exact Y.supp) s2 (by rw [y2]; exact hNf _ _) (by rw [y2]; exact hRf _ _)
    have a04 : T0.fCause.slot ≠ fB.slot := by rw [s0, hB4]; exact hap 0 4 k0 k4 (by decide)
    have a14 : T0.fStack.slot ≠ fB.slot := by rw [s1, hB4]; exact hap 1 4 k1 k4 (by decide)
    have a24 : T0.fSupp.slot ≠ fB.slot := by rw [s2, hB4]; exact hap 2 4 k2 k4 (by decide)
    have hback : cell.slots[fB.slot]? = some .null := by
      rw [hB4, c4 4 k4]
      show some (ch_val (ch_ft ci 4) (w.1 a) 4) = _
      rw [y4]
      show some (va_rf (ch_gr w a 4)) = _
      rw [hbk]
      rfl
    have hskip : SkipFacts T0 e.platform s (fun u => u) ⟨va_rf (ch_stU g), ch_rfOk _⟩ ((preparedCellV T0.toThrowableT cell a ⟨va_rf (ch_stU g), ch_rfOk _⟩ ⟨va_rf (ch_stP g), ch_rfOk _⟩).withEntry T.cur) :=
      ⟨{ ci198 := ci198, i198 := i198, fBack := fB }, ⟨hk198, hg198, ha198, hsB⟩, by
        simpa [preparedCellV, Cell.setSlot, Cell.withEntry, Array.getElem?_setIfInBounds, a04, a14, a24] using hback, fun _ _ => rfl⟩
    obtain ⟨tm, methC, cdC, kC', vm₁, hnC, -, -, -, -, -, -, -, hW₁, st1⟩ := Steps.initCold (tb := p.tables) (e := e) (below := below) (s := s) (U := T) X.here hx X.warmed hpl hown (t := ⟨"java/lang/RuntimeException", "<init>", "()V"⟩) rfl rfl (by decide)
      (hok.use hlink (args := args)) (hok.use q290) (bytes := prog_22_method_1_code) (maxL := 1) (hok.use q291)
      (f := F0 m pc ls' (.ref a :: st)) rfl (a := a) (rest := st) rfl (by rw [hb]; exact hd)
    cases Option.some.inj (hnC.symm.trans hP1m)
    have X₁ := X.noted hW₁
    have h9 := ch_hwA st
    obtain ⟨vm₂, X₂, st2⟩ := X₁.ctorPlainOffV hx (g := F0 m pc ls' st) rfl (by rw [hml]; exact hL.1) T0 L Z LZ (P1 :: Ps)
      (fun P hP => by rcases List.mem_cons.mp hP with rfl | hP; exact L1; exact hLs P hP) ⟨hlink1, hlinkP⟩ (u0 := ⟨va_rf (ch_stU g), ch_rfOk _⟩) (sen := ⟨va_rf (ch_stP g), ch_rfOk _⟩) (self := a) (cell := cell) (cellS := cellS)
      c1 (fun _ hk => by rw [c3] at hk; cases hk) (fun hk => by rw [c3] at hk; cases hk) hm1 hm2 hsel0 hselF hcS hneS hknownS hvU hvP htC htS htP Y.objLocals hskip htr [] (by rw [hb]; exact hd)
      (by simp only [List.length_cons, hlen, List.length_nil]; omega) (by simp only [List.length_cons, hlen, List.length_nil]; show 2 * 0 + (st.map fun v => v.category).sum + _ ≤ _; omega)
    have hl : a < T.heap.size := (Array.getElem?_eq_some_iff.mp c1).1
    have t1 := t_set c4 hap k0 (.ref a)
    have t2 := t_set t1 hap k1 (va_rf (ch_stU g))
    have t3 := t_set t2 hap k2 (va_rf (ch_stP g))
    have t4 := t_set t3 hap k1 (va_rf (ch_stU g))
    rw [← s0, ← s1, ← s2] at t4
    have hv : ch_sr (ch_sr (ch_sr w a 0 (some a)) a 1 (ch_stU g)) a 2 (ch_stP g) = (va_up w.1 a ((w.1 a).1, (w.1 a).2.1, (w.1 a).2.2.1, va_up (va_up (va_up (w.1 a).2.2.2.1 0 (some a)) 1 (ch_stU g)) 2 (ch_stP g), (w.1 a).2.2.2.2), w.2) := by
      refine Prod.ext (funext fun z => ?_) rfl
      by_cases hz : z = a
      · subst hz; simp [ch_sr, va_up]
      · simp [ch_sr, va_up, hz]
    rw [hv] at h2
    have hDy : ch_Dy g kb w0 (va_up w.1 a ((w.1 a).1, (w.1 a).2.1, (w.1 a).2.2.1, va_up (va_up (va_up (w.1 a).2.2.2.1 0 (some a)) 1 (ch_stU g)) 2 (ch_stP g), (w.1 a).2.2.2.2), w.2) (T.heap.setIfInBounds a ((preparedCellV T0.toThrowableT cell a ⟨va_rf (ch_stU g), ch_rfOk _⟩ ⟨va_rf (ch_stP g), ch_rfOk _⟩).setSlot T0.fStack.slot (va_rf (ch_stU g)))) (locs ++ [⟨a, T0.fCause.slot⟩, ⟨a, T0.fStack.slot⟩, ⟨a, T0.fSupp.slot⟩, ⟨a, T0.fStack.slot⟩]) cells slots := by
      refine ⟨hD.1.upd (by simp) (fun z hz => by simp [Array.getElem?_setIfInBounds, Ne.symm hz]) hbase (Or.inl ⟨ci, q, htg, hq, ⟨((preparedCellV T0.toThrowableT cell a ⟨va_rf (ch_stU g), ch_rfOk _⟩ ⟨va_rf (ch_stP g), ch_rfOk _⟩).setSlot T0.fStack.slot (va_rf (ch_stU g))), (by rw [Array.getElem?_setIfInBounds, if_pos rfl, if_pos hl]), c2, c3, fun k hk => ?_⟩, hbase, fun cell' hc' => ?_⟩), hD.2.1, hD.2.2.1, fun z hz => ?_, hD.2.2.2.2.upd (by rw [htg, hmt]; cases kb <;> rfl)⟩
      · refine (t4 k hk).trans (congrArg some ?_)
        dsimp only
        by_cases h1k : k = 1
        · subst h1k
          rw [y1]
          simp [updV, ch_val, va_up]
        · by_cases h2k : k = 2
          · subst h2k
            rw [y2]
            simp [updV, ch_val, va_up]
          · by_cases h0k : k = 0
            · subst h0k
              rw [y0]
              simp [updV, ch_val, va_up, va_rf]
            · rw [show updV (updV (updV (updV (fun k => ch_val (ch_ft ci k) (w.1 a) k) 0 (.ref a)) 1 (va_rf (ch_stU g))) 2 (va_rf (ch_stP g))) 1 (va_rf (ch_stU g)) k = ch_val (ch_ft ci k) (w.1 a) k by simp [updV, h1k, h2k, h0k]]
              cases hty' : ch_ft ci k <;> simp [ch_val, va_up, h1k, h2k, h0k]
      · rw [Array.getElem?_setIfInBounds, if_pos rfl, if_pos hl] at hc'
        cases hc'
        exact ⟨hm1, hm2⟩
      · rcases List.mem_append.mp hz with h | h
        · exact hD.2.2.2.1 z h
        · simp only [List.mem_cons, List.not_mem_nil, or_false] at h
          rcases h with rfl | rfl | rfl | rfl <;> exact hbase
    obtain ⟨t5, a5, b5⟩ := kk _ h2 hI hDy hL _ rfl X₂
    exact ⟨t5, st1 _ (fun acts => by rw [doInvoke_state]; exact st2 _ a5), b5⟩
