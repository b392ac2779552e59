/-! LEVEL C: what is caught in a method of ours -/
theorem ch_goC {Q : Handler → Pre} {E : CtlPost} {e : Env} {d : Bool} {acts : List Action} {s : State} {f : JFrame} {a : Addr} {x : ClassFile.ExceptionTableEntry} {t : List ClassFile.ExceptionTableEntry} {c : ClassId} {cell : Cell} {vm' : Vm} (hx : covers x f.pc = true) (h0 : x.catchType ≠ 0)
    (hg : (Jvm.resolveClass f.method.cls x.catchType).Gives e.toSetting s.vm (.ok c) vm') (hsz : vm'.classes.size ≤ s.vm.classes.size) (hcell : s.heap[a]? = some cell) (hobj : ∀ k, cell.vm ≠ .statics k) (hk : ∃ k, vm'.classes[cell.cls]? = some k) (hc : ∃ k, vm'.classes[c]? = some k) :
    wp (findHandler.go f a (x :: t)) Q E e d acts s ↔ if vm'.assignable cell.cls c = true then Q (.found x.handlerPc) d acts (s.setVm vm') else wp (findHandler.go f a t) Q E e d acts (s.setVm vm') := by
  obtain ⟨ha, ht⟩ := hg.op (op := VmOp.resolveClass f.method.cls x.catchType) rfl
  have hw : ∀ {Q' : Except LinkFail ClassId → Pre}, wp (Jvm.vmOp (VmOp.resolveClass f.method.cls x.catchType)) Q' E e d acts s ↔ Q' (.ok c) d acts (s.setVm vm') := by
    intro Q'
    rw [W.vmOp_same _ (by rw [ht]; exact hsz), ha, ht]
    rfl
  simp only [covers] at hx
  have hcell' : (s.setVm vm').heap[a]? = some cell := hcell
  have hk' : ∃ k, (s.setVm vm').vm.classes[cell.cls]? = some k := hk
  have hc' : ∃ k, (s.setVm vm').vm.classes[c]? = some k := hc
  cases hfit : vm'.assignable cell.cls c <;>
    simp [findHandler.go, hx, h0, hw, hcell, hobj, hk, hc, hfit]
/-- the step from a note to a handler, the tables warmer -/
theorem ch_caughtV {tb : Tables} {e : Env} {below : List Frame} {s target : State} {g : JFrame} {c : Code} {a : Addr} {vm' : Vm} (h : At s g.method c below) {pc : Nat}
    (hfind : ∀ (Q : Handler → Pre) (E : CtlPost) (d : Bool) (acts : List Action), Q (.found pc) d acts (((s.setTop g).pushFrame (.throwing a)).setVm vm') → wp (findHandler g a) Q E e d acts ((s.setTop g).pushFrame (.throwing a)))
    (hrest : Steps tb e below ((s.setVm vm').setTop { g with pc := pc, stack := [.ref a] }) target) :
    Steps tb e below ((s.setTop g).pushFrame (.throwing a)) target := by
  obtain ⟨hgo, hw⟩ := h.throwing a
  refine Steps.head hgo hw ?_
  have key : ∀ r, (stepThrowing e ((s.setTop g).pushFrame (.throwing a)) a (.java g :: r)).1 = (((s.setTop g).pushFrame (.throwing a)).setVm vm').setFrames (.java { g with pc := pc, stack := [.ref a] } :: r) := by
    intro r
    simp only [stepThrowing, searchFrame, vmDo]
    generalize hr : Sem.go _ e false [] ((s.setTop g).pushFrame (.throwing a)) = res
    obtain ⟨as, rfl, ha⟩ := Sem.eq_ok_of hr (a := Handler.found pc) (s' := ((s.setTop g).pushFrame (.throwing a)).setVm vm') (acts' := []) (by
      rw [wp_bind']
      exact hfind _ _ _ _ (by simp))
    rfl
  rw [stepThread_throwing (frames_entered h.top _), key]
  obtain ⟨g₀, hg⟩ := Option.isSome_iff_exists.mp h.top
  obtain ⟨r, hr⟩ := State.topJava?_eq_some.mp hg
  have hr2 : (s.setVm vm').frames = .java g₀ :: r := hr
  rw [State.setTop_of_frames _ hr2] at hrest
  have e1 : (((s.setTop g).pushFrame (.throwing a)).setVm vm').setFrames (.java { g with pc := pc, stack := [.ref a] } :: s.frames.tail) = (s.setVm vm').setFrames (.java { g with pc := pc, stack := [.ref a] } :: r) := by
    have hc : ∀ (X : State) (A : List Frame), (X.setFrames A).setVm vm' = (X.setVm vm').setFrames A := fun _ _ => rfl
    rw [hr, State.pushFrame, State.setTop_of_frames _ hr, hc, hc, State.setFrames_setFrames, State.setFrames_setFrames]
    rfl
  rw [e1]
  exact hrest
section CATCH
variable {g : State} {kb : Bool} {M : ch_M} {d pc : Nat} {ls : List (Option Value)} {w : ch_W} {Q : Outcome → ch_W → Prop} {a : Nat}
theorem ch_entry {c : Code} {hs : List (Nat × Nat × Nat × Nat)} {sp ep hp ct : Nat} (h : c.exceptionTable.toList.map (fun h => (h.startPc, h.endPc, h.handlerPc, h.catchType)) = (sp, ep, hp, ct) :: hs) : ∃ (x : ClassFile.ExceptionTableEntry) (t : List ClassFile.ExceptionTableEntry), c.exceptionTable.toList = x :: t ∧ x.startPc = sp ∧ x.endPc = ep ∧ x.handlerPc = hp ∧ x.catchType = ct ∧ t.map (fun h => (h.startPc, h.endPc, h.handlerPc, h.catchType)) = hs := by
  cases hl : c.exceptionTable.toList with
  | nil => rw [hl] at h; cases h
  | cons x t =>
    rw [hl] at h
    simp only [List.map_cons, List.cons.injEq, Prod.mk.injEq] at h
    exact ⟨x, t, rfl, h.1.1, h.1.2.1, h.1.2.2.1, h.1.2.2.2, h.2⟩
theorem ch_th1 {ci sp ep hp ct : Nat} {q : vw_C} {hs : List (Nat × Nat × Nat × Nat)} (hh : M.2.2.2.2 = (sp, ep, hp, ct) :: hs) (hc1 : sp ≤ pc) (hc2 : pc < ep) (h0 : ct ≠ 0) (hq : ch_cl[ci]? = some q) (hlink : Cond.classLink M.1.cls ct q.1 ∈ lw_all) (ht : ch_tg w a = ci + 1) (k : ch_FT g kb M d hp ls [va_rf (some a)] w Q) : ch_TH g kb M d pc ls a w Q := by
  intro p l e R s m args below meth c H locs cells slots w0 ls' st hI hD hL T hT X
  subst hT
  obtain ⟨hx, hb, hml, -, hlk, -, hex, hown, hok, -, -⟩ := id hI
  rw [hh] at hex
  obtain ⟨x, t, g1, g2, g3, g4, g5, -⟩ := ch_entry hex
  obtain ⟨cell, r1, r2, r3⟩ := ch_recv hok hD.1 hq ht
  have hpl : e.platform.magicAccessors = ({} : Platform).magicAccessors := by rw [X.admits.platform]
  obtain ⟨cT, hcT, hcl⟩ := Cond.classLink_spec hown (hok.use hlink (args := args)) e.platform hpl
  cases r3.symm.trans hcT
  obtain ⟨dk, _, _, kt, hd, _, _, _, _, hkt, _, hopen⟩ := hcl.here
  have hcl₀ := X.warmed.classLinks hcl
  have hW' : s.WarmedH (T.vm.noted m.cls ct (.cls cell.cls)) := X.warmed.noted hd hopen (State.rightAt_cls hcl)
  obtain ⟨kt', hkt', -⟩ := hW'.alike.2.2 _ _ hkt
  have X' := X.noted hW'
  obtain ⟨t1, a1, b1⟩ := k hI hD hL (T.setVm (T.vm.noted m.cls ct (.cls cell.cls))) rfl X'
  refine ⟨t1, ch_caughtV (g := F0 m pc ls' st) X.here ?_ a1, b1⟩
  intro Q' E' d' acts' hQ
  rw [W.findHandler_eq (s := (T.setTop (F0 m pc ls' st)).pushFrame (.throwing a)) (meth := meth) (code := c) (by rw [Stand.throwing_vm]; exact X.method') X.code, g1]
  rw [ch_goC (c := cell.cls) (cell := cell) (vm' := T.vm.noted m.cls ct (.cls cell.cls)) (by simp [covers, g2, g3]; exact ⟨hc1, hc2⟩) (by rw [g5]; exact h0) (by rw [g5, Stand.throwing_vm]; exact resolveClass_links e.toSetting hcl₀) (by rw [Stand.throwing_vm]; simp) (by rw [Stand.throwing_heap]; exact r1) (fun k hk => by rw [r2] at hk; cases hk) ⟨_, hkt'⟩ ⟨_, hkt'⟩, if_pos (va_asg _ _), g4]
  exact hQ
theorem ch_nca {A B : String} {ca cb : ClassId} (h : (Cond.not (Cond.castable A B)).before #[] g = true) (ha : g.vm.findClass A = some ca) (hb : g.vm.findClass B = some cb) : g.vm.assignable ca cb = false := by
  simpa [Cond.before, Cond.holds, Cond.value, ha, hb] using h
theorem ch_th2 {sp0 ep0 hp0 ct0 sp ep hp ct : Nat} {hs : List (Nat × Nat × Nat × Nat)} (hh : M.2.2.2.2 = (sp0, ep0, hp0, ct0) :: (sp, ep, hp, ct) :: hs) (hd1 : sp0 ≤ pc) (hd2 : pc < ep0) (hd0 : ct0 ≠ 0) (hc1 : sp ≤ pc) (hc2 : pc < ep) (h0 : ct ≠ 0) (hlink0 : Cond.classLink M.1.cls ct0 "ClassHouse$Thrown" ∈ lw_all) (hlink : Cond.classLink M.1.cls ct "ClassHouse$Ended" ∈ lw_all) (ht : ch_tg w a = 13) (k : ch_FT g kb M d hp ls [va_rf (some a)] w Q) : ch_TH g kb M d pc ls a w Q := by
  intro p l e R s m args below meth c H locs cells slots w0 ls' st hI hD hL T hT X
  subst hT
  obtain ⟨hx, hb, hml, -, hlk, -, hex, hown, hok, -, -⟩ := id hI
  rw [hh] at hex
  obtain ⟨x0, t0, g10, g20, g30, g40, g50, hex1⟩ := ch_entry hex
  cases t0 with
  | nil => cases hex1
  | cons x t =>
    simp only [List.map_cons, List.cons.injEq, Prod.mk.injEq] at hex1
    obtain ⟨⟨g2, g3, g4, g5⟩, -⟩ := hex1
    obtain ⟨cell, r1, r2, r3⟩ := ch_recv (ci := 12) hok hD.1 rfl ht
    have hpl : e.platform.magicAccessors = ({} : Platform).magicAccessors := by rw [X.admits.platform]
    obtain ⟨cT, hcT, hcl⟩ := Cond.classLink_spec hown (hok.use hlink (args := args)) e.platform hpl
    obtain ⟨cT0, hcT0, hcl0⟩ := Cond.classLink_spec hown (hok.use hlink0 (args := args)) e.platform hpl
    cases (show s.vm.findClass "ClassHouse$Ended" = some cell.cls from r3).symm.trans hcT
    have hna : s.vm.assignable cell.cls cT0 = false := by
      rw [hok.1.assignable]
      refine ch_nca (A := "ClassHouse$Ended") (B := "ClassHouse$Thrown") hok.2.2.2.2.2.2.1.2.2.2.2.2.2.2.2 ?_ ?_
      · rw [← hok.1.findClass]; exact hcT
      · rw [← hok.1.findClass]; exact hcT0
    obtain ⟨dk, _, _, kt, hd, _, _, _, _, hkt, _, hopen⟩ := hcl.here
    obtain ⟨dk0, _, _, kt0, hdd0, _, _, _, _, hkt0, _, hopen0⟩ := hcl0.here
    have hcl₀0 := X.warmed.classLinks hcl0
    have hW0 : s.WarmedH (T.vm.noted m.cls ct0 (.cls cT0)) := X.warmed.noted hdd0 hopen0 (State.rightAt_cls hcl0)
    have X0 := X.noted hW0
    have hcl₀ := X0.warmed.classLinks hcl
    have hW' : s.WarmedH ((T.vm.noted m.cls ct0 (.cls cT0)).noted m.cls ct (.cls cell.cls)) := X0.warmed.noted hd hopen (State.rightAt_cls hcl)
    obtain ⟨kt', hkt', -⟩ := hW'.alike.2.2 _ _ hkt
    obtain ⟨kt1, hkt1, -⟩ := hW0.alike.2.2 _ _ hkt
    obtain ⟨kt2, hkt2, -⟩ := hW0.alike.2.2 _ _ hkt0
    have X' := X0.noted hW'
    obtain ⟨t1, a1, b1⟩ := k hI hD hL ((T.setVm (T.vm.noted m.cls ct0 (.cls cT0))).setVm ((T.vm.noted m.cls ct0 (.cls cT0)).noted m.cls ct (.cls cell.cls))) rfl X'
    refine ⟨t1, ch_caughtV (g := F0 m pc ls' st) (vm' := (T.vm.noted m.cls ct0 (.cls cT0)).noted m.cls ct (.cls cell.cls)) X.here ?_ a1, b1⟩
    intro Q' E' d' acts' hQ
    rw [W.findHandler_eq (s := (T.setTop (F0 m pc ls' st)).pushFrame (.throwing a)) (meth := meth) (code := c) (by rw [Stand.throwing_vm]; exact X.method') X.code, g10]
    rw [ch_goC (c := cT0) (cell := cell) (vm' := T.vm.noted m.cls ct0 (.cls cT0)) (by simp [covers, g20, g30]; exact ⟨hd1, hd2⟩) (by rw [g50]; exact hd0) (by rw [g50, Stand.throwing_vm]; exact resolveClass_links e.toSetting hcl₀0) (by rw [Stand.throwing_vm]; simp) (by rw [Stand.throwing_heap]; exact r1) (fun k hk => by rw [r2] at hk; cases hk) ⟨_, hkt1⟩ ⟨_, hkt2⟩, if_neg (by rw [hW0.alike.assignable, hna]; decide)]
    rw [ch_goC (c := cell.cls) (cell := cell) (vm' := (T.vm.noted m.cls ct0 (.cls cT0)).noted m.cls ct (.cls cell.cls)) (by simp [covers, g2, g3]; exact ⟨hc1, hc2⟩) (by rw [g5]; exact h0) (by rw [g5]; exact resolveClass_links e.toSetting hcl₀) (by simp) (by show ((T.setTop (F0 m pc ls' st)).pushFrame (.throwing a)).heap[a]? = _; rw [Stand.throwing_heap]; exact r1) (fun k hk => by rw [r2] at hk; cases hk) ⟨_, hkt'⟩ ⟨_, hkt'⟩, if_pos (va_asg _ _), g4]
    exact hQ
/-- behind a call that may throw, in a method that may catch -/
def ch_tbh {α γ : Type} (x : Option (Except Nat α × ch_W)) (ke : Nat → ch_W → Option γ) (k : α → ch_W → Option γ) : Option γ := x.bind fun p => match p.1 with
  | .ok v => k v p.2
  | .error a => ke a p.2
theorem cp_tVH {γ : Type} {res : γ} {x : Option (Except Nat Unit × ch_W)} {er : Nat → ch_W → Option γ} {kf : Unit → ch_W → Option γ} {y : MethodName} {d' : Nat} {av rest : List Value} (h : ch_tbh x er kf = some res) (hs : ∀ p, x = some p → ∀ Q', ch_xV Q' p → ch_CT g kb y d' av w Q') (k : ∀ w1, kf () w1 = some res → ch_FT g kb M d (pc + 3) ls rest w1 Q) (ke : ∀ a w1, er a w1 = some res → ch_TH g kb M d pc ls a w1 Q) : ch_CT g kb y d' av w (ch_K g kb M d pc ls rest Q) := by
  obtain ⟨⟨e, w1⟩, h1, h2⟩ := ch_bd h
  refine hs _ h1 _ ?_
  cases e with
  | ok v => exact k w1 h2
  | error a => exact ke a w1 h2
/-- a method with handlers, out of a walk of its body -/
theorem ch_ctH (M : ch_M) {d : Nat} {av : List Value} {l ls : List (Option Value)} {w : ch_W} {Q : Outcome → ch_W → Prop} (hc : Cond.codeWith M.1 M.2.1 M.2.2.1 M.2.2.2.1 M.2.2.2.2 ∈ lw_all) (hl : ch_LY av l) (hn : l.length ≤ M.2.2.1) (he : l ++ List.replicate (M.2.2.1 - l.length) none = ls) (k : ch_FT g kb M d 0 ls [] w Q) : ch_CT g kb M.1 d av w Q := by
  refine ch_ctW M (fun s m hok hm => ?_) (by rw [hl.2]; exact hn) ?_
  · obtain ⟨m', meth, c, h1, h2, h3, h4, h5, h6, h7, h8, -⟩ := Cond.codeWith_spec (hok.use hc (args := #[]))
    cases h1.symm.trans hm
    exact ⟨meth, c, h2, h3, h4, h5, h7, h8, h6⟩
  · rw [ch_en, hl.1, he]
    exact k
/-- invokevirtual of a method with handlers -/
theorem ch_ivH (y : MethodName) (bytes : ByteArray) (mL : Nat) (ret : Option FieldType) (hs : List (Nat × Nat × Nat × Nat)) {idx d' ci b : Nat} {q : vw_C} {av rest : List Value} {st : List Value} (hst : st = av.reverse ++ .ref b :: rest) (hdg : decode M.2.1 pc = .ok (.invokevirtual idx, 3))
    (hlink : Cond.methodLink M.1.cls idx y ∈ lw_all) (hinst : Cond.instanceMethod y ∈ lw_all) (hq : ch_cl[ci]? = some q) (hsel : Cond.selects q.1 y y ∈ lw_all) (hcode : Cond.codeWith y bytes mL ret hs ∈ lw_all) (hcan : ch_can y av.length = true)
    (hd' : d' + 1 ≤ d) (hw : (rest.map fun v => v.category).sum + (mL + 11) ≤ 41) (ht : ch_tg w b = ci + 1) (hK : ch_CT g kb y d' (.ref b :: av) w (ch_K g kb M d pc ls rest Q)) : ch_FT g kb M d pc ls st w Q := by
  intro p l e R s m args below meth c H locs cells slots w0 ls' hI hD hL T hT X
  subst hT
  obtain ⟨hx, hb, hml, -, -, -, -, hown, hok, -⟩ := id hI
  obtain ⟨mk, methM, hnamed, hmethM, hstM, habM⟩ := Cond.instanceMethod_spec (hok.use hinst (args := args))
  obtain ⟨mk', methM', cM, hnamed', hmethM', hcM, -, hlM, -, -, hlkM, hsigM⟩ := Cond.codeWith_spec (hok.use hcode (args := args))
  cases hnamed.symm.trans hnamed'
  cases hmethM.symm.trans hmethM'
  obtain ⟨c2, r2, m2, q1, q2, q3, q4, kP, hkP, hkPi⟩ := Cond.selects_spec (hok.use hsel (args := args))
  obtain ⟨cell, hcell, hvm, hcls⟩ := ch_recv hok hD.1 hq ht
  cases hcls.symm.trans q1
  cases (State.methodFound?_of_named hnamed (ch_can.ne hcan)).symm.trans q2
  cases hnamed.symm.trans q3
  have hselP : selectMethod e.platform s.vm cell.cls mk = .method mk := by rw [Launch.admits_selectMethod X.admits]; exact q4
  obtain ⟨vm₁, X₁, hstep₁⟩ := X.invokevirtual hx hown (hok.use hlink) hnamed hmethM hstM hkP hkPi (ch_can.ne hcan) (a := b) (cell := cell) hcell
    (fun z h => by rw [hvm] at h; cases h) hselP hmethM habM hkP hkPi (g := F0 m pc ls' st) rfl (argsL := av) (rest := rest) ((ch_can.ln hcan) _ hsigM) hst (by rw [hb]; exact hdg)
  exact ch_callK hI hD hL X₁ hnamed hmethM hcM hlkM (ch_can.pl hcan) (by rw [hb]; exact hdg) hd' (by rw [hlM]; exact hw) hK hstep₁
end CATCH
