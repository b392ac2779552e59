/-! LEVEL A: calls, throwing -/
theorem ch_recv {g s : State} {w : ch_W} {H : Heap} {b ci : Nat} {q : vw_C} (hok : ch_ok g s) (hr : ch_Rep g w H) (hq : ch_cl[ci]? = some q) (ht : ch_tg w b = ci + 1) : ∃ cell : Cell, H[b]? = some cell ∧ cell.vm = .none ∧ s.vm.findClass q.1 = some cell.cls := by
  have hne : (w.1 b).1 ≠ 0 := by
    have : (w.1 b).1 = ci + 1 := ht
    omega
  have hci : ci < 14 := (List.getElem?_eq_some_iff.mp hq).1
  have htg : (w.1 b).1 = ci + 1 := ht
  rcases hr.1 b hne with ⟨ci', q', h1, h3, ⟨cell, c1, c2, c3, -⟩, -⟩ | ⟨ty, -, h1, -⟩ | ⟨ty, h0, -⟩ | ⟨h0, -⟩
  · have he : ci' = ci := by
      have : (w.1 b).1 = ci + 1 := ht
      omega
    subst he
    cases h3.symm.trans hq
    have hk := (hok.2.1.1 ci' q hq).2.1
    exact ⟨cell, c1, c3, by rw [hok.1.findClass, c2]; exact hk⟩
  · have h2 : (w.1 b).1 = ci + 1 := ht
    rw [h2] at h1
    unfold ch_aty at h1
    rw [if_pos (by omega)] at h1
    cases h1
  · omega
  · omega
theorem ch_callIn {p : Program} {l : Launch} {e : Env} {R : Room} {s : State} {m : MethodId} {args : Array Value} {below : List Frame} {meth : Method} {c : Code} {T : State} {locs : List Loc} {cells slots : Nat} {g : State} {kb : Bool} {M : ch_M} {d : Nat} {w0 w : ch_W}
    (hI : ch_In g M d p e R s m meth c w0) (hD : ch_Dy g kb w0 w T.heap locs cells slots) (X : Stand p l e R s m args below meth c T locs cells slots)
    {gf : JFrame} (hg : gf.method = m) (hsize : gf.locals.size = c.maxLocals) {ig : Instr} {len : Nat} (hdg : decode c.code gf.pc = .ok (ig, len))
    {y : MethodName} {mk : MethodId} {methk : Method} {ck : Code} (hnamed : s.methodNamed? y = some mk) (hmk : s.vm.method? mk = some methk) (hck : methk.code = some ck) (hlk : methk.locks = false) (hy : plainFor y = true)
    {d' : Nat} (hd' : d' + 1 ≤ d) (hw : 2 * gf.monitorRoom + (gf.stack.map fun v => v.category).sum + (ck.maxLocals + 11) ≤ 41) {av : List Value} {Q' : Outcome → ch_W → Prop} (hK : ch_CT g kb y d' av w Q') :
    ∃ (o : Outcome) (w1 : ch_W) (T' : State) (L : List Loc) (k n : Nat), Q' o w1 ∧ ch_Dy g kb w0 w1 T'.heap (locs ++ L) (cells + k) (slots + n) ∧ Stand p l e R s m args below meth c T' (locs ++ L) (cells + k) (slots + n) ∧
      ((∃ v, o = .returned v ∧ ∀ acts, Steps p.tables e below (doInvoke e (T.setTop gf) acts mk av.toArray).1 (T'.setTop { gf with pc := gf.pc + len, stack := v.toList ++ gf.stack })) ∨
       (∃ x, o = .threw x ∧ ∀ acts, Steps p.tables e below (doInvoke e (T.setTop gf) acts mk av.toArray).1 ((T'.setTop gf).pushFrame (.throwing x)))) := by
  obtain ⟨hx, -, -, -, -, -, -, -, hok, ⟨hr1, hr2, hr3, hr4⟩, hsh, htr⟩ := id hI
  obtain ⟨hrep, hcc, hss, hlo, hkp⟩ := id hD
  obtain ⟨-, -, -, -, hcap1, hcap2⟩ := id hrep
  have hnT : T.methodNamed? y = some mk := X.named hnamed
  have hmT : T.vm.method? mk = some methk := by rw [X.warmed.alike.method?]; exact hmk
  obtain ⟨Y₀, hin⟩ := X.into hg hsize hdg av.toArray (R' := { frames := d', cells := R.cells - cells, slots := R.slots - slots, locals := 41 * d' }) hmT hck hlk (State.plainMethod.of_named (s := T) hy hnT hmT)
    (by show d' + 1 ≤ R.frames; omega) (by show _ + 41 * d' ≤ R.locals; omega) (by show cells + (R.cells - cells) ≤ R.cells; omega) (by show slots + (R.slots - slots) ≤ R.slots; omega)
  obtain ⟨t, hst, o, w1, L, k, n, hrun, hend, hq, hrep1, hWt, hsame, hc1, hc2, hL, hkp1⟩ := hK (s := T.calling gf mk av.toArray) hx (by exact hnT) (hok.warm (U := T.calling gf mk av.toArray) X.warmed)
    ⟨⟨Nat.le_refl _, Nat.le_refl _, by show 601024 ≤ w.2.2.1 + (R.cells - cells); omega, by show 7293034 ≤ w.2.2.2 + (R.slots - slots); omega⟩, hrep.2.2.2.1, htr⟩ (by exact hrep) Y₀
  have hlocs : ∀ q ∈ locs ++ L, g.heap.size ≤ q.base := fun q hq => by
    rcases List.mem_append.mp hq with h | h
    · exact hlo q h
    · exact hL q h
  cases o with
  | returned v =>
    obtain ⟨T', X', hW', hB', ht⟩ := X.outOf hg hdg hend hWt hsame
    have hh : T'.heap = t.heap := by
      have h1 := congrArg State.heap ht
      simpa using h1.symm
    refine ⟨.returned v, w1, T', L, k, n, hq, ⟨by rw [hh]; exact hrep1, by omega, by omega, hlocs, hkp.trans hkp1⟩, X', Or.inl ⟨v, rfl, fun acts => ?_⟩⟩
    rw [hin acts, ← ht]
    exact ch_weaken (mid := [.java gf]) hst
  | threw x =>
    obtain ⟨T', X', hW', hB', ht⟩ := X.outOfThrown hg hend hWt hsame
    have hh : T'.heap = t.heap := by
      have h1 := congrArg State.heap ht
      simpa [State.pushFrame, State.setFrames] using h1.symm
    refine ⟨.threw x, w1, T', L, k, n, hq, ⟨by rw [hh]; exact hrep1, by omega, by omega, hlocs, hkp.trans hkp1⟩, X', Or.inr ⟨x, rfl, fun acts => ?_⟩⟩
    rw [hin acts, ← ht]
    exact ch_weaken (mid := [.java gf]) hst
/-- x has been thrown at pc -/
def ch_TH (g : State) (kb : Bool) (M : ch_M) (d pc : Nat) (ls : List (Option Value)) (x : Addr) (w : ch_W) (Q : Outcome → ch_W → Prop) : Prop :=
  ∀ ⦃p : Program⦄ ⦃l : Launch⦄ ⦃e : Env⦄ ⦃R : Room⦄ ⦃s : State⦄ ⦃m : MethodId⦄ ⦃args : Array Value⦄ ⦃below : List Frame⦄ ⦃meth : Method⦄ ⦃c : Code⦄ ⦃H : Heap⦄ ⦃locs : List Loc⦄ ⦃cells slots : Nat⦄ ⦃w0 : ch_W⦄ ⦃ls' : Array Slot⦄ ⦃st : List Value⦄,
    ch_In g M d p e R s m meth c w0 → ch_Dy g kb w0 w H locs cells slots → ch_L ls' M.2.2.1 ls →
    ∀ T : State, T.heap = H → Stand p l e R s m args below meth c T locs cells slots → ∃ t, Steps p.tables e below ((T.setTop (F0 m pc ls' st)).pushFrame (.throwing x)) t ∧ ch_End g kb below s w0 Q t
theorem ch_th {g : State} {kb : Bool} {M : ch_M} {d pc : Nat} {ls : List (Option Value)} {x : Addr} {w : ch_W} {Q : Outcome → ch_W → Prop} (hh : M.2.2.2.2 = []) (h : Q (.threw x) w) : ch_TH g kb M d pc ls x w Q := by
  intro p l e R s m args below meth c H locs cells slots w0 ls' st hI hD hL T hT X
  obtain ⟨hx, -, -, -, hlk, -, hex, -⟩ := id hI
  obtain ⟨hrep, hcc, hss, hlo, hkp⟩ := id hD
  have hno : ∀ y ∈ c.exceptionTable.toList, covers y pc = false := by
    rw [hh] at hex
    have : c.exceptionTable.toList = [] := List.map_eq_nil_iff.mp hex
    rw [this]
    intro y hy
    cases hy
  obtain ⟨h1, h2, h3, h4, h5⟩ := X.leaveThrown x (g := F0 m pc ls' st) rfl rfl rfl hno hlk
  exact ⟨_, h1, .threw x, w, locs, cells, slots, h2, h3, h, by rw [← hT] at hrep; exact hrep, h4, h5, hcc, hss, hlo, hkp⟩
/-- what is left of a caller when its callee has come to an end -/
def ch_K (g : State) (kb : Bool) (M : ch_M) (d pc : Nat) (ls : List (Option Value)) (rest : List Value) (Q : Outcome → ch_W → Prop) : Outcome → ch_W → Prop := fun o w1 => match o with
  | .returned v => ch_FT g kb M d (pc + 3) ls (v.toList ++ rest) w1 Q
  | .threw x => ch_TH g kb M d pc ls x w1 Q
/-- can a method of this name be called: a plain name, its arguments' number -/
def ch_can (y : MethodName) (n : Nat) : Bool := plainFor y && decide (y.cls ≠ "java/lang/invoke/MethodHandle" ∧ y.cls ≠ "java/lang/invoke/VarHandle") && (match parseMethodDescriptor y.desc with | some sig => decide (n = sig.parameters.length) | none => true)
theorem ch_can.pl {y : MethodName} {n : Nat} (h : ch_can y n = true) : plainFor y = true := by
  simp only [ch_can, Bool.and_eq_true] at h
  exact h.1.1
theorem ch_can.ne {y : MethodName} {n : Nat} (h : ch_can y n = true) : y.cls ≠ "java/lang/invoke/MethodHandle" ∧ y.cls ≠ "java/lang/invoke/VarHandle" := by
  simp only [ch_can, Bool.and_eq_true, decide_eq_true_eq] at h
  exact h.1.2
theorem ch_can.ln {y : MethodName} {n : Nat} (h : ch_can y n = true) : ∀ sig, parseMethodDescriptor y.desc = some sig → n = sig.parameters.length := by
  intro sig hs
  simp only [ch_can, Bool.and_eq_true, hs, decide_eq_true_eq] at h
  exact h.2
section CALLS
variable {g : State} {kb : Bool} {M : ch_M} {d pc : Nat} {ls : List (Option Value)} {w : ch_W} {Q : Outcome → ch_W → Prop}
theorem ch_callK {p : Program} {l : Launch} {e : Env} {R : Room} {s : State} {m : MethodId} {args : Array Value} {below : List Frame} {meth : Method} {c : Code} {T : State} {vm₁ : Vm} {locs : List Loc} {cells slots : Nat} {w0 : ch_W} {ls' : Array Slot} {st rest av : List Value}
    (hI : ch_In g M d p e R s m meth c w0) (hD : ch_Dy g kb w0 w T.heap locs cells slots) (hL : ch_L ls' M.2.2.1 ls) (X₁ : Stand p l e R s m args below meth c (T.setVm vm₁) locs cells slots)
    {y : MethodName} {mk : MethodId} {methk : Method} {ck : Code} (hnamed : s.methodNamed? y = some mk) (hmk : s.vm.method? mk = some methk) (hck : methk.code = some ck) (hlk : methk.locks = false) (hy : plainFor y = true)
    {ig : Instr} (hdg : decode c.code pc = .ok (ig, 3)) {d' : Nat} (hd' : d' + 1 ≤ d) (hw : (rest.map fun v => v.category).sum + (ck.maxLocals + 11) ≤ 41) (hK : ch_CT g kb y d' av w (ch_K g kb M d pc ls rest Q))
    (hstep : ∀ target, (∀ acts, Steps p.tables e below (doInvoke e ((T.setVm vm₁).setTop { F0 m pc ls' st with stack := rest }) acts mk av.toArray).1 target) → Steps p.tables e below (T.setTop (F0 m pc ls' st)) target) :
    ∃ t, Steps p.tables e below (T.setTop (F0 m pc ls' st)) t ∧ ch_End g kb below s w0 Q t := by
  have hml : c.maxLocals = M.2.2.1 := hI.2.2.1
  obtain ⟨o, w1, T', L, k, n, hq, hD', X', hor⟩ := ch_callIn hI (T := T.setVm vm₁) hD X₁ (gf := { F0 m pc ls' st with stack := rest }) rfl (by rw [hml]; exact hL.1) hdg hnamed hmk hck hlk hy hd' (by show 2 * 0 + (rest.map fun v => v.category).sum + (ck.maxLocals + 11) ≤ 41; omega) hK
  rcases hor with ⟨v, rfl, hs⟩ | ⟨x, rfl, hs⟩
  · have hF : ch_FT g kb M d (pc + 3) ls (v.toList ++ rest) w1 Q := hq
    obtain ⟨t, a1, b1⟩ := hF hI hD' hL T' rfl X'
    exact ⟨t, hstep _ fun acts => (hs acts).trans a1, b1⟩
  · have hF : ch_TH g kb M d pc ls x w1 Q := hq
    obtain ⟨t, a1, b1⟩ := hF (st := rest) hI hD' hL T' rfl X'
    exact ⟨t, hstep _ fun acts => (hs acts).trans a1, b1⟩
/-- invokevirtual of a method of the receiver's own class -/
theorem ch_iv (y : MethodName) (bytes : ByteArray) (mL : Nat) (ret : Option FieldType) {idx d' ci b : Nat} {q : vw_C} {av rest : List Value} {st : List Value} (hst : st = av.reverse ++ .ref b :: rest) (hdg : decode M.2.1 pc = .ok (.invokevirtual idx, 3))
    (hlink : Cond.methodLink M.1.cls idx y ∈ lw_all) (hinst : Cond.instanceMethod y ∈ lw_all) (hq : ch_cl[ci]? = some q) (hsel : Cond.selects q.1 y y ∈ lw_all) (hcode : Cond.code y bytes mL ret ∈ lw_all) (hcan : ch_can y av.length = true)
    (hd' : d' + 1 ≤ d) (hw : (rest.map fun v => v.category).sum + (mL + 11) ≤ 41) (ht : ch_tg w b = ci + 1) (hK : ch_CT g kb y d' (.ref b :: av) w (ch_K g kb M d pc ls rest Q)) : ch_FT g kb M d pc ls st w Q := by
  intro p l e R s m args below meth c H locs cells slots w0 ls' hI hD hL T hT X
  subst hT
  obtain ⟨hx, hb, hml, -, -, -, -, hown, hok, -⟩ := id hI
  obtain ⟨mk, methM, hnamed, hmethM, hstM, habM⟩ := Cond.instanceMethod_spec (hok.use hinst (args := args))
  obtain ⟨methM', cM, hmethM', hcM, -, hlM, -, hlkM, -, hsigM⟩ := Cond.code_spec hnamed (hok.use hcode (args := args))
  cases hmethM.symm.trans hmethM'
  obtain ⟨c2, r2, m2, q1, q2, q3, q4, kP, hkP, hkPi⟩ := Cond.selects_spec (hok.use hsel (args := args))
  obtain ⟨cell, hcell, hvm, hcls⟩ := ch_recv hok hD.1 hq ht
  cases hcls.symm.trans q1
  cases (State.methodFound?_of_named hnamed (ch_can.ne hcan)).symm.trans q2
  cases hnamed.symm.trans q3
  have hselP : selectMethod e.platform s.vm cell.cls mk = .method mk := by rw [Launch.admits_selectMethod X.admits]; exact q4
  obtain ⟨vm₁, X₁, hstep₁⟩ := X.invokevirtual hx hown (hok.use hlink) hnamed hmethM hstM hkP hkPi (ch_can.ne hcan) (a := b) (cell := cell) hcell
    (fun z h => by rw [hvm] at h; cases h) hselP hmethM habM hkP hkPi (g := F0 m pc ls' st) rfl (argsL := av) (rest := rest) ((ch_can.ln hcan) _ hsigM) hst (by rw [hb]; exact hdg)
  exact ch_callK hI hD hL X₁ hnamed hmethM hcM hlkM (ch_can.pl hcan) (by rw [hb]; exact hdg) hd' (by rw [hlM]; exact hw) hK hstep₁
/-- the same, of a nest mate's private method -/
theorem ch_ivN (y : MethodName) (bytes : ByteArray) (mL : Nat) (ret : Option FieldType) {host : String} {idx d' ci b : Nat} {q : vw_C} {av rest : List Value} {st : List Value} (hst : st = av.reverse ++ .ref b :: rest) (hdg : decode M.2.1 pc = .ok (.invokevirtual idx, 3))
    (hlink : Cond.methodLinkNest M.1.cls idx y host ∈ lw_tbl) (hinst : Cond.instanceMethod y ∈ lw_all) (hq : ch_cl[ci]? = some q) (hsel : Cond.selects q.1 y y ∈ lw_all) (hcode : Cond.code y bytes mL ret ∈ lw_all) (hcan : ch_can y av.length = true)
    (hd' : d' + 1 ≤ d) (hw : (rest.map fun v => v.category).sum + (mL + 11) ≤ 41) (ht : ch_tg w b = ci + 1) (hK : ch_CT g kb y d' (.ref b :: av) w (ch_K g kb M d pc ls rest Q)) : ch_FT g kb M d pc ls st w Q := by
  intro p l e R s m args below meth c H locs cells slots w0 ls' hI hD hL T hT X
  subst hT
  obtain ⟨hx, hb, hml, -, -, -, -, hown, hok, -⟩ := id hI
  obtain ⟨mk, methM, hnamed, hmethM, hstM, habM⟩ := Cond.instanceMethod_spec (hok.use hinst (args := args))
  obtain ⟨methM', cM, hmethM', hcM, -, hlM, -, hlkM, -, hsigM⟩ := Cond.code_spec hnamed (hok.use hcode (args := args))
  cases hmethM.symm.trans hmethM'
  obtain ⟨c2, r2, m2, q1, q2, q3, q4, kP, hkP, hkPi⟩ := Cond.selects_spec (hok.use hsel (args := args))
  obtain ⟨cell, hcell, hvm, hcls⟩ := ch_recv hok hD.1 hq ht
  cases hcls.symm.trans q1
  cases (State.methodFound?_of_named hnamed (ch_can.ne hcan)).symm.trans q2
  cases hnamed.symm.trans q3
  have hselP : selectMethod e.platform s.vm cell.cls mk = .method mk := by rw [Launch.admits_selectMethod X.admits]; exact q4
  obtain ⟨vm₁, X₁, hstep₁⟩ := X.invokevirtualNest hx hown (hok.nest hlink rfl rfl) hnamed hmethM hstM hkP hkPi (ch_can.ne hcan) (a := b) (cell := cell) hcell
    (fun z h => by rw [hvm] at h; cases h) hselP hmethM habM hkP hkPi (g := F0 m pc ls' st) rfl (argsL := av) (rest := rest) ((ch_can.ln hcan) _ hsigM) hst (by rw [hb]; exact hdg)
  exact ch_callK hI hD hL X₁ hnamed hmethM hcM hlkM (ch_can.pl hcan) (by rw [hb]; exact hdg) hd' (by rw [hlM]; exact hw) hK hstep₁
/-- invokestatic -/
theorem ch_is (y : MethodName) (bytes : ByteArray) (mL : Nat) (ret : Option FieldType) {idx d' : Nat} {av rest : List Value} {st : List Value} (hst : st = av.reverse ++ rest) (hdg : decode M.2.1 pc = .ok (.invokestatic idx, 3))
    (hlink : Cond.methodLink M.1.cls idx y ∈ lw_all) (hstat : Cond.static y ∈ lw_all) (hini : Cond.initialized y.cls ∈ lw_all) (hcode : Cond.code y bytes mL ret ∈ lw_all) (hcan : ch_can y av.length = true)
    (hd' : d' + 1 ≤ d) (hw : (rest.map fun v => v.category).sum + (mL + 11) ≤ 41) (hK : ch_CT g kb y d' av w (ch_K g kb M d pc ls rest Q)) : ch_FT g kb M d pc ls st w Q := by
  intro p l e R s m args below meth c H locs cells slots w0 ls' hI hD hL T hT X
  subst hT
  obtain ⟨hx, hb, hml, -, -, -, -, hown, hok, -⟩ := id hI
  obtain ⟨mk, hnamed⟩ := Cond.code_named (hok.use hcode (args := args))
  obtain ⟨methM, cM, hmethM, hcM, -, hlM, -, hlkM, -, hsigM⟩ := Cond.code_spec hnamed (hok.use hcode (args := args))
  have hstatic : methM.isStatic = true := Cond.static_spec hnamed hmethM (hok.use hstat (args := args))
  obtain ⟨kP, hkP, -⟩ := className_of_methodNamed hnamed
  have hinitP : kP.init = .initialized := Cond.initialized_spec (findClass_of_methodNamed hnamed) hkP (hok.use hini (args := args))
  obtain ⟨vm₁, X₁, hstep₁⟩ := X.invokestatic hx hown (hok.use hlink) hnamed hmethM hstatic hkP hinitP (ch_can.ne hcan) (g := F0 m pc ls' st) rfl (argsL := av) (rest := rest) ((ch_can.ln hcan) _ hsigM) hst (by rw [hb]; exact hdg)
  exact ch_callK hI hD hL X₁ hnamed hmethM hcM hlkM (ch_can.pl hcan) (by rw [hb]; exact hdg) hd' (by rw [hlM]; exact hw) hK hstep₁
/-- invokespecial of a constructor -/
theorem ch_ii (y : MethodName) (bytes : ByteArray) (mL : Nat) {idx d' b : Nat} {av rest : List Value} {st : List Value} (hst : st = av.reverse ++ .ref b :: rest) (hdg : decode M.2.1 pc = .ok (.invokespecial idx, 3))
    (hy1 : y.name = "<init>") (hlink : Cond.methodLink M.1.cls idx y ∈ lw_all) (hinst : Cond.instanceMethod y ∈ lw_all) (hcode : Cond.code y bytes mL none ∈ lw_all) (hcan : ch_can y av.length = true)
    (hd' : d' + 1 ≤ d) (hw : (rest.map fun v => v.category).sum + (mL + 11) ≤ 41) (hK : ch_CT g kb y d' (.ref b :: av) w (ch_K g kb M d pc ls rest Q)) : ch_FT g kb M d pc ls st w Q := by
  intro p l e R s m args below meth c H locs cells slots w0 ls' hI hD hL T hT X
  subst hT
  obtain ⟨hx, hb, hml, -, -, -, -, hown, hok, -⟩ := id hI
  have hpl : e.platform.magicAccessors = ({} : Platform).magicAccessors := by rw [X.admits.platform]
  obtain ⟨mk, methM, cM, kP, vm₁, hnamed, hmethM, hcM, -, hlM, hlkM, hkP, -, hW₁, hstep₁⟩ := Steps.initColdArgs (e := e) X.here hx X.warmed hpl hown hy1 (ch_can.ne hcan) (hok.use hlink (args := args)) (hok.use hinst) (hok.use hcode) (f := F0 m pc ls' st) rfl ((ch_can.ln hcan)) hst (by rw [hb]; exact hdg)
  exact ch_callK hI hD hL (X.noted hW₁) hnamed hmethM hcM hlkM (ch_can.pl hcan) (by rw [hb]; exact hdg) hd' (by rw [hlM]; exact hw) hK hstep₁
theorem ch_iiN (y : MethodName) (bytes : ByteArray) (mL : Nat) {host : String} {idx d' b : Nat} {av rest : List Value} {st : List Value} (hst : st = av.reverse ++ .ref b :: rest) (hdg : decode M.2.1 pc = .ok (.invokespecial idx, 3))
    (hy1 : y.name = "<init>") (hlink : Cond.methodLinkNest M.1.cls idx y host ∈ lw_tbl) (hinst : Cond.instanceMethod y ∈ lw_all) (hcode : Cond.code y bytes mL none ∈ lw_all) (hcan : ch_can y av.length = true)
    (hd' : d' + 1 ≤ d) (hw : (rest.map fun v => v.category).sum + (mL + 11) ≤ 41) (hK : ch_CT g kb y d' (.ref b :: av) w (ch_K g kb M d pc ls rest Q)) : ch_FT g kb M d pc ls st w Q := by
  intro p l e R s m args below meth c H locs cells slots w0 ls' hI hD hL T hT X
  subst hT
  obtain ⟨hx, hb, hml, -, -, -, -, hown, hok, -⟩ := id hI
  have hpl : e.platform.magicAccessors = ({} : Platform).magicAccessors := by rw [X.admits.platform]
  obtain ⟨mk, methM, cM, kP, vm₁, hnamed, hmethM, hcM, -, hlM, hlkM, hkP, -, hW₁, hstep₁⟩ := Steps.initColdArgsNest (e := e) X.here hx X.warmed hpl hown hy1 (ch_can.ne hcan) (hok.nest hlink rfl rfl (args := args)) (hok.use hinst) (hok.use hcode) (f := F0 m pc ls' st) rfl ((ch_can.ln hcan)) hst (by rw [hb]; exact hdg)
  exact ch_callK hI hD hL (X.noted hW₁) hnamed hmethM hcM hlkM (ch_can.pl hcan) (by rw [hb]; exact hdg) hd' (by rw [hlM]; exact hw) hK hstep₁
theorem ch_isT (y : MethodName) (bytes : ByteArray) (mL : Nat) (ret : Option FieldType) {host : String} {idx d' : Nat} {av rest : List Value} {st : List Value} (hst : st = av.reverse ++ rest) (hdg : decode M.2.1 pc = .ok (.invokestatic idx, 3))
    (hlink : Cond.methodLinkNest M.1.cls idx y host ∈ lw_tbl) (hstat : Cond.static y ∈ lw_all) (hini : Cond.initialized y.cls ∈ lw_all) (hcode : Cond.code y bytes mL ret ∈ lw_all) (hcan : ch_can y av.length = true)
    (hd' : d' + 1 ≤ d) (hw : (rest.map fun v => v.category).sum + (mL + 11) ≤ 41) (hK : ch_CT g kb y d' av w (ch_K g kb M d pc ls rest Q)) : ch_FT g kb M d pc ls st w Q := by
  intro p l e R s m args below meth c H locs cells slots w0 ls' hI hD hL T hT X
  subst hT
  obtain ⟨hx, hb, hml, -, -, -, -, hown, hok, -⟩ := id hI
  obtain ⟨mk, hnamed⟩ := Cond.code_named (hok.use hcode (args := args))
  obtain ⟨methM, cM, hmethM, hcM, -, hlM, -, hlkM, -, hsigM⟩ := Cond.code_spec hnamed (hok.use hcode (args := args))
  have hstatic : methM.isStatic = true := Cond.static_spec hnamed hmethM (hok.use hstat (args := args))
  obtain ⟨kP, hkP, -⟩ := className_of_methodNamed hnamed
  have hinitP : kP.init = .initialized := Cond.initialized_spec (findClass_of_methodNamed hnamed) hkP (hok.use hini (args := args))
  obtain ⟨vm₁, X₁, hstep₁⟩ := X.invokestaticNest hx hown (hok.nest hlink rfl rfl) hnamed hmethM hstatic hkP hinitP (ch_can.ne hcan) (g := F0 m pc ls' st) rfl (argsL := av) (rest := rest) ((ch_can.ln hcan) _ hsigM) hst (by rw [hb]; exact hdg)
  exact ch_callK hI hD hL X₁ hnamed hmethM hcM hlkM (ch_can.pl hcan) (by rw [hb]; exact hdg) hd' (by rw [hlM]; exact hw) hK hstep₁
end CALLS
