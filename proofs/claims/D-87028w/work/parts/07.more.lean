/-! LEVEL A: rows that make cells, casts, ends, copies -/
theorem ch_Wmono {p : Program} {l : Launch} {e : Env} {R : Room} {s : State} {m : MethodId} {args : Array Value} {below : List Frame} {meth : Method} {c : Code} {H : Heap} {locs : List Loc} {cells slots : Nat} {Q Q' : State → Prop} {f : JFrame} (h : ∀ t, Q t → Q' t) (k : W p l e R s m args below meth c H locs cells slots Q f) : W p l e R s m args below meth c H locs cells slots Q' f := by
  intro T hT X
  obtain ⟨t, a, b⟩ := k T hT X
  exact ⟨t, a, h t b⟩
theorem ch_ofMQ {g : State} {kb : Bool} {below : List Frame} {s : State} {w0 w : ch_W} {H : Heap} {locs : List Loc} {cells slots : Nat} {Q : Outcome → ch_W → Prop} {args : Array Value} {v : Option Value} (hD : ch_Dy g kb w0 w H locs cells slots) (hq : Q (.returned v) w) : ∀ t, MQ below (fun _ _ o t => o = .returned v ∧ t.heap = H) args s cells slots (fun q => g.heap.size ≤ q) t → ch_End g kb below s w0 Q t := by
  rintro t ⟨o, h1, h2, ⟨rfl, hh⟩, L, ⟨-, hW, hsame⟩, hL⟩
  exact ⟨_, w, L, cells, slots, h1, h2, hq, by rw [hh]; exact hD.1, hW, hsame, hD.2.1, hD.2.2.1, hL, hD.2.2.2.2⟩
section MORE
variable {g : State} {kb : Bool} {M : ch_M} {d pc : Nat} {ls : List (Option Value)} {st : List Value} {w : ch_W} {Q : Outcome → ch_W → Prop}
theorem ch_ireturn {ty : FieldType} (x : Int32) (hd : decode M.2.1 pc = .ok (.ireturn, 1)) (hr : M.2.2.2.1 = some ty) (hn : narrow ty (.int x) = .int x) (h : Q (.returned (some (.int x))) w) : ch_FT g kb M d pc ls [.int x] w Q := by
  intro p l e R s m args below meth c H locs cells slots w0 ls' hI hD hL
  exact ch_Wmono (ch_ofMQ hD h) (W.zret hI.1 hI.2.1 (hI.2.2.2.1.trans hr) hn (fun t ht _ => ⟨rfl, ht⟩) hD.2.2.2.1 hd hI.2.2.2.2.1)
theorem ch_lreturn (x : Int64) (hd : decode M.2.1 pc = .ok (.lreturn, 1)) (hr : M.2.2.2.1 = some .long) (h : Q (.returned (some (.long x))) w) : ch_FT g kb M d pc ls [.long x] w Q := by
  intro p l e R s m args below meth c H locs cells slots w0 ls' hI hD hL
  exact ch_Wmono (ch_ofMQ hD h) (W.lret hI.1 hI.2.1 (hI.2.2.2.1.trans hr) (fun t ht _ => ⟨rfl, ht⟩) hD.2.2.2.1 hd hI.2.2.2.2.1)
theorem ch_areturn {ty : FieldType} (r : Option Nat) (hd : decode M.2.1 pc = .ok (.areturn, 1)) (hr : M.2.2.2.1 = some ty) (hty : (∃ n, ty = .object n) ∨ ∃ t, ty = .array t) (h : Q (.returned (some (va_rf r))) w) : ch_FT g kb M d pc ls [va_rf r] w Q := by
  intro p l e R s m args below meth c H locs cells slots w0 ls' hI hD hL
  exact ch_Wmono (ch_ofMQ hD h) (W.aret hI.1 hI.2.1 (hI.2.2.2.1.trans hr) hty (by cases r with | none => exact Or.inl rfl | some a => exact Or.inr ⟨a, rfl⟩) (fun t ht _ => ⟨rfl, ht⟩) hD.2.2.2.1 hd hI.2.2.2.2.1)
theorem ch_return (hd : decode M.2.1 pc = .ok (.return_, 1)) (hr : M.2.2.2.1 = none) (h : Q (.returned none) w) : ch_FT g kb M d pc ls [] w Q := by
  intro p l e R s m args below meth c H locs cells slots w0 ls' hI hD hL
  exact ch_Wmono (ch_ofMQ hD h) (W.vret hI.1 hI.2.1 (hI.2.2.2.1.trans hr) (fun t ht _ => ⟨rfl, ht⟩) hD.2.2.2.1 hd hI.2.2.2.2.1)
theorem ch_athrow (r : Option Nat) {x : Nat} (hr : r = some x) (hd : decode M.2.1 pc = .ok (.athrow, 1)) (hh : M.2.2.2.2 = []) (h : Q (.threw x) w) : ch_FT g kb M d pc ls (va_rf r :: st) w Q := by
  intro p l e R s m args below meth c H locs cells slots w0 ls' hI hD hL T hT X
  subst hr
  obtain ⟨hx, hb, -, -, hlk, -, hex, -⟩ := id hI
  have hno : ∀ y ∈ c.exceptionTable.toList, covers y pc = false := by
    rw [hh] at hex
    have : c.exceptionTable.toList = [] := List.map_eq_nil_iff.mp hex
    rw [this]
    intro y hy
    cases hy
  obtain ⟨h1, h2, h3, h4, h5⟩ := X.athrowLeaves hx (g := F0 m pc ls' (.ref x :: st)) rfl rfl rfl hno rfl (by rw [hb]; exact hd) hlk
  exact ⟨_, h1, .threw x, w, locs, cells, slots, h2, h3, h, by rw [← hT] at hD; exact hD.1, h4, h5, hD.2.1, hD.2.2.1, hD.2.2.2⟩
/-- Object's own constructor -/
theorem ch_objInit (r : Option Nat) {a idx : Nat} (hr : r = some a) (hd : decode M.2.1 pc = .ok (.invokespecial idx, 3)) (hlink : Cond.methodLink M.1.cls idx Lib.objectInit ∈ lw_all) (hinst : Cond.instanceMethod Lib.objectInit ∈ lw_all) (hcode : Cond.code Lib.objectInit ⟨#[0xb1]⟩ 1 none ∈ lw_all) (hd1 : 1 ≤ d) (hw : (st.map fun v => v.category).sum + 12 ≤ 41) (kk : ch_FT g kb M d (pc + 3) ls st w Q) : ch_FT g kb M d pc ls (va_rf r :: st) w Q := by
  intro p l e R s m args below meth c H locs cells slots w0 ls' hI hD hL
  subst hr
  obtain ⟨hx, hb, hml, -, -, -, -, hown, hok, ⟨hr1, hr2, -⟩, -⟩ := id hI
  exact W.objInit hx hb hown (hok.use hlink) (hok.use hinst) (hok.use hcode) rfl (by rw [hml]; exact hL.1) rfl hd (by omega) (by show 2 * 0 + (st.map fun v => v.category).sum + 12 ≤ R.locals; omega) (kk hI hD hL)
theorem ch_val_new {ty : FieldType} (h : ch_plain ty = true) (t n k : Nat) : ch_val ty (ch_new t n) k = defaultValue ty := by
  cases ty <;> first | rfl | cases h
theorem ch_plains : ∀ ci, ci < 14 → ∀ k, k < 120 → ch_plain (ch_ft ci k) = true := by decide +kernel
theorem ch_Ns : ∀ ci, ci < 14 → (match ch_cl[ci]? with | some q => decide (q.2.2 < 120) | none => true) = true := by decide +kernel
/-- new -/
theorem ch_newO (ci n : Nat) {idx : Nat} {q : vw_C} (hd : decode M.2.1 pc = .ok (.new idx, 3)) (hq : ch_cl[ci]? = some q) (hlink : Cond.classLink M.1.cls idx q.1 ∈ lw_all) (hins : Cond.instantiable q.1 n ∈ lw_all) (hini : Cond.initialized q.1 ∈ lw_all) (hc : ch_cs w + 1 ≤ 601024) (hs : ch_sl w + n ≤ 7293034)
    (kk : ch_FT g kb M d (pc + 3) ls (.ref (ch_nx w) :: st) (ch_nw w (ch_new (ci + 1) n)) Q) : ch_FT g kb M d pc ls st w Q := by
  intro p l e R s m args below meth c H locs cells slots w0 ls' hI hD hL
  obtain ⟨hx, hb, hml, -, -, -, -, hown, hok, ⟨hr1, hr2, hr3, hr4⟩, hsh, htr⟩ := id hI
  have hci : ci < 14 := (List.getElem?_eq_some_iff.mp hq).1
  have hcc : w.2.2.1 + 1 ≤ 601024 := hc
  have hss : w.2.2.2 + n ≤ 7293034 := hs
  have hD1 := hD.2.1
  have hD2 := hD.2.2.1
  refine W.newc hx hb hown (hok.use hlink) (hok.use hins) (hok.use hini) rfl hd (by omega) (by omega) fun cC kC f1 f2 f3 f4 => ?_
  have hKn := u_Kn_moved hok.1 (hok.2.1.1 ci q hq)
  have e1 : cC = ch_dC g ci := Option.some.inj (f1.symm.trans hKn.2.1)
  subst e1
  obtain ⟨hin, hty, hnm⟩ := ch_cls ci q hq
  have hNx : w.2.1 = H.size := hD.1.2.1
  have hN : q.2.2 < 120 := by
    have := ch_Ns ci hci
    rw [hq] at this
    exact of_decide_eq_true this
  have hfr : (F0 m (pc + 3) ls' (.ref (ch_nx w) :: st)) = ({ F0 m pc ls' st with pc := pc + 3, stack := .ref H.size :: st } : JFrame) := by
    show F0 m (pc + 3) ls' (.ref w.2.1 :: st) = _
    rw [hNx]
  have hts : ∀ w ∈ lw_all, w.before args s = true := fun w h => hok.use h
  have key := kk (l := l) (e := e) (args := args) (below := below) (H := H.push { cls := ch_dC g ci, slots := kC.instanceTypes.map defaultValue, vm := .none }) (locs := locs) (cells := cells + 1) (slots := slots + n) hI ⟨?_, ?_, ?_, hD.2.2.2.1, hD.nw⟩ hL
  · rw [hfr] at key
    exact key
  · refine hD.1.push (by simp) (fun x hx => by rw [Array.getElem?_push, if_neg (Nat.ne_of_lt hx)]) (Or.inl ⟨ci, q, rfl, hq, ?_, hD.1.2.2.1, fun cell' hc' => by rw [Array.getElem?_push_size] at hc'; cases hc'; exact ⟨rfl, rfl⟩⟩) hcc (by show w.2.2.2 + n ≤ _; omega)
    have hb := u_born (o := H.size) (H := H.push { cls := ch_dC g ci, slots := kC.instanceTypes.map defaultValue, vm := .none }) (ch_ft ci) hts hin hKn f2 (by rw [Array.getElem?_push_size]; rfl) hty
    exact t_OB.to hb (fun k hk => (ch_val_new (ch_plains ci hci k (by omega)) _ _ _).symm)
  · show w.2.2.1 + 1 = _; omega
  · show w.2.2.2 + n = _; omega
/-- newarray -/
theorem ch_newA {atype : ArrayType} (tag : Nat) {ty : FieldType} (n : Int32) (hd : decode M.2.1 pc = .ok (.newarray atype, 2)) (hty : newarray.typeOf atype = ty) (ht : ch_aty tag = some ty) (hm : tag < 51) (hpl : ch_plain ty = true) (hcb : componentBytes ty ≤ 8) (hword : Cond.arrayClass ty ∈ lw_all) (hn : ¬ n < 0) (hc : ch_cs w + 1 ≤ 601024) (hs : ch_sl w + n.toNatClampNeg ≤ 7293034)
    (kk : ch_FT g kb M d (pc + 2) ls (.ref (ch_nx w) :: st) (ch_nw w (ch_new tag n.toNatClampNeg)) Q) : ch_FT g kb M d pc ls (.int n :: st) w Q := by
  intro p l e R s m args below meth c H locs cells slots w0 ls' hI hD hL
  subst hty
  obtain ⟨hx, hb, hml, -, -, -, -, hown, hok, ⟨hr1, hr2, hr3, hr4⟩, hsh, htr⟩ := id hI
  have hcc : w.2.2.1 + 1 ≤ 601024 := hc
  have hss : w.2.2.2 + n.toNatClampNeg ≤ 7293034 := hs
  have hD1 := hD.2.1
  have hD2 := hD.2.2.1
  have hNx : w.2.1 = H.size := hD.1.2.1
  refine va_newaK hx hb (hok.use hword) rfl hd rfl hn rfl (Nat.le_trans (Nat.mul_le_mul_left _ hcb) (by omega)) (by omega) (by omega) rfl fun H1 cA e1 z1 o1 hAr hNm => ?_
  have e2 : cA = ch_aC g (newarray.typeOf atype) := by
    unfold ch_aC
    rw [← hok.1.findClass, hNm]
    rfl
  subst e2
  have hfr : (F0 m (pc + 2) ls' (.ref (ch_nx w) :: st)) = ({ F0 m pc ls' (.int n :: st) with pc := pc + 2, stack := .ref H.size :: st } : JFrame) := by
    show F0 m (pc + 2) ls' (.ref w.2.1 :: st) = _
    rw [hNx]
  have key := kk (l := l) (e := e) (args := args) (below := below) (H := H1) (locs := locs) (cells := cells + 1) (slots := slots + n.toNatClampNeg) hI ⟨?_, ?_, ?_, hD.2.2.2.1, hD.nw⟩ hL
  · rw [hfr] at key
    exact key
  · refine hD.1.push z1 o1 (Or.inr (Or.inl ⟨_, hm, ht, ?_, hD.1.2.2.1⟩)) hcc hss
    rw [e1]
    have : (fun _ => defaultValue (newarray.typeOf atype)) = fun k => ch_val (newarray.typeOf atype) (ch_new tag n.toNatClampNeg) k := by
      funext k
      exact (ch_val_new hpl _ _ _).symm
    rw [this]
    rfl
  · show w.2.2.1 + 1 = _; omega
  · show w.2.2.2 + n.toNatClampNeg = _; omega
/-- anewarray -/
theorem ch_newR (tag : Nat) {C : String} {idx : Nat} (n : Int32) (hd : decode M.2.1 pc = .ok (.anewarray idx, 3)) (ht : ch_aty tag = some (.object C)) (hm : tag < 51) (hlink : Cond.classLink M.1.cls idx C ∈ lw_all) (hover : Cond.arrayOver (.object C) ∈ lw_tbl) (hn : ¬ n < 0) (hc : ch_cs w + 1 ≤ 601024) (hs : ch_sl w + n.toNatClampNeg ≤ 7293034)
    (kk : ch_FT g kb M d (pc + 3) ls (.ref (ch_nx w) :: st) (ch_nw w (ch_new tag n.toNatClampNeg)) Q) : ch_FT g kb M d pc ls (.int n :: st) w Q := by
  intro p l e R s m args below meth c H locs cells slots w0 ls' hI hD hL
  obtain ⟨hx, hb, hml, -, -, -, -, hown, hok, ⟨hr1, hr2, hr3, hr4⟩, hsh, htr⟩ := id hI
  have hcc : w.2.2.1 + 1 ≤ 601024 := hc
  have hss : w.2.2.2 + n.toNatClampNeg ≤ 7293034 := hs
  have hD1 := hD.2.1
  have hD2 := hD.2.2.1
  have hNx : w.2.1 = H.size := hD.1.2.1
  refine W.anew hx hb hown (hok.use hlink) (va_AO.use (hok.2.2.2.2.1 C hover)) rfl hd rfl hn (by omega) (by omega) (by omega) fun cA kA comp f1 f2 f3 f4 => ?_
  have e2 : cA = ch_aC g (.object C) := by
    unfold ch_aC
    rw [← hok.1.findClass, f1]
    rfl
  subst e2
  have hfr : (F0 m (pc + 3) ls' (.ref (ch_nx w) :: st)) = ({ F0 m pc ls' (.int n :: st) with pc := pc + 3, stack := .ref H.size :: st } : JFrame) := by
    show F0 m (pc + 3) ls' (.ref w.2.1 :: st) = _
    rw [hNx]
  have key := kk (l := l) (e := e) (args := args) (below := below) (H := H.push { cls := ch_aC g (.object C), slots := Array.replicate n.toNatClampNeg .null, vm := .none }) (locs := locs) (cells := cells + 1) (slots := slots + n.toNatClampNeg) hI ⟨?_, ?_, ?_, hD.2.2.2.1, hD.nw⟩ hL
  · rw [hfr] at key
    exact key
  · refine hD.1.push (by simp) (fun x hx => by rw [Array.getElem?_push, if_neg (Nat.ne_of_lt hx)]) (Or.inr (Or.inl ⟨_, hm, ht, ?_, hD.1.2.2.1⟩)) hcc hss
    rw [Array.getElem?_push_size, arrV_new]
    rfl
  · show w.2.2.1 + 1 = _; omega
  · show w.2.2.2 + n.toNatClampNeg = _; omega
end MORE
