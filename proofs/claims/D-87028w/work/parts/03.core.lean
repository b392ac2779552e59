/-! LEVEL A: abstract worlds, the frame judgement ch_FT and contracts ch_CT (they may throw) -/
/-- an object: tag (0: nothing there), length, ints, references, longs -/
abbrev ch_O : Type := Nat × Nat × (Nat → Int32) × (Nat → Option Nat) × (Nat → Int64)
/-- a world: the heap by address, the next address, cells and slots made so far -/
abbrev ch_W : Type := (Nat → ch_O) × Nat × Nat × Nat
def ch_tg (w : ch_W) (a : Nat) : Nat := (w.1 a).1
def ch_ln (w : ch_W) (a : Nat) : Nat := (w.1 a).2.1
def ch_gi (w : ch_W) (a k : Nat) : Int32 := (w.1 a).2.2.1 k
def ch_gr (w : ch_W) (a k : Nat) : Option Nat := (w.1 a).2.2.2.1 k
def ch_gl (w : ch_W) (a k : Nat) : Int64 := (w.1 a).2.2.2.2 k
def ch_nx (w : ch_W) : Nat := w.2.1
def ch_cs (w : ch_W) : Nat := w.2.2.1
def ch_sl (w : ch_W) : Nat := w.2.2.2
def ch_si (w : ch_W) (a k : Nat) (v : Int32) : ch_W := (va_up w.1 a ((w.1 a).1, (w.1 a).2.1, va_up (w.1 a).2.2.1 k v, (w.1 a).2.2.2), w.2)
def ch_sr (w : ch_W) (a k : Nat) (v : Option Nat) : ch_W := (va_up w.1 a ((w.1 a).1, (w.1 a).2.1, (w.1 a).2.2.1, va_up (w.1 a).2.2.2.1 k v, (w.1 a).2.2.2.2), w.2)
def ch_sL (w : ch_W) (a k : Nat) (v : Int64) : ch_W := (va_up w.1 a ((w.1 a).1, (w.1 a).2.1, (w.1 a).2.2.1, (w.1 a).2.2.2.1, va_up (w.1 a).2.2.2.2 k v), w.2)
def ch_nw (w : ch_W) (o : ch_O) : ch_W := (va_up w.1 w.2.1 o, w.2.1 + 1, w.2.2.1 + 1, w.2.2.2 + o.2.1)
/-- a fresh object: all 0, null -/
def ch_new (tag n : Nat) : ch_O := (tag, n, fun _ => 0, fun _ => none, fun _ => 0)

/-- the value of an object's k-th place, by its type -/
def ch_val (ty : FieldType) (o : ch_O) (k : Nat) : Value := match ty with
  | .long => .long (o.2.2.2.2 k)
  | .object _ => va_rf (o.2.2.2.1 k)
  | .array _ => va_rf (o.2.2.2.1 k)
  | _ => .int (o.2.2.1 k)
/-- the class' number, a field's slot, an array class, as the start's tables have them -/
def ch_dC (g : State) (ci : Nat) : ClassId := match ch_cl[ci]? with
  | some q => (g.vm.findClass q.1).getD 0
  | none => 0
noncomputable def ch_dI (g : State) (ci k : Nat) : Nat := match ch_cl[ci]? with
  | some q => match g.fieldFound? (q.2.1 k).1 (q.2.1 k).2.1 (q.2.1 k).2.2.1 with
    | some x => x.2.2.2.slot
    | none => 0
  | none => 0
def ch_aC (g : State) (ty : FieldType) : ClassId := (g.vm.findClass ("[" ++ ty.toString)).getD 0
/-- tags from 21 on are arrays; from 51 on such as may not be written -/
def ch_aty (tag : Nat) : Option FieldType := if tag < 21 then none else if tag < 31 then ch_ty[tag - 21]? else if tag < 51 then ch_ty[tag - 31]? else ch_ty[tag - 51]?
/-- tags of the model's own object and arrays, of Strings, of arrays not to be written: what a component's call keeps -/
def ch_mt (tag : Nat) : Bool := tag == 4 || tag == 20 || decide (31 ≤ tag)
/-- where the model is to be kept, its cells are as they were -/
def ch_kp (kb : Bool) (w0 w : ch_W) : Prop := kb = true → ∀ a : Nat, ch_mt (ch_tg w0 a) = true → w.1 a = w0.1 a
theorem ch_kp.trans {kb : Bool} {u v w : ch_W} (h1 : ch_kp kb u v) (h2 : ch_kp kb v w) : ch_kp kb u w := by
  intro hb a ha
  have e1 := h1 hb a ha
  have e2 := h2 hb a (by rw [ch_tg, e1]; exact ha)
  rw [e2, e1]
theorem ch_kp.upd {kb : Bool} {u w : ch_W} {a : Nat} {o : ch_O} {x : Nat × Nat × Nat} (h : ch_kp kb u w) (hm : (kb && ch_mt (ch_tg w a)) = false) : ch_kp kb u (va_up w.1 a o, x) := by
  refine h.trans (fun hb c hc => ?_)
  subst hb
  rw [Bool.true_and] at hm
  by_cases hca : c = a
  · subst hca; rw [hm] at hc; cases hc
  · simp [va_up, hca]
/-- a String that was there from the start: tag 20, its bytes' array in place 0 -/
def ch_isS (g : State) (a : Nat) (v : Option Nat) : Prop := va_O "java/lang/String" a (fun q => g.heap.size ≤ q) g g.heap ∧ va_OF "java/lang/String" "coder" "B" (.int 0) a (fun q => g.heap.size ≤ q) g g.heap ∧ va_OF "java/lang/String" "value" "[B" (va_rf v) a (fun q => g.heap.size ≤ q) g g.heap
def ch_at (g : State) (H : Heap) (a : Nat) (o : ch_O) : Prop :=
  (∃ (ci : Nat) (q : vw_C), o.1 = ci + 1 ∧ ch_cl[ci]? = some q ∧ t_OB a (ch_dC g ci) q.2.2 (ch_dI g ci) H (fun k => ch_val (ch_ft ci k) o k) ∧ g.heap.size ≤ a ∧ ∀ cell : Cell, H[a]? = some cell → cell.monitor.owner = none ∧ cell.monitor.count = 0) ∨
  (∃ ty : FieldType, o.1 < 51 ∧ ch_aty o.1 = some ty ∧ H[a]? = some (arrV (ch_aC g ty) o.2.1 (fun k => ch_val ty o k)) ∧ g.heap.size ≤ a) ∨
  (∃ ty : FieldType, 51 ≤ o.1 ∧ ch_aty o.1 = some ty ∧ va_T ty a o.2.1 (fun k => ch_val ty o k) (fun q => g.heap.size ≤ q) g H) ∨
  (o.1 = 20 ∧ ch_isS g a (o.2.2.2.1 0))
def ch_Rep (g : State) (w : ch_W) (H : Heap) : Prop :=
  (∀ a : Nat, (w.1 a).1 ≠ 0 → ch_at g H a (w.1 a)) ∧ w.2.1 = H.size ∧ g.heap.size ≤ H.size ∧ (∀ q : Nat, q < g.heap.size → H[q]? = g.heap[q]?) ∧ w.2.2.1 ≤ 601024 ∧ w.2.2.2 ≤ 7293034
/-- words that don't ride in lw_all, but stay true under warmer tables -/
def ch_isN : Cond → Bool
  | .fieldLinkNest .. => true
  | .methodLinkNest .. => true
  | .declares .. => true
  | .castable .. => true
  | _ => false
def ch_ok0 (g : State) : Prop :=
  (∀ (ci : Nat) (q : vw_C), ch_cl[ci]? = some q → u_Kn g q.1 q.2.1 q.2.2 (ch_dC g ci) (ch_dI g ci)) ∧
  ∀ ty ∈ ch_ty, ArrOfT g (ch_aC g ty) ty ∧ va_RA g (ch_aC g ty) ty
/-- the String of an entry, a static's reference, at the start -/
def ch_sa (g : State) (own : String) (k : Nat) : Nat := match (Term.string own k).eval #[] g none [] g with
  | some (.ref a) => a
  | _ => 0
def ch_sf (g : State) (C n d : String) : Option Nat := match (Term.static C n d).eval #[] g none [] g with
  | some (.ref a) => some a
  | _ => none
def ch_stW (g : State) : Option Nat := ch_sf g "ClassHouse" "WORDS" "[Ljava/lang/String;"
def ch_stE (g : State) : Option Nat := ch_sf g "java/util/ArrayList" "DEFAULTCAPACITY_EMPTY_ELEMENTDATA" "[Ljava/lang/Object;"
def ch_stF (g : State) : Option Nat := ch_sf g "jdk/internal/util/Preconditions" "SIOOBE_FORMATTER" "Ljava/util/function/BiFunction;"
def ch_stU (g : State) : Option Nat := ch_sf g "java/lang/Throwable" "UNASSIGNED_STACK" "[Ljava/lang/StackTraceElement;"
def ch_stP (g : State) : Option Nat := ch_sf g "java/lang/Throwable" "SUPPRESSED_SENTINEL" "Ljava/util/List;"
/-- the Class object of Object[] -/
def ch_mi (g : State) : Nat := match (Term.mirror "[Ljava/lang/Object;").eval #[] g none [] g with
  | some (.ref a) => a
  | _ => 0
/-- a static holds v at the start -/
def ch_Z (g : State) (C n d : String) (v : Value) : Prop := va_Z C n d v (fun q => g.heap.size ≤ q) g g.heap
def ch_st (g : State) : Prop :=
  ch_Z g "ClassHouse" "WORDS" "[Ljava/lang/String;" (va_rf (ch_stW g)) ∧
  ch_Z g "java/util/ArrayList" "DEFAULTCAPACITY_EMPTY_ELEMENTDATA" "[Ljava/lang/Object;" (va_rf (ch_stE g)) ∧
  ch_Z g "jdk/internal/util/Preconditions" "SIOOBE_FORMATTER" "Ljava/util/function/BiFunction;" (va_rf (ch_stF g)) ∧
  ch_Z g "java/lang/Throwable" "UNASSIGNED_STACK" "[Ljava/lang/StackTraceElement;" (va_rf (ch_stU g)) ∧
  ch_Z g "java/lang/Throwable" "SUPPRESSED_SENTINEL" "Ljava/util/List;" (va_rf (ch_stP g)) ∧
  ch_Z g "java/lang/String" "COMPACT_STRINGS" "Z" (.int 1) ∧
  (Cond.laysStatic "java/lang/Throwable" "UNASSIGNED_STACK" "[Ljava/lang/StackTraceElement;").before #[] g = true ∧
  (Cond.laysStatic "java/lang/Throwable" "SUPPRESSED_SENTINEL" "Ljava/util/List;").before #[] g = true ∧
  (Cond.not (Cond.castable "ClassHouse$Ended" "ClassHouse$Thrown")).before #[] g = true
def ch_ok (g s : State) : Prop :=
  g.vm.Alike s.vm ∧ ch_ok0 g ∧ (∀ w ∈ lw_all, va_Nw w s) ∧ (∀ w ∈ lw_tbl, ch_isN w = true → va_Nw w s) ∧ (∀ C : String, Cond.arrayOver (.object C) ∈ lw_tbl → va_AO C s) ∧
  (∀ (own tx : String) (k : Nat), Cond.stringRef own k tx ∈ lw_tbl → vk_R own k tx (ch_sa g own k) s) ∧ ch_st g ∧ va_Mi "[Ljava/lang/Object;" (ch_mi g) s
theorem ch_ok.use {g s : State} (h : ch_ok g s) {w : Cond} (hw : w ∈ lw_all) {args : Array Value} : w.before args s = true :=
  word_at (State.WarmedH.refl s) (lw_self w hw).2 (h.2.2.1 w hw)
theorem ch_ok.warm {g s U : State} (h : ch_ok g s) (hW : s.WarmedH U.vm) : ch_ok g U := by
  refine ⟨h.1.trans hW.alike, h.2.1, fun w hw => word_at hW (lw_self w hw).2 (h.2.2.1 w hw), fun w hw hn => ?_, fun C hC => (h.2.2.2.2.1 C hC).moved hW.alike, fun own tx k hk => (h.2.2.2.2.2.1 own tx k hk).warm hW, h.2.2.2.2.2.2.1, h.2.2.2.2.2.2.2.moved hW.alike⟩
  have h0 := h.2.2.2.1 w hw hn
  cases w <;> first | exact va_Nw.warmF hW h0 | exact va_Nw.warmM hW h0 | exact va_Nw.warmD hW h0 | exact va_Nw.warmC hW h0 | cases hn
theorem ch_ok.nest {g s : State} (h : ch_ok g s) {w : Cond} (hw : w ∈ lw_tbl) (hn : ch_isN w = true) (ht : w.onTables = true) {args : Array Value} : w.before args s = true :=
  va_Nw.use ht (h.2.2.2.1 w hw hn)
/-- what a frame's locals hold -/
def ch_L (ls' : Array Slot) (nL : Nat) (ls : List (Option Value)) : Prop := ls'.size = nL ∧ lv_wf ls' ∧ ∀ (i : Nat) (v : Value), ls[i]? = some (some v) → ls'[i]? = some (.val v)
def ch_prs (ls : List (Option Value)) : List (Nat × Value) := (List.range ls.length).filterMap (fun i => (ls[i]?.join).map (fun v => (i, v)))
theorem ch_prs_mem {ls : List (Option Value)} {i : Nat} {v : Value} : (i, v) ∈ ch_prs ls ↔ ls[i]? = some (some v) := by
  unfold ch_prs
  rw [List.mem_filterMap]
  constructor
  · rintro ⟨j, -, h⟩
    cases hj : ls[j]? with
    | none => rw [hj] at h; cases h
    | some x =>
      cases x with
      | none => rw [hj] at h; cases h
      | some u =>
        rw [hj] at h
        have h' : some (j, u) = some (i, v) := h
        cases h'
        exact hj
  · intro h
    refine ⟨i, List.mem_range.mpr (List.getElem?_eq_some_iff.mp h).1, ?_⟩
    rw [h]
    rfl
theorem ch_L.has {ls' : Array Slot} {nL : Nat} {ls : List (Option Value)} (h : ch_L ls' nL ls) : lv_has ls' nL (ch_prs ls) :=
  ⟨h.1, h.2.1, fun q hq => h.2.2 q.1 q.2 (ch_prs_mem.mp hq)⟩
/-- a store: a long that ends where the new value begins is gone -/
def ch_c2 (ls : List (Option Value)) (i : Nat) : List (Option Value) := match i with
  | 0 => ls
  | j + 1 => match ls[j]? with
    | some (some u) => if u.category = 2 then ls.set j none else ls
    | _ => ls
def ch_s1 (ls : List (Option Value)) (i : Nat) (v : Value) : List (Option Value) := (ch_c2 ls i).set i (some v)
def ch_s2 (ls : List (Option Value)) (i : Nat) (v : Value) : List (Option Value) := ((ch_c2 ls i).set (i + 1) none).set i (some v)
theorem ch_c2_get {ls : List (Option Value)} {i j : Nat} {u : Value} (h : (ch_c2 ls i)[j]? = some (some u)) : ls[j]? = some (some u) ∧ ¬ (j + 1 = i ∧ u.category = 2) := by
  cases i with
  | zero => exact ⟨h, fun q => by omega⟩
  | succ k =>
    simp only [ch_c2] at h
    cases hk : ls[k]? with
    | none =>
      rw [hk] at h
      exact ⟨h, fun q => by
        have : j = k := by omega
        subst this
        rw [hk] at h; cases h⟩
    | some x =>
      cases x with
      | none =>
        rw [hk] at h
        exact ⟨h, fun q => by
          have : j = k := by omega
          subst this
          rw [hk] at h; cases h⟩
      | some u' =>
        rw [hk] at h
        dsimp only at h
        by_cases hc : u'.category = 2
        · rw [if_pos hc, List.getElem?_set] at h
          by_cases hkj : k = j
          · rw [if_pos hkj] at h
            split at h <;> cases h
          · rw [if_neg hkj] at h
            exact ⟨h, fun q => by omega⟩
        · rw [if_neg hc] at h
          exact ⟨h, fun q => by
            have : j = k := by omega
            subst this
            rw [hk] at h
            cases h
            exact hc q.2⟩
theorem ch_s1_get {ls : List (Option Value)} {i j : Nat} {u v : Value} (h : (ch_s1 ls i v)[j]? = some (some u)) : (j = i ∧ u = v) ∨ (j ≠ i ∧ ls[j]? = some (some u) ∧ ¬ (j + 1 = i ∧ u.category = 2)) := by
  unfold ch_s1 at h
  rw [List.getElem?_set] at h
  by_cases hij : i = j
  · rw [if_pos hij] at h
    split at h
    · cases h; exact Or.inl ⟨hij.symm, rfl⟩
    · cases h
  · rw [if_neg hij] at h
    exact Or.inr ⟨fun q => hij q.symm, ch_c2_get h⟩
theorem ch_s2_get {ls : List (Option Value)} {i j : Nat} {u v : Value} (h : (ch_s2 ls i v)[j]? = some (some u)) : (j = i ∧ u = v) ∨ (j ≠ i ∧ j ≠ i + 1 ∧ ls[j]? = some (some u) ∧ ¬ (j + 1 = i ∧ u.category = 2)) := by
  unfold ch_s2 at h
  rw [List.getElem?_set] at h
  by_cases hij : i = j
  · rw [if_pos hij] at h
    split at h
    · cases h; exact Or.inl ⟨hij.symm, rfl⟩
    · cases h
  · rw [if_neg hij, List.getElem?_set] at h
    by_cases hij2 : i + 1 = j
    · rw [if_pos hij2] at h
      split at h <;> cases h
    · rw [if_neg hij2] at h
      exact Or.inr ⟨fun q => hij q.symm, fun q => hij2 q.symm, ch_c2_get h⟩
/-- the locals with which a method begins -/
def ch_lay : List Value → List (Option Value)
  | [] => []
  | v :: r => if v.category = 2 then some v :: none :: ch_lay r else some v :: ch_lay r
def ch_en (vs : List Value) (n : Nat) : List (Option Value) := ch_lay vs ++ List.replicate (n - (ch_lay vs).length) none
theorem ch_lay_args : ∀ (vs : List Value) (k i : Nat) (v : Value), (ch_lay vs)[i]? = some (some v) → (k + i, v) ∈ lv_args k vs := by
  intro vs
  induction vs with
  | nil => intro k i v h; simp [ch_lay] at h
  | cons a r ih =>
    intro k i v h
    by_cases hc : a.category = 2
    · simp only [ch_lay, if_pos hc] at h
      simp only [lv_args, if_pos hc]
      match i, h with
      | 0, h => simp at h; rw [h]; exact List.mem_cons_self
      | 1, h => simp at h
      | j + 2, h =>
        have h2 := ih (k + 2) j v (by simpa using h)
        have e : k + (j + 2) = k + 2 + j := by omega
        rw [e]
        exact List.mem_cons_of_mem _ h2
    · simp only [ch_lay, if_neg hc] at h
      simp only [lv_args, if_neg hc]
      match i, h with
      | 0, h => simp at h; rw [h]; exact List.mem_cons_self
      | j + 1, h =>
        have h2 := ih (k + 1) j v (by simpa using h)
        have e : k + (j + 1) = k + 1 + j := by omega
        rw [e]
        exact List.mem_cons_of_mem _ h2
theorem ch_en_L (vs : List Value) {n : Nat} (h : (lg_sl vs).length ≤ n) : ch_L ((lg_sl vs ++ List.replicate (n - (lg_sl vs).length) Slot.unset).toArray) n (ch_en vs n) := by
  obtain ⟨h1, h2, h3⟩ := lv_entry vs h
  refine ⟨h1, h2, fun i v hv => ?_⟩
  unfold ch_en at hv
  rw [List.getElem?_append] at hv
  split at hv
  · have := ch_lay_args vs 0 i v hv
    rw [Nat.zero_add] at this
    exact h3 (i, v) this
  · rw [List.getElem?_replicate] at hv
    split at hv <;> cases hv
/-- a method: name, bytes, locals, answer, handlers -/
abbrev ch_M : Type := MethodName × ByteArray × Nat × Option FieldType × List (Nat × Nat × Nat × Nat)
/-- room for d frames and all that is left of the claim's cells and slots -/
def ch_room (R : Room) (d : Nat) (w0 : ch_W) : Prop := d ≤ R.frames ∧ 41 * d ≤ R.locals ∧ 601024 ≤ w0.2.2.1 + R.cells ∧ 7293034 ≤ w0.2.2.2 + R.slots
/-- how an invocation that began in s with the world w0 has ended -/
def ch_End (g : State) (kb : Bool) (below : List Frame) (s : State) (w0 : ch_W) (Q : Outcome → ch_W → Prop) (t : State) : Prop :=
  ∃ (o : Outcome) (w : ch_W) (L : List Loc) (k n : Nat), t.status = .running ∧ Ended t below o ∧ Q o w ∧ ch_Rep g w t.heap ∧ s.WarmedH t.vm ∧ s.sameButNew ({ t with vm := s.vm } : State) L k n ∧ w.2.2.1 = w0.2.2.1 + k ∧ w.2.2.2 = w0.2.2.2 + n ∧ (∀ q ∈ L, g.heap.size ≤ q.base) ∧ ch_kp kb w0 w
/-- the room; the start's cells as they were; no stack traces -/
def ch_rm2 (g : State) (e : Env) (s : State) (R : Room) (d : Nat) (w0 : ch_W) : Prop := ch_room R d w0 ∧ (∀ q : Nat, q < g.heap.size → s.heap[q]? = g.heap[q]?) ∧ e.platform.stackTraces = false
/-- what stays true all through an invocation -/
def ch_In (g : State) (M : ch_M) (d : Nat) (p : Program) (e : Env) (R : Room) (s : State) (m : MethodId) (meth : Method) (c : Code) (w0 : ch_W) : Prop :=
  p.tables.exec = Jvm.exec ∧ c.code = M.2.1 ∧ c.maxLocals = M.2.2.1 ∧ meth.sig.returnType = M.2.2.2.1 ∧ meth.locks = false ∧ meth.name = M.1.name ∧
  c.exceptionTable.toList.map (fun h => (h.startPc, h.endPc, h.handlerPc, h.catchType)) = M.2.2.2.2 ∧ s.vm.findClass M.1.cls = some m.cls ∧ ch_ok g s ∧ ch_rm2 g e s R d w0
/-- where it stands: the world now, what was made -/
def ch_Dy (g : State) (kb : Bool) (w0 w : ch_W) (H : Heap) (locs : List Loc) (cells slots : Nat) : Prop :=
  ch_Rep g w H ∧ w.2.2.1 = w0.2.2.1 + cells ∧ w.2.2.2 = w0.2.2.2 + slots ∧ (∀ q ∈ locs, g.heap.size ≤ q.base) ∧ ch_kp kb w0 w
/-- from pc, with these locals and operands and this world, the method comes to an end of which Q holds -/
def ch_FT (g : State) (kb : Bool) (M : ch_M) (d pc : Nat) (ls : List (Option Value)) (st : List Value) (w : ch_W) (Q : Outcome → ch_W → Prop) : Prop :=
  ∀ ⦃p : Program⦄ ⦃l : Launch⦄ ⦃e : Env⦄ ⦃R : Room⦄ ⦃s : State⦄ ⦃m : MethodId⦄ ⦃args : Array Value⦄ ⦃below : List Frame⦄ ⦃meth : Method⦄ ⦃c : Code⦄ ⦃H : Heap⦄ ⦃locs : List Loc⦄ ⦃cells slots : Nat⦄ ⦃w0 : ch_W⦄ ⦃ls' : Array Slot⦄,
    ch_In g M d p e R s m meth c w0 → ch_Dy g kb w0 w H locs cells slots → ch_L ls' M.2.2.1 ls →
    W p l e R s m args below meth c H locs cells slots (ch_End g kb below s w0 Q) (F0 m pc ls' st)
/-- a call of y with these arguments in this world comes to an end of which Q holds -/
def ch_CT (g : State) (kb : Bool) (y : MethodName) (d : Nat) (av : List Value) (w : ch_W) (Q : Outcome → ch_W → Prop) : Prop :=
  ∀ ⦃p : Program⦄ ⦃l : Launch⦄ ⦃e : Env⦄ ⦃R : Room⦄ ⦃s : State⦄ ⦃m : MethodId⦄ ⦃below : List Frame⦄ ⦃meth : Method⦄ ⦃c : Code⦄ ⦃T : State⦄,
    p.tables.exec = Jvm.exec → s.methodNamed? y = some m → ch_ok g s → ch_rm2 g e s R d w → ch_Rep g w T.heap → Stand p l e R s m av.toArray below meth c T [] 0 0 →
    ∃ t, Steps p.tables e below (T.setTop (entryFrame m av.toArray c.maxLocals)) t ∧ ch_End g kb below s w Q t
theorem ch_End.mono {g : State} {kb : Bool} {below : List Frame} {s : State} {w0 : ch_W} {Q Q' : Outcome → ch_W → Prop} (hq : ∀ o w, Q o w → Q' o w) {t : State} (h : ch_End g kb below s w0 Q t) : ch_End g kb below s w0 Q' t := by
  obtain ⟨o, w, L, k, n, h1, h2, h3, h4⟩ := h
  exact ⟨o, w, L, k, n, h1, h2, hq _ _ h3, h4⟩
theorem ch_CT.mono {g : State} {kb : Bool} {y : MethodName} {d : Nat} {av : List Value} {w : ch_W} {Q Q' : Outcome → ch_W → Prop} (h : ch_CT g kb y d av w Q) (hq : ∀ o w, Q o w → Q' o w) : ch_CT g kb y d av w Q' := by
  intro p l e R s m below meth c T h1 h2 h3 h4 h5 h6
  obtain ⟨t, a, b⟩ := h h1 h2 h3 h4 h5 h6
  exact ⟨t, a, b.mono hq⟩
theorem ch_FT.mono {g : State} {kb : Bool} {M : ch_M} {d pc : Nat} {ls : List (Option Value)} {st : List Value} {w : ch_W} {Q Q' : Outcome → ch_W → Prop} (h : ch_FT g kb M d pc ls st w Q) (hq : ∀ o w, Q o w → Q' o w) : ch_FT g kb M d pc ls st w Q' := by
  intro p l e R s m args below meth c H locs cells slots w0 ls' h1 h2 h3 T hT X
  obtain ⟨t, a, b⟩ := h h1 h2 h3 T hT X
  exact ⟨t, a, b.mono hq⟩
/-- a method's contract out of a walk of its body -/
theorem ch_ctW {g : State} {kb : Bool} (M : ch_M) {d : Nat} {av : List Value} {w : ch_W} {Q : Outcome → ch_W → Prop}
    (his : ∀ (s : State) (m : MethodId), ch_ok g s → s.methodNamed? M.1 = some m → ∃ meth c, s.vm.method? m = some meth ∧ meth.code = some c ∧ c.code = M.2.1 ∧ c.maxLocals = M.2.2.1 ∧ meth.sig.returnType = M.2.2.2.1 ∧ meth.locks = false ∧ c.exceptionTable.toList.map (fun h => (h.startPc, h.endPc, h.handlerPc, h.catchType)) = M.2.2.2.2)
    (hn : (lg_sl av).length ≤ M.2.2.1) (k : ch_FT g kb M d 0 (ch_en av M.2.2.1) [] w Q) : ch_CT g kb M.1 d av w Q := by
  intro p l e R s m below meth c T hx hm hok hr hrep X
  obtain ⟨meth', c', q1, q2, q3, q4, q5, q6, q7⟩ := his s m hok hm
  cases X.method.symm.trans q1
  cases X.code.symm.trans q2
  rw [q4, lg_entry_eq]
  exact k ⟨hx, q3, q4, q5, q6, (name_of_methodNamed hm X.method).1, q7, findClass_of_methodNamed hm, hok, hr⟩ ⟨hrep, rfl, rfl, fun q h => (by cases h), fun _ _ _ => rfl⟩ (ch_en_L av hn) T rfl X
theorem ch_ct {g : State} {kb : Bool} (M : ch_M) {d : Nat} {av : List Value} {w : ch_W} {Q : Outcome → ch_W → Prop} (hc : Cond.code M.1 M.2.1 M.2.2.1 M.2.2.2.1 ∈ lw_all) (hh : M.2.2.2.2 = []) (hn : (lg_sl av).length ≤ M.2.2.1) (k : ch_FT g kb M d 0 (ch_en av M.2.2.1) [] w Q) : ch_CT g kb M.1 d av w Q := by
  refine ch_ctW M (fun s m hok hm => ?_) hn k
  obtain ⟨meth, c, h1, h2, h3, h4, h5, h6, h7, -⟩ := Cond.code_spec hm (hok.use hc (args := #[]))
  refine ⟨meth, c, h1, h2, h3, h4, h5, h6, ?_⟩
  have : c.exceptionTable.toList = [] := by
    have := Array.isEmpty_iff.mp h7
    rw [this]
  rw [this, hh]; rfl
theorem ch_weaken {tb : Tables} {e : Env} {mid below : List Frame} {a b : State} (h : Steps tb e (mid ++ below) a b) : Steps tb e below a b := by
  obtain ⟨n, hn, w⟩ := h
  exact ⟨n, hn, fun k hk => (w k hk).weaken⟩
