/-! LEVEL A: the law's start: the words, the start's world (Strings, WORDS, the script) -/
set_option maxRecDepth 100000
def ch_strs : List (String × Nat × List Int32) := [("ClassHouse$Reader", 114, [99, 108, 97, 115, 115]), ("ClassHouse$Reader", 124, [58]), ("ClassHouse$Reader", 132, [123]), ("ClassHouse$Reader", 137, [125]), ("ClassHouse$Reader", 159, [118, 111, 105, 100]), ("ClassHouse$Reader", 149, [105, 110, 116]), ("ClassHouse$Reader", 151, [98, 111, 111, 108]), ("ClassHouse$Reader", 153, [105, 110, 116, 115]), ("ClassHouse$Reader", 164, [59]), ("ClassHouse$Reader", 171, [40]), ("ClassHouse$Reader", 173, [41]), ("ClassHouse$Reader", 182, [44]), ("ClassHouse$Reader", 240, [61]), ("ClassHouse$Reader", 308, [45]), ("ClassHouse$Reader", 319, [33]), ("ClassHouse$Reader", 344, [110, 101, 119]), ("ClassHouse$Reader", 335, [91]), ("ClassHouse$Reader", 337, [93]), ("ClassHouse$Reader", 349, [116, 114, 117, 101]), ("ClassHouse$Reader", 351, [102, 97, 108, 115, 101]), ("ClassHouse$Reader", 353, [110, 117, 108, 108]), ("ClassHouse$Reader", 355, [116, 104, 105, 115]), ("ClassHouse$Reader", 357, [114, 101, 97, 100]), ("ClassHouse$Reader", 323, [46]), ("ClassHouse$Reader", 339, [97, 115]), ("ClassHouse$Reader", 313, [42]), ("ClassHouse$Reader", 315, [47]), ("ClassHouse$Reader", 317, [37]), ("ClassHouse$Reader", 306, [43]), ("ClassHouse$Reader", 298, [60]), ("ClassHouse$Reader", 300, [60, 61]), ("ClassHouse$Reader", 302, [105, 115]), ("ClassHouse$Reader", 291, [61, 61]), ("ClassHouse$Reader", 293, [33, 61]), ("ClassHouse$Reader", 286, [38, 38]), ("ClassHouse$Reader", 277, [124, 124]), ("ClassHouse$Reader", 213, [105, 102]), ("ClassHouse$Reader", 215, [119, 104, 105, 108, 101]), ("ClassHouse$Reader", 260, [101, 108, 115, 101]), ("ClassHouse$Reader", 220, [116, 114, 121]), ("ClassHouse$Reader", 265, [99, 97, 116, 99, 104]), ("ClassHouse$Reader", 225, [114, 101, 116, 117, 114, 110]), ("ClassHouse$Reader", 227, [116, 104, 114, 111, 119]), ("ClassHouse$Reader", 229, [112, 114, 105, 110, 116]), ("ClassHouse$Checker", 41, [78, 117, 108, 108]), ("ClassHouse$Checker", 43, [66, 111, 117, 110, 100, 115]), ("ClassHouse$Checker", 45, [90, 101, 114, 111]), ("ClassHouse$Checker", 47, [67, 97, 115, 116]), ("ClassHouse$Checker", 49, [83, 105, 122, 101]), ("ClassHouse$Checker", 79, [115, 105, 122, 101]), ("ClassHouse$Checker", 184, [77, 97, 105, 110]), ("ClassHouse$Checker", 189, [109, 97, 105, 110]), ("ClassHouse", 139, [99, 108, 97, 115, 115]), ("ClassHouse", 141, [105, 110, 116]), ("ClassHouse", 143, [98, 111, 111, 108]), ("ClassHouse", 145, [105, 110, 116, 115]), ("ClassHouse", 147, [118, 111, 105, 100]), ("ClassHouse", 149, [105, 102]), ("ClassHouse", 151, [101, 108, 115, 101]), ("ClassHouse", 153, [119, 104, 105, 108, 101]), ("ClassHouse", 155, [114, 101, 116, 117, 114, 110]), ("ClassHouse", 157, [116, 104, 114, 111, 119]), ("ClassHouse", 159, [116, 114, 121]), ("ClassHouse", 161, [99, 97, 116, 99, 104]), ("ClassHouse", 163, [112, 114, 105, 110, 116]), ("ClassHouse", 165, [110, 101, 119]), ("ClassHouse", 167, [110, 117, 108, 108]), ("ClassHouse", 169, [116, 114, 117, 101]), ("ClassHouse", 171, [102, 97, 108, 115, 101]), ("ClassHouse", 173, [116, 104, 105, 115]), ("ClassHouse", 175, [114, 101, 97, 100]), ("ClassHouse", 177, [97, 115]), ("ClassHouse", 179, [105, 115])]
def ch_nd (q : String × Nat × List Int32) : List Cond :=
  Cond.exactly (.string q.1 q.2.1) "java/lang/String" :: Cond.eq (.field (.string q.1 q.2.1) "java/lang/String" "coder" "B") (.int 0) :: Cond.arrayOf (.field (.string q.1 q.2.1) "java/lang/String" "value" "[B") .byte :: Cond.eq (.length (.field (.string q.1 q.2.1) "java/lang/String" "value" "[B")) (.int (Int32.ofNat q.2.2.length)) ::
    (List.range q.2.2.length).map (fun j => Cond.eq (.elem (.field (.string q.1 q.2.1) "java/lang/String" "value" "[B") (.int (Int32.ofNat j))) (.int (q.2.2.getD j 0)))
def ch_subl : List Cond → List Cond → Bool
  | [], _ => true
  | _ :: _, [] => false
  | a :: as, b :: bs => if a = b then ch_subl as bs else ch_subl (a :: as) bs
theorem ch_subl_mem : ∀ (bs as : List Cond), ch_subl as bs = true → ∀ c ∈ as, c ∈ bs := by
  intro bs
  induction bs with
  | nil =>
    intro as h c hc
    cases as with
    | nil => cases hc
    | cons a as => simp [ch_subl] at h
  | cons b bs ih =>
    intro as h c hc
    cases as with
    | nil => cases hc
    | cons a as =>
      rw [ch_subl] at h
      by_cases e : a = b
      · rw [if_pos e] at h
        rcases List.mem_cons.mp hc with rfl | hc
        · rw [e]; exact List.mem_cons_self
        · exact List.mem_cons_of_mem _ (ih as h c hc)
      · rw [if_neg e] at h
        exact List.mem_cons_of_mem _ (ih (a :: as) h c hc)
theorem ch_nd_ok : ch_subl (ch_strs.flatMap ch_nd) (flatC (Jvm.Cond.and given_1 narrow_1)) = true := by decide +kernel
def ch_wd : List Cond := Cond.isRef (.static "ClassHouse" "WORDS" "[Ljava/lang/String;") :: Cond.arrayOf (.static "ClassHouse" "WORDS" "[Ljava/lang/String;") (.object "java/lang/String") :: Cond.eq (.length (.static "ClassHouse" "WORDS" "[Ljava/lang/String;")) (.int 21) ::
    (List.range 21).map (fun j => Cond.eq (.elem (.static "ClassHouse" "WORDS" "[Ljava/lang/String;") (.int (Int32.ofNat j))) (.string "ClassHouse" (139 + 2 * j)))
theorem ch_wd_ok : ch_subl ch_wd (flatC (Jvm.Cond.and given_1 narrow_1)) = true := by decide +kernel
theorem ch_tblm {w : Cond} (h : w ∈ lw_all) : w ∈ lw_tbl := (List.mem_filter.mp h).1
theorem ch_start0 {s : State} {A : Array Value} (hts : ∀ w ∈ lw_tbl, w.before A s = true) : ch_ok0 s := by
  refine ⟨fun ci q hq => ?_, ?_⟩
  · have hin := (ch_cls ci q hq).1
    have hi : ∃ n, (Cond.instantiable q.1 n).before A s = true := by
      match ci, hq with
      | 0, h => cases h; exact ⟨_, hts _ (ch_tblm q229)⟩
      | 1, h => cases h; exact ⟨_, hts _ (ch_tblm q237)⟩
      | 2, h => cases h; exact ⟨_, hts _ (ch_tblm q246)⟩
      | 3, h => cases h; exact ⟨_, hts _ (ch_tblm q1535)⟩
      | 4, h => cases h; exact ⟨_, hts _ (ch_tblm q433)⟩
      | 5, h => cases h; exact ⟨_, hts _ (ch_tblm q566)⟩
      | 6, h => cases h; exact ⟨_, hts _ (ch_tblm q598)⟩
      | 7, h => cases h; exact ⟨_, hts _ (ch_tblm q762)⟩
      | 8, h => cases h; exact ⟨_, hts _ (ch_tblm q768)⟩
      | 9, h => cases h; exact ⟨_, hts _ (ch_tblm q868)⟩
      | 10, h => cases h; exact ⟨_, hts _ (ch_tblm q939)⟩
      | 11, h => cases h; exact ⟨_, hts _ (ch_tblm q1038)⟩
      | 12, h => cases h; exact ⟨_, hts _ (ch_tblm q1348)⟩
      | 13, h => cases h; exact ⟨_, hts _ (ch_tblm q439)⟩
      | n + 14, h => simp [ch_cl] at h
    obtain ⟨n, hi⟩ := hi
    obtain ⟨cC, iS, hK⟩ := u_known (ws := lw_tbl) hts (fun w hw => ch_tblm (hin w hw)) hi
    refine ⟨fun k hk => ?_, ?_⟩
    · obtain ⟨cf, kf, fi, fd, h1, h2⟩ := hK.1 k hk
      refine ⟨cf, kf, fi, fd, h1, ?_⟩
      unfold ch_dI
      rw [hq]
      dsimp only
      rw [h1]
    · have e : ch_dC s ci = cC := by
        unfold ch_dC
        rw [hq]
        dsimp only
        rw [hK.2.1]
        rfl
      rw [e]
      exact hK.2
  · have hp : ∀ ty : FieldType, (Cond.arrayClass ty).before A s = true → ArrOfT s (ch_aC s ty) ty ∧ s.vm.findClass ("[" ++ ty.toString) = some (ch_aC s ty) := by
      intro ty h
      obtain ⟨c, k, comp, h1, h2, h3⟩ := Cond.arrayClass_spec h
      have e : ch_aC s ty = c := by
        unfold ch_aC
        rw [h1]
        rfl
      rw [e]
      exact ⟨fun n z => ⟨fun k h => (by cases h), k, h2, comp, h3⟩, h1⟩
    have ho : ∀ C : String, (Cond.arrayOver (.object C)).before A s = true → ArrOfT s (ch_aC s (.object C)) (.object C) ∧ va_RA s (ch_aC s (.object C)) (.object C) := by
      intro C h
      obtain ⟨comp, c, k, h1, -, h2, h3, h4⟩ := Cond.arrayOver_spec h
      have e : ch_aC s (.object C) = c := by
        unfold ch_aC
        rw [h4]
        rfl
      rw [e]
      exact ⟨fun n z => ⟨fun k h => (by cases h), k, h2, comp, h3⟩, k, comp, h2, h3, h1, h4⟩
    intro ty hty
    simp only [ch_ty, List.mem_cons, List.not_mem_nil, or_false] at hty
    rcases hty with rfl | rfl | rfl | rfl | rfl | rfl | rfl | rfl | rfl | rfl
    · exact hp _ (hts _ (ch_tblm q314))
    · exact hp _ (hts _ (ch_tblm q312))
    · exact hp _ (hts _ (ch_tblm q1110))
    · exact hp _ (hts _ (ch_tblm q313))
    · exact ho _ (hts _ q681)
    · exact ho _ (hts _ q244)
    · exact ho _ (hts _ q986)
    · exact ho _ (hts _ q1036)
    · exact ho _ (hts _ q1296)
    · exact ho _ (hts _ q1048)
theorem ch_strv {s : State} {A : Array Value} {own tx : String} {k : Nat} (h : (Cond.stringRef own k tx).before A s = true) : (Term.string own k).eval #[] s none [] s = some (.ref (ch_sa s own k)) := by
  have h0 : ∃ a, (Term.string own k).eval #[] s none [] s = some (.ref a) := by
    simp only [Cond.before, Cond.holds, Cond.value] at h
    cases hc : s.vm.findClass own with
    | none => simp [hc] at h
    | some c =>
      cases hr : s.resolvedAt? own k with
      | none => simp [hc, hr] at h
      | some r =>
        cases r <;> simp [hc, hr] at h
        rename_i a
        refine ⟨a, ?_⟩
        simp only [State.resolvedAt?, hc, Option.bind_eq_bind, Option.bind_some] at hr
        simp only [Term.eval, hc, Option.bind_eq_bind, Option.bind_some]
        cases hk : s.vm.classes[c]? with
        | none => rw [hk] at hr; cases hr
        | some kk =>
          rw [hk] at hr
          simp only [Option.bind_some] at hr ⊢
          rw [hr]
          rfl
  obtain ⟨a, ha⟩ := h0
  unfold ch_sa
  rw [ha]
theorem ch_statv {s : State} {A : Array Value} {C n d : String} (h : (Cond.isRef (.static C n d)).before A s = true) : (Term.static C n d).eval A s none [] s = some (va_rf (ch_sf s C n d)) := by
  obtain ⟨v, hv, hr⟩ := Cond.isRef_spec h
  have e : (Term.static C n d).eval A s none [] s = (Term.static C n d).eval #[] s none [] s := rfl
  unfold ch_sf
  rw [← e, hv]
  cases v <;> first | rfl | cases hr
theorem ch_mirv {s : State} {A : Array Value} (h : (Cond.isRef (.mirror "[Ljava/lang/Object;")).before A s = true) : va_Mi "[Ljava/lang/Object;" (ch_mi s) s := by
  obtain ⟨v, hv, -⟩ := Cond.isRef_spec h
  have e : (Term.mirror "[Ljava/lang/Object;").eval A s none [] s = (Term.mirror "[Ljava/lang/Object;").eval #[] s none [] s := rfl
  obtain ⟨c, k, a, h1, h2, h3, h4⟩ := Term.mirror_spec hv
  have e2 : ch_mi s = a := by
    unfold ch_mi
    rw [← e, hv, h4]
  rw [e2]
  exact ⟨c, k, h1, h2, h3⟩
def ch_ot : List Cond := [Cond.isRef (.static "java/lang/Throwable" "UNASSIGNED_STACK" "[Ljava/lang/StackTraceElement;"), Cond.isRef (.static "java/lang/Throwable" "SUPPRESSED_SENTINEL" "Ljava/util/List;"), Cond.isRef (.static "java/util/ArrayList" "DEFAULTCAPACITY_EMPTY_ELEMENTDATA" "[Ljava/lang/Object;"),
  Cond.arrayOf (.static "java/util/ArrayList" "DEFAULTCAPACITY_EMPTY_ELEMENTDATA" "[Ljava/lang/Object;") (.object "java/lang/Object"), Cond.eq (.length (.static "java/util/ArrayList" "DEFAULTCAPACITY_EMPTY_ELEMENTDATA" "[Ljava/lang/Object;")) (.int 0), Cond.eq (.static "java/lang/String" "COMPACT_STRINGS" "Z") (.int 1), Cond.isRef (.static "jdk/internal/util/Preconditions" "SIOOBE_FORMATTER" "Ljava/util/function/BiFunction;"), Cond.isRef (.mirror "[Ljava/lang/Object;"), Cond.not (Cond.castable "ClassHouse$Ended" "ClassHouse$Thrown")]
theorem ch_ot_ok : ∀ c ∈ ch_ot, c ∈ flatC (Jvm.Cond.and given_1 narrow_1) := by decide +kernel
theorem ch_start1 {s : State} {A : Array Value} (hts : ∀ w ∈ lw_tbl, w.before A s = true) (hgv : (Jvm.Cond.and given_1 narrow_1).before A s = true) : ch_ok s s := by
  have hfl := flat_of_before _ hgv
  have hA : ∀ a : Nat, a < s.heap.size → ¬ (fun q => s.heap.size ≤ q) a := fun a h => Nat.not_le.mpr h
  have ho : ∀ c ∈ ch_ot, c.before A s = true := fun c hc => hfl c (ch_ot_ok c hc)
  have hw : ∀ c ∈ ch_wd, c.before A s = true := fun c hc => hfl c (ch_subl_mem _ _ ch_wd_ok c hc)
  refine ⟨Vm.Alike.refl _, ch_start0 hts, fun w hw => word_at (State.WarmedH.refl s) (lw_self w hw).2 (hts w (ch_tblm hw)), fun w hw hn => ?_, fun C hC => va_AO.of (hts _ hC), fun own tx k hk => vk_R.of (hts _ hk) (ch_strv (hts _ hk)), ?_, ch_mirv (ho _ (List.mem_of_getElem? (i := 7) rfl))⟩
  · have h0 := hts w hw
    cases w <;> first | exact va_Nw.of rfl h0 | cases hn
  · refine ⟨?_, ?_, ?_, ?_, ?_, ?_, ?_, ?_, ?_⟩
    · exact va_Zof (hts _ q508) (hts _ (ch_tblm q200)) (ch_statv (hw _ List.mem_cons_self)) hA
    · exact va_Zof (hts _ q451) (hts _ (ch_tblm q210)) (ch_statv (ho _ (List.mem_of_getElem? (i := 2) rfl))) hA
    · exact va_Zof (hts _ q538) (hts _ (ch_tblm q213)) (ch_statv (ho _ (List.mem_of_getElem? (i := 6) rfl))) hA
    · exact va_Zof (hts _ q272) (hts _ (ch_tblm q202)) (ch_statv (ho _ (List.mem_of_getElem? (i := 0) rfl))) hA
    · exact va_Zof (hts _ q274) (hts _ (ch_tblm q202)) (ch_statv (ho _ (List.mem_of_getElem? (i := 1) rfl))) hA
    · exact va_Zof (hts _ q522) (hts _ (ch_tblm q211)) (va_eqt (ho _ (List.mem_of_getElem? (i := 5) rfl))) hA
    · exact hts _ q272
    · exact hts _ q274
    · exact ho _ (List.mem_of_getElem? (i := 8) rfl)
/-! the start's world -/
def ch_i0 (g : State) (a k : Nat) : Int32 := match (g.heap[a]?).bind (fun c => c.slots[k]?) with
  | some (.int v) => v
  | _ => 0
def ch_r0 (g : State) (a k : Nat) : Option Nat := match (g.heap[a]?).bind (fun c => c.slots[k]?) with
  | some (.ref v) => some v
  | _ => none
def ch_n0 (g : State) (a : Nat) : Nat := match g.heap[a]? with
  | some c => c.slots.size % 2 ^ 32
  | none => 0
def ch_o0 (g : State) (tag a : Nat) : ch_O := (tag, ch_n0 g a, ch_i0 g a, ch_r0 g a, fun _ => 0)
def ch_T0 (g : State) (ty : FieldType) (a : Nat) : Prop := va_T ty a (ch_n0 g a) (fun k => ch_val ty (ch_o0 g 0 a) k) (fun q => g.heap.size ≤ q) g g.heap
noncomputable def ch_h0 (g : State) (a : Nat) : ch_O :=
  @ite _ (ch_T0 g .int a) (Classical.propDecidable _) (ch_o0 g 51 a)
  (@ite _ (ch_T0 g .byte a) (Classical.propDecidable _) (ch_o0 g 52 a)
  (@ite _ (ch_T0 g (.object "java/lang/Object") a) (Classical.propDecidable _) (ch_o0 g 55 a)
  (@ite _ (ch_T0 g (.object "java/lang/String") a) (Classical.propDecidable _) (ch_o0 g 60 a)
  (@dite _ (∃ v, ch_isS g a v) (Classical.propDecidable _) (fun h => (20, 0, fun _ => 0, fun _ => Classical.choose h, fun _ => 0)) (fun _ => ch_new 0 0)))))
noncomputable def cs_w (g : State) : ch_W := (ch_h0 g, g.heap.size, 0, 0)
theorem cs_w_rep (g : State) : ch_Rep g (cs_w g) g.heap := by
  refine ⟨fun a ha => ?_, rfl, Nat.le_refl _, fun q _ => rfl, Nat.zero_le _, Nat.zero_le _⟩
  have ha : (ch_h0 g a).1 ≠ 0 := ha
  show ch_at g g.heap a (ch_h0 g a)
  unfold ch_h0 at ha ⊢
  by_cases h1 : ch_T0 g .int a
  · rw [if_pos h1]; exact Or.inr (Or.inr (Or.inl ⟨.int, Nat.le_of_ble_eq_true rfl, rfl, h1⟩))
  · rw [if_neg h1] at ha ⊢
    by_cases h2 : ch_T0 g .byte a
    · rw [if_pos h2]; exact Or.inr (Or.inr (Or.inl ⟨.byte, Nat.le_of_ble_eq_true rfl, rfl, h2⟩))
    · rw [if_neg h2] at ha ⊢
      by_cases h3 : ch_T0 g (.object "java/lang/Object") a
      · rw [if_pos h3]; exact Or.inr (Or.inr (Or.inl ⟨.object "java/lang/Object", Nat.le_of_ble_eq_true rfl, rfl, h3⟩))
      · rw [if_neg h3] at ha ⊢
        by_cases h4 : ch_T0 g (.object "java/lang/String") a
        · rw [if_pos h4]; exact Or.inr (Or.inr (Or.inl ⟨.object "java/lang/String", Nat.le_of_ble_eq_true rfl, rfl, h4⟩))
        · rw [if_neg h4] at ha ⊢
          by_cases h5 : ∃ v, ch_isS g a v
          · rw [dif_pos h5]; exact Or.inr (Or.inr (Or.inr ⟨rfl, Classical.choose_spec h5⟩))
          · rw [dif_neg h5] at ha; exact absurd rfl ha
theorem cs_w_tags (g : State) (a : Nat) : ch_tg (cs_w g) a = 0 ∨ ((ch_tg (cs_w g) a = 20 ∨ 51 ≤ ch_tg (cs_w g) a) ∧ a < g.heap.size) := by
  by_cases h0 : ch_tg (cs_w g) a = 0
  · exact Or.inl h0
  refine Or.inr ?_
  have hr := (cs_w_rep g).1 a h0
  show (((ch_h0 g a).1 = 20 ∨ 51 ≤ (ch_h0 g a).1) ∧ a < g.heap.size)
  have h0 : (ch_h0 g a).1 ≠ 0 := h0
  unfold ch_h0 at h0 ⊢
  have hT : ∀ ty, ch_T0 g ty a → a < g.heap.size := fun ty h => by
    obtain ⟨cell, -, -, -, -, -, -, h⟩ := h
    exact Nat.not_le.mp h
  by_cases h1 : ch_T0 g .int a
  · rw [if_pos h1]; exact ⟨Or.inr (by show 51 ≤ 51; decide), hT _ h1⟩
  · rw [if_neg h1] at h0 ⊢
    by_cases h2 : ch_T0 g .byte a
    · rw [if_pos h2]; exact ⟨Or.inr (by show 51 ≤ 52; decide), hT _ h2⟩
    · rw [if_neg h2] at h0 ⊢
      by_cases h3 : ch_T0 g (.object "java/lang/Object") a
      · rw [if_pos h3]; exact ⟨Or.inr (by show 51 ≤ 55; decide), hT _ h3⟩
      · rw [if_neg h3] at h0 ⊢
        by_cases h4 : ch_T0 g (.object "java/lang/String") a
        · rw [if_pos h4]; exact ⟨Or.inr (by show 51 ≤ 60; decide), hT _ h4⟩
        · rw [if_neg h4] at h0 ⊢
          by_cases h5 : ∃ v, ch_isS g a v
          · rw [dif_pos h5]
            obtain ⟨v, ⟨cell, -, -, -, h⟩, -⟩ := h5
            exact ⟨Or.inl rfl, Nat.not_le.mp h⟩
          · rw [dif_neg h5] at h0; exact absurd rfl h0
theorem ch_T0_ty {g : State} {a : Nat} {t1 t2 : FieldType} (h1 : ch_T0 g t1 a) (h2 : ch_T0 g t2 a) : t1 = t2 := by
  obtain ⟨c1, e1, ⟨-, k1, p1, comp1, q1⟩, -⟩ := h1
  obtain ⟨c2, e2, ⟨-, k2, p2, comp2, q2⟩, -⟩ := h2
  cases e1.symm.trans e2
  cases p1.symm.trans p2
  rw [q1] at q2
  cases q2
  rfl
theorem ch_toI {a b : Nat} (h : a.toInt32 = Int32.ofNat b) : a % 2 ^ 32 = b % 2 ^ 32 := by
  have h : Int32.ofNat a = Int32.ofNat b := h
  have h2 := congrArg (fun x : Int32 => x.toBitVec.toNat) h
  simpa [Int32.toBitVec_ofNat'] using h2
theorem ch_T0_of {g : State} {a N : Nat} {ty : FieldType} {f : Nat → Value} (hT : va_T ty a N f (fun q => g.heap.size ≤ q) g g.heap) (hN : N < 2 ^ 31) (hf : ∀ j : Nat, j < N → ∀ cell : Cell, g.heap[a]? = some cell → cell.slots[j]? = some (f j) → f j = ch_val ty (ch_o0 g 0 a) j) : ch_T0 g ty a ∧ ch_n0 g a = N := by
  obtain ⟨cell, h1, h2, h3, h4, h5, h6, h7⟩ := hT
  have e : ch_n0 g a = N := by
    unfold ch_n0
    rw [h1]
    have := ch_toI h5
    dsimp only
    omega
  refine ⟨⟨cell, h1, h2, h3, by rw [e]; exact h4, by rw [e]; exact h5, fun j hj => ?_, h7⟩, e⟩
  rw [e] at hj
  rw [h6 j hj]
  exact congrArg some (hf j hj cell h1 (h6 j hj))
theorem ch_i0_at {g : State} {a j : Nat} {cell : Cell} {v : Int32} (h1 : g.heap[a]? = some cell) (h2 : cell.slots[j]? = some (.int v)) : ch_i0 g a j = v := by
  unfold ch_i0
  rw [h1]
  show (match cell.slots[j]? with | some (.int v) => v | _ => 0) = v
  rw [h2]
theorem ch_r0_at {g : State} {a j : Nat} {cell : Cell} {v : Option Nat} (h1 : g.heap[a]? = some cell) (h2 : cell.slots[j]? = some (va_rf v)) : ch_r0 g a j = v := by
  unfold ch_r0
  rw [h1]
  show (match cell.slots[j]? with | some (.ref v) => some v | _ => none) = v
  rw [h2]
  cases v <;> rfl
theorem ch_h0_i {g : State} {a : Nat} (h : ch_T0 g .int a) : (cs_w g).1 a = ch_o0 g 51 a := by
  show ch_h0 g a = _
  unfold ch_h0
  rw [if_pos h]
theorem ch_h0_b {g : State} {a : Nat} (h : ch_T0 g .byte a) : (cs_w g).1 a = ch_o0 g 52 a := by
  show ch_h0 g a = _
  unfold ch_h0
  rw [if_neg (fun q => by cases ch_T0_ty h q), if_pos h]
theorem ch_h0_O {g : State} {a : Nat} (h : ch_T0 g (.object "java/lang/Object") a) : (cs_w g).1 a = ch_o0 g 55 a := by
  show ch_h0 g a = _
  unfold ch_h0
  rw [if_neg (fun q => by cases ch_T0_ty h q), if_neg (fun q => by cases ch_T0_ty h q), if_pos h]
theorem ch_h0_S {g : State} {a : Nat} (h : ch_T0 g (.object "java/lang/String") a) : (cs_w g).1 a = ch_o0 g 60 a := by
  show ch_h0 g a = _
  unfold ch_h0
  rw [if_neg (fun q => by cases ch_T0_ty h q), if_neg (fun q => by cases ch_T0_ty h q), if_neg (fun q => by have e := ch_T0_ty h q; simp at e), if_pos h]
/-- a String is no array -/
theorem ch_SnotT {g : State} {a v : Nat} {ty : FieldType} (hfit : heapFits g = true) (hS : ch_isS g a (some v)) (hT : ch_T0 g ty a) : False := by
  obtain ⟨-, ⟨cf1, k1, i1, f1, cell1, -, -, h1, -, h2, -⟩, cf2, k2, i2, f2, cell2, -, -, h3, -, h4, -⟩ := hS
  obtain ⟨cell, h5, ⟨h6, k, h7, comp, h8⟩, -⟩ := hT
  cases h5.symm.trans h1
  cases h5.symm.trans h3
  have hc : cellFits g cell1 = true := by
    obtain ⟨ha, e⟩ := Array.getElem?_eq_some_iff.mp h5
    have := (Array.all_eq_true_iff_forall_mem.mp hfit) _ (Array.getElem_mem ha)
    rw [e] at this
    exact this
  have key : ∀ (i : Nat) (x : Value), cell1.slots[i]? = some x → fits ty x = true := by
    intro i x hx
    have hi := (Array.getElem?_eq_some_iff.mp hx).1
    have h9 := (List.all_eq_true.mp hc) i (List.mem_range.mpr hi)
    rw [hx] at h9
    have h9 : g.fitsSlot cell1.cls cell1.vm i x = true := h9
    unfold State.fitsSlot State.slotType? at h9
    simp only [h7, Option.bind_eq_bind, Option.bind_some, h8] at h9
    cases hv : cell1.vm with
    | statics q => exact absurd hv (h6 q)
    | _ => first | exact h9 | (rw [hv] at h9; exact h9)
  have e1 := key _ _ h2
  have e2 := key _ _ h4
  cases ty <;> simp [fits, va_rf] at e1 e2
theorem ch_isS_un {g : State} {a : Nat} {v1 v2 : Option Nat} (h1 : ch_isS g a v1) (h2 : ch_isS g a v2) : v1 = v2 := by
  obtain ⟨-, -, cf1, k1, i1, f1, cell1, p1, -, p2, -, p3, -⟩ := h1
  obtain ⟨-, -, cf2, k2, i2, f2, cell2, q1, -, q2, -, q3, -⟩ := h2
  cases p1.symm.trans q1
  cases p2.symm.trans q2
  have := Option.some.inj (p3.symm.trans q3)
  cases v1 <;> cases v2 <;> simp [va_rf] at this ⊢
  exact this
theorem ch_h0_s {g : State} {a v : Nat} (hfit : heapFits g = true) (h : ch_isS g a (some v)) : ch_tg (cs_w g) a = 20 ∧ ch_gr (cs_w g) a 0 = some v := by
  have e : (cs_w g).1 a = (20, 0, fun _ => 0, fun _ => some v, fun _ => 0) := by
    show ch_h0 g a = _
    unfold ch_h0
    rw [if_neg (fun q => ch_SnotT hfit h q), if_neg (fun q => ch_SnotT hfit h q), if_neg (fun q => ch_SnotT hfit h q), if_neg (fun q => ch_SnotT hfit h q)]
    have hx : ∃ v, ch_isS g a v := ⟨_, h⟩
    rw [dif_pos hx]
    have := ch_isS_un (Classical.choose_spec hx) h
    rw [this]
  unfold ch_tg ch_gr
  rw [e]
  exact ⟨rfl, rfl⟩
theorem cs_eqr {args : Array Value} {s : State} {t u : Term} {a : Nat} (h : (Cond.eq t u).before args s = true) (hu : u.eval args s none [] s = some (.ref a)) : t.eval args s none [] s = some (va_rf (some a)) := by
  simp only [Cond.before, Cond.holds, Cond.value, hu] at h
  cases ht : t.eval args s none [] s with
  | none => simp [ht] at h
  | some v =>
    cases v <;> simp [ht] at h
    rw [h]
    rfl
/-- a String of these bytes -/
def ch_Str (w : ch_W) (a : Nat) (bs : List Int32) : Prop := ch_tg w a = 20 ∧ ∃ v, ch_gr w a 0 = some v ∧ ch_tg w v = 52 ∧ ch_ln w v = bs.length ∧ ∀ j : Nat, j < bs.length → ch_gi w v j = bs.getD j 0
/-- what the start's world has -/
def ch_W0 (g : State) (b L : Nat) (xs : Nat → Int32) (w : ch_W) : Prop :=
  ch_tg w b = 51 ∧ ch_ln w b = L ∧ (∀ j : Nat, j < L → ch_gi w b j = xs j) ∧ (∀ q ∈ ch_strs, ch_Str w (ch_sa g q.1 q.2.1) q.2.2) ∧
  (∃ aw, ch_stW g = some aw ∧ ch_tg w aw = 60 ∧ ch_ln w aw = 21 ∧ ∀ j : Nat, j < 21 → ch_gr w aw j = some (ch_sa g "ClassHouse" (139 + 2 * j))) ∧
  (∃ ae, ch_stE g = some ae ∧ ch_tg w ae = 55 ∧ ch_ln w ae = 0) ∧
  (∀ a : Nat, ch_tg w a = 0 ∨ ((ch_tg w a = 20 ∨ 51 ≤ ch_tg w a) ∧ a < g.heap.size)) ∧ w.2 = (g.heap.size, 0, 0)
theorem ch_start2 {s : State} {A : Array Value} (hts : ∀ w ∈ lw_tbl, w.before A s = true) (hgv : (Jvm.Cond.and given_1 narrow_1).before A s = true) (hfit : heapFits s = true) {b L : Nat} {xs : Nat → Int32} (hX : va_X b L xs s s.heap) (hbl : b < s.heap.size) (hL : L ≤ 384) : ch_W0 s b L xs (cs_w s) := by
  have hfl := flat_of_before _ hgv
  have hA : ∀ a : Nat, a < s.heap.size → ¬ (fun q => s.heap.size ≤ q) a := fun a h => Nat.not_le.mpr h
  have ho : ∀ c ∈ ch_ot, c.before A s = true := fun c hc => hfl c (ch_ot_ok c hc)
  have hw : ∀ c ∈ ch_wd, c.before A s = true := fun c hc => hfl c (ch_subl_mem _ _ ch_wd_ok c hc)
  have hs : ∀ q ∈ ch_strs, ∀ c ∈ ch_nd q, c.before A s = true := fun q hq c hc => hfl c (ch_subl_mem _ _ ch_nd_ok c (List.mem_flatMap.mpr ⟨q, hq, hc⟩))
  obtain ⟨scr, x1, x2, x3, x4, x5⟩ := hX
  have hT : va_T .int b L (fun j => .int (xs j)) (fun q => s.heap.size ≤ q) s s.heap := ⟨scr, x1, x2, x3, by omega, by rw [x4], x5, hA b hbl⟩
  obtain ⟨t1, t2⟩ := ch_T0_of hT (by omega) (fun j hj cell h1 h2 => by
    show Value.int (xs j) = Value.int (ch_i0 s b j)
    rw [ch_i0_at h1 h2])
  have hb := ch_h0_i t1
  have hsa : ∀ (own : String) (k : Nat) (a : Nat), (Term.string own k).eval A s none [] s = some (.ref a) → ch_sa s own k = a := by
    intro own k a h
    have e : (Term.string own k).eval A s none [] s = (Term.string own k).eval #[] s none [] s := rfl
    unfold ch_sa
    rw [← e, h]
  refine ⟨by rw [ch_tg, hb]; rfl, by rw [ch_ln, hb]; exact t2, fun j hj => ?_, fun q hq => ?_, ?_, ?_, cs_w_tags s, rfl⟩
  · rw [ch_gi, hb]
    exact ch_i0_at x1 (x5 j hj)
  · have h0 := hs q hq
    have hlen : q.2.2.length < 2 ^ 31 := by
      have h9 : ∀ q ∈ ch_strs, q.2.2.length < 100 := by decide +kernel
      have := h9 q hq
      omega
    have hex : (Cond.exactly (.string q.1 q.2.1) "java/lang/String").before A s = true := h0 _ (List.mem_of_getElem? (i := 0) rfl)
    have hco : (Cond.eq (.field (.string q.1 q.2.1) "java/lang/String" "coder" "B") (.int 0)).before A s = true := h0 _ (List.mem_of_getElem? (i := 1) rfl)
    have har : (Cond.arrayOf (.field (.string q.1 q.2.1) "java/lang/String" "value" "[B") .byte).before A s = true := h0 _ (List.mem_of_getElem? (i := 2) rfl)
    have hle : (Cond.eq (.length (.field (.string q.1 q.2.1) "java/lang/String" "value" "[B")) (.int (Int32.ofNat q.2.2.length))).before A s = true := h0 _ (List.mem_of_getElem? (i := 3) rfl)
    have hel : ∀ j : Nat, j < q.2.2.length → (Cond.eq (.elem (.field (.string q.1 q.2.1) "java/lang/String" "value" "[B") (.int (Int32.ofNat j))) (.int (q.2.2.getD j 0))).before A s = true := fun j hj => h0 _ (List.mem_cons_of_mem _ (List.mem_cons_of_mem _ (List.mem_cons_of_mem _ (List.mem_cons_of_mem _ (List.mem_map.mpr ⟨j, List.mem_range.mpr hj, rfl⟩)))))
    obtain ⟨a, c, cA, kA, q1, q2, q3, q4, q5, q6, -⟩ := Cond.exactly_spec (args := A) (first := s) (o := none) (s := s) (idx := []) hex
    obtain ⟨t, ht, hT⟩ := va_Tof (f := fun j => .int (q.2.2.getD j 0)) (A := fun q => s.heap.size ≤ q) hlen har (va_eqt hle) (fun j hj => va_eqt (hel j hj)) hA
    have hS : ch_isS s a (some t) := ⟨⟨cA, q3, q5, by rw [q6]; exact q2, hA a (Array.getElem?_eq_some_iff.mp q3).1⟩, vk_OFof q1 (va_eqt hco) hA, vk_OFof q1 ht hA⟩
    obtain ⟨u1, u2⟩ := ch_T0_of hT hlen (fun j hj cell h1 h2 => by
      show Value.int (q.2.2.getD j 0) = Value.int (ch_i0 s t j)
      rw [ch_i0_at h1 h2])
    have hv := ch_h0_b u1
    obtain ⟨e1, e2⟩ := ch_h0_s hfit hS
    rw [hsa _ _ _ q1]
    refine ⟨e1, t, e2, by rw [ch_tg, hv]; rfl, by rw [ch_ln, hv]; exact u2, fun j hj => ?_⟩
    rw [ch_gi, hv]
    obtain ⟨cell, h1, -, -, -, -, h6, -⟩ := hT
    exact ch_i0_at h1 (h6 j hj)
  · have hr : ∀ j : Nat, j < 21 → (Cond.eq (.elem (.static "ClassHouse" "WORDS" "[Ljava/lang/String;") (.int (Int32.ofNat j))) (.string "ClassHouse" (139 + 2 * j))).before A s = true := fun j hj => hw _ (List.mem_cons_of_mem _ (List.mem_cons_of_mem _ (List.mem_cons_of_mem _ (List.mem_map.mpr ⟨j, List.mem_range.mpr hj, rfl⟩))))
    have hst : ∀ j : Nat, j < 21 → (Term.string "ClassHouse" (139 + 2 * j)).eval A s none [] s = some (.ref (ch_sa s "ClassHouse" (139 + 2 * j))) := by
      intro j hj
      have h9 : ∀ j : Nat, j < 21 → ∃ q ∈ ch_strs, q.1 = "ClassHouse" ∧ q.2.1 = 139 + 2 * j := by decide +kernel
      obtain ⟨q, hq, g1, g2⟩ := h9 j hj
      obtain ⟨a, c, cA, kA, q1, -⟩ := Cond.exactly_spec (args := A) (first := s) (o := none) (s := s) (idx := []) (hs q hq _ (List.mem_of_getElem? (i := 0) rfl))
      rw [g1, g2] at q1
      rw [hsa _ _ _ q1]
      exact q1
    obtain ⟨t, ht, hT⟩ := va_Tof (N := 21) (f := fun j => va_rf (some (ch_sa s "ClassHouse" (139 + 2 * j)))) (A := fun q => s.heap.size ≤ q) (by decide) (hw _ (List.mem_of_getElem? (i := 1) rfl)) (va_eqt (hw _ (List.mem_of_getElem? (i := 2) rfl))) (fun j hj => cs_eqr (hr j hj) (hst j hj)) hA
    obtain ⟨u1, u2⟩ := ch_T0_of hT (by decide) (fun j hj cell h1 h2 => by
      show va_rf _ = va_rf (ch_r0 s t j)
      rw [ch_r0_at h1 h2])
    have hv := ch_h0_S u1
    have e3 : ch_stW s = some t := by
      have e : (Term.static "ClassHouse" "WORDS" "[Ljava/lang/String;").eval A s none [] s = (Term.static "ClassHouse" "WORDS" "[Ljava/lang/String;").eval #[] s none [] s := rfl
      unfold ch_stW ch_sf
      rw [← e, ht]
    refine ⟨t, e3, by rw [ch_tg, hv]; rfl, by rw [ch_ln, hv]; exact u2, fun j hj => ?_⟩
    rw [ch_gr, hv]
    obtain ⟨cell, h1, -, -, -, -, h6, -⟩ := hT
    exact ch_r0_at h1 (h6 j hj)
  · obtain ⟨t, ht, hT⟩ := va_Tof (N := 0) (f := fun j => va_rf none) (A := fun q => s.heap.size ≤ q) (by decide) (ho _ (List.mem_of_getElem? (i := 3) rfl)) (va_eqt (ho _ (List.mem_of_getElem? (i := 4) rfl))) (fun j hj => absurd hj (Nat.not_lt_zero j)) hA
    obtain ⟨u1, u2⟩ := ch_T0_of hT (by decide) (fun j hj => absurd hj (Nat.not_lt_zero j))
    have hv := ch_h0_O u1
    have e3 : ch_stE s = some t := by
      have e : (Term.static "java/util/ArrayList" "DEFAULTCAPACITY_EMPTY_ELEMENTDATA" "[Ljava/lang/Object;").eval A s none [] s = (Term.static "java/util/ArrayList" "DEFAULTCAPACITY_EMPTY_ELEMENTDATA" "[Ljava/lang/Object;").eval #[] s none [] s := rfl
      unfold ch_stE ch_sf
      rw [← e, ht]
    exact ⟨t, e3, by rw [ch_tg, hv]; rfl, by rw [ch_ln, hv]; exact u2⟩
