/-! LEVEL C: rows over the printed functions -/
section CROW
variable {g : State} {kb : Bool} {M : ch_M} {d pc : Nat} {ls : List (Option Value)} {st : List Value} {w : ch_W} {Q : Outcome → ch_W → Prop}
theorem cp_gI {β : Type} {res : β} {f : Int32 → Option β} {r : Option Nat} {ci k idx : Nat} (hd : decode M.2.1 pc = .ok (.getfield idx, 3)) (hf : ch_fl M.1.cls idx ci k) (hi : ch_isI (ch_ft ci k) = true) (h : (ch_gI w r (ci + 1) k).bind f = some res) (kk : ∀ v, f v = some res → ch_FT g kb M d (pc + 3) ls (.int v :: st) w Q) : ch_FT g kb M d pc ls (va_rf r :: st) w Q := by
  obtain ⟨v, h1, h2⟩ := ch_bd h
  unfold ch_gI at h1
  obtain ⟨a, rfl, h0⟩ := ch_bd h1
  split at h0
  case isFalse => cases h0
  case isTrue ht =>
    cases h0
    exact ch_get (some a) _ rfl hd hf (ch_val_I hi _ _) ht (kk _ h2)
theorem cp_gR {β : Type} {res : β} {f : Option Nat → Option β} {r : Option Nat} {ci k idx : Nat} (hd : decode M.2.1 pc = .ok (.getfield idx, 3)) (hf : ch_fl M.1.cls idx ci k) (hi : ch_isR (ch_ft ci k) = true) (h : (ch_gR w r (ci + 1) k).bind f = some res) (kk : ∀ v, f v = some res → ch_FT g kb M d (pc + 3) ls (va_rf v :: st) w Q) : ch_FT g kb M d pc ls (va_rf r :: st) w Q := by
  obtain ⟨v, h1, h2⟩ := ch_bd h
  unfold ch_gR at h1
  obtain ⟨a, rfl, h0⟩ := ch_bd h1
  split at h0
  case isFalse => cases h0
  case isTrue ht =>
    cases h0
    exact ch_get (some a) _ rfl hd hf (ch_val_R hi _ _) ht (kk _ h2)
theorem cp_gL {β : Type} {res : β} {f : Int64 → Option β} {r : Option Nat} {ci k idx : Nat} (hd : decode M.2.1 pc = .ok (.getfield idx, 3)) (hf : ch_fl M.1.cls idx ci k) (hi : ch_ft ci k = .long) (h : (ch_gL w r (ci + 1) k).bind f = some res) (kk : ∀ v, f v = some res → ch_FT g kb M d (pc + 3) ls (.long v :: st) w Q) : ch_FT g kb M d pc ls (va_rf r :: st) w Q := by
  obtain ⟨v, h1, h2⟩ := ch_bd h
  unfold ch_gL at h1
  obtain ⟨a, rfl, h0⟩ := ch_bd h1
  split at h0
  case isFalse => cases h0
  case isTrue ht =>
    cases h0
    exact ch_get (some a) _ rfl hd hf (by rw [hi]; rfl) ht (kk _ h2)
abbrev ch_fin (M : ch_M) (ci k : Nat) : Bool := match ch_cl[ci]? with | some q => (!(q.2.1 k).2.2.2) || (decide (M.1.name = "<init>") && decide ((q.2.1 k).1 = M.1.cls)) | none => false
theorem cp_pI {β : Type} {res : β} {f : ch_W → Option β} {r : Option Nat} {x : Int32} {ci k idx : Nat} (hd : decode M.2.1 pc = .ok (.putfield idx, 3)) (hf : ch_fl M.1.cls idx ci k) (hfin : ch_fin M ci k = true) (hi : ch_ft ci k = .int) (hkb : (kb && ch_mt (ci + 1)) = false) (h : (ch_pI w r (ci + 1) k x).bind f = some res) (kk : ∀ v, f v = some res → ch_FT g kb M d (pc + 3) ls st v Q) : ch_FT g kb M d pc ls (.int x :: va_rf r :: st) w Q := by
  obtain ⟨v, h1, h2⟩ := ch_bd h
  unfold ch_pI at h1
  obtain ⟨a, rfl, h0⟩ := ch_bd h1
  split at h0
  case isFalse => cases h0
  case isTrue ht =>
    cases h0
    exact ch_putI (some a) _ rfl hd hf hfin (by rw [hi]; rfl) ht (by rw [hi]; rfl) (by rw [hi]; rfl) hkb (kk _ h2)
theorem ch_nb {x : Int32} (h : x = 0 ∨ x = 1) : narrow .boolean (.int x) = .int x := by
  rcases h with rfl | rfl <;> rfl
theorem cp_pZ {β : Type} {res : β} {f : ch_W → Option β} {r : Option Nat} {x : Int32} {ci k idx : Nat} (hd : decode M.2.1 pc = .ok (.putfield idx, 3)) (hf : ch_fl M.1.cls idx ci k) (hfin : ch_fin M ci k = true) (hi : ch_ft ci k = .boolean) (hkb : (kb && ch_mt (ci + 1)) = false) (h : (ch_bit x).bind (fun _ => (ch_pI w r (ci + 1) k x).bind f) = some res) (kk : ∀ v, f v = some res → ch_FT g kb M d (pc + 3) ls st v Q) : ch_FT g kb M d pc ls (.int x :: va_rf r :: st) w Q := by
  obtain ⟨b, hb, h⟩ := ch_bd h
  unfold ch_bit at hb
  split at hb
  case isFalse => cases hb
  case isTrue hb0 =>
    obtain ⟨v, h1, h2⟩ := ch_bd h
    unfold ch_pI at h1
    obtain ⟨a, rfl, h0⟩ := ch_bd h1
    split at h0
    case isFalse => cases h0
    case isTrue ht =>
      cases h0
      exact ch_putI (some a) _ rfl hd hf hfin (by rw [hi]; rfl) ht (by rw [hi]; exact ch_nb hb0) (by rw [hi]; rcases hb0 with rfl | rfl <;> rfl) hkb (kk _ h2)
theorem cp_pR {β : Type} {res : β} {f : ch_W → Option β} {r x : Option Nat} {ci k idx : Nat} (hd : decode M.2.1 pc = .ok (.putfield idx, 3)) (hf : ch_fl M.1.cls idx ci k) (hfin : ch_fin M ci k = true) (hi : ch_isR (ch_ft ci k) = true) (hkb : (kb && ch_mt (ci + 1)) = false) (h : (ch_pR w r (ci + 1) k x).bind f = some res) (kk : ∀ v, f v = some res → ch_FT g kb M d (pc + 3) ls st v Q) : ch_FT g kb M d pc ls (va_rf x :: va_rf r :: st) w Q := by
  obtain ⟨v, h1, h2⟩ := ch_bd h
  unfold ch_pR at h1
  obtain ⟨a, rfl, h0⟩ := ch_bd h1
  split at h0
  case isFalse => cases h0
  case isTrue ht =>
    cases h0
    exact ch_putR (some a) _ rfl hd hf hfin hi ht hkb (kk _ h2)
theorem cp_pL {β : Type} {res : β} {f : ch_W → Option β} {r : Option Nat} {x : Int64} {ci k idx : Nat} (hd : decode M.2.1 pc = .ok (.putfield idx, 3)) (hf : ch_fl M.1.cls idx ci k) (hfin : ch_fin M ci k = true) (hi : ch_ft ci k = .long) (hkb : (kb && ch_mt (ci + 1)) = false) (h : (ch_pL w r (ci + 1) k x).bind f = some res) (kk : ∀ v, f v = some res → ch_FT g kb M d (pc + 3) ls st v Q) : ch_FT g kb M d pc ls (.long x :: va_rf r :: st) w Q := by
  obtain ⟨v, h1, h2⟩ := ch_bd h
  unfold ch_pL at h1
  obtain ⟨a, rfl, h0⟩ := ch_bd h1
  split at h0
  case isFalse => cases h0
  case isTrue ht =>
    cases h0
    exact ch_putL (some a) _ rfl hd hf hfin hi ht hkb (kk _ h2)
theorem ch_taty {a t : Nat} {ty : FieldType} (h : ch_ta w a t) (h1 : ch_aty t = some ty) (h2 : ch_aty (t + 30) = some ty) : ch_aty (ch_tg w a) = some ty := by
  rcases h with h | h <;> rw [h] <;> assumption
theorem cp_iald {β : Type} {res : β} {f : Int32 → Option β} {r : Option Nat} {i : Int32} {t : Nat} (hd : decode M.2.1 pc = .ok (.iaload, 1)) (h1 : ch_aty t = some .int) (h2 : ch_aty (t + 30) = some .int) (h : (ch_lI w r t i).bind f = some res) (kk : ∀ v, f v = some res → ch_FT g kb M d (pc + 1) ls (.int v :: st) w Q) : ch_FT g kb M d pc ls (.int i :: va_rf r :: st) w Q := by
  obtain ⟨v, h3, h4⟩ := ch_bd h
  unfold ch_lI at h3
  obtain ⟨a, rfl, h0⟩ := ch_bd h3
  split at h0
  case isFalse => cases h0
  case isTrue ht =>
    cases h0
    exact ch_iald (some a) _ rfl hd (ch_taty ht.1 h1 h2) ht.2 (kk _ h4)
theorem cp_bald {β : Type} {res : β} {f : Int32 → Option β} {r : Option Nat} {i : Int32} {t : Nat} (hd : decode M.2.1 pc = .ok (.baload, 1)) (h1 : ch_aty t = some .byte) (h2 : ch_aty (t + 30) = some .byte) (h : (ch_lI w r t i).bind f = some res) (kk : ∀ v, f v = some res → ch_FT g kb M d (pc + 1) ls (.int v :: st) w Q) : ch_FT g kb M d pc ls (.int i :: va_rf r :: st) w Q := by
  obtain ⟨v, h3, h4⟩ := ch_bd h
  unfold ch_lI at h3
  obtain ⟨a, rfl, h0⟩ := ch_bd h3
  split at h0
  case isFalse => cases h0
  case isTrue ht =>
    cases h0
    exact ch_bald (some a) _ rfl hd (ch_taty ht.1 h1 h2) ht.2 (kk _ h4)
theorem cp_zald {β : Type} {res : β} {f : Int32 → Option β} {r : Option Nat} {i : Int32} {t : Nat} (hd : decode M.2.1 pc = .ok (.baload, 1)) (h1 : ch_aty t = some .boolean) (h2 : ch_aty (t + 30) = some .boolean) (h : (ch_lI w r t i).bind f = some res) (kk : ∀ v, f v = some res → ch_FT g kb M d (pc + 1) ls (.int v :: st) w Q) : ch_FT g kb M d pc ls (.int i :: va_rf r :: st) w Q := by
  obtain ⟨v, h3, h4⟩ := ch_bd h
  unfold ch_lI at h3
  obtain ⟨a, rfl, h0⟩ := ch_bd h3
  split at h0
  case isFalse => cases h0
  case isTrue ht =>
    cases h0
    exact ch_zald (some a) _ rfl hd (ch_taty ht.1 h1 h2) ht.2 (kk _ h4)
theorem cp_lald {β : Type} {res : β} {f : Int64 → Option β} {r : Option Nat} {i : Int32} {t : Nat} (hd : decode M.2.1 pc = .ok (.laload, 1)) (h1 : ch_aty t = some .long) (h2 : ch_aty (t + 30) = some .long) (h : (ch_lL w r t i).bind f = some res) (kk : ∀ v, f v = some res → ch_FT g kb M d (pc + 1) ls (.long v :: st) w Q) : ch_FT g kb M d pc ls (.int i :: va_rf r :: st) w Q := by
  obtain ⟨v, h3, h4⟩ := ch_bd h
  unfold ch_lL at h3
  obtain ⟨a, rfl, h0⟩ := ch_bd h3
  split at h0
  case isFalse => cases h0
  case isTrue ht =>
    cases h0
    exact ch_lald (some a) _ rfl hd (ch_taty ht.1 h1 h2) ht.2 (kk _ h4)
theorem cp_aald {β : Type} {res : β} {C : String} {f : Option Nat → Option β} {r : Option Nat} {i : Int32} {t : Nat} (hd : decode M.2.1 pc = .ok (.aaload, 1)) (h1 : ch_aty t = some (.object C)) (h2 : ch_aty (t + 30) = some (.object C)) (h : (ch_lR w r t i).bind f = some res) (kk : ∀ v, f v = some res → ch_FT g kb M d (pc + 1) ls (va_rf v :: st) w Q) : ch_FT g kb M d pc ls (.int i :: va_rf r :: st) w Q := by
  obtain ⟨v, h3, h4⟩ := ch_bd h
  unfold ch_lR at h3
  obtain ⟨a, rfl, h0⟩ := ch_bd h3
  split at h0
  case isFalse => cases h0
  case isTrue ht =>
    cases h0
    exact ch_aald (some a) _ rfl hd (ch_taty ht.1 h1 h2) ht.2 (kk _ h4)
theorem cp_alen {β : Type} {res : β} {ty : FieldType} {f : Int32 → Option β} {r : Option Nat} {t : Nat} (hd : decode M.2.1 pc = .ok (.arraylength, 1)) (h1 : ch_aty t = some ty) (h2 : ch_aty (t + 30) = some ty) (h : (ch_le w r t).bind f = some res) (kk : ∀ v, f v = some res → ch_FT g kb M d (pc + 1) ls (.int v :: st) w Q) : ch_FT g kb M d pc ls (va_rf r :: st) w Q := by
  obtain ⟨v, h3, h4⟩ := ch_bd h
  unfold ch_le at h3
  obtain ⟨a, rfl, h0⟩ := ch_bd h3
  split at h0
  case isFalse => cases h0
  case isTrue ht =>
    cases h0
    exact ch_alen (some a) rfl hd (ch_taty ht h1 h2) (kk _ h4)
theorem cp_iast {β : Type} {res : β} {f : ch_W → Option β} {r : Option Nat} {i x : Int32} {t : Nat} (hd : decode M.2.1 pc = .ok (.iastore, 1)) (h1 : ch_aty t = some .int) (hm : t < 51) (hkb : (kb && ch_mt t) = false) (h : (ch_wI w r t i x).bind f = some res) (kk : ∀ v, f v = some res → ch_FT g kb M d (pc + 1) ls st v Q) : ch_FT g kb M d pc ls (.int x :: .int i :: va_rf r :: st) w Q := by
  obtain ⟨v, h3, h4⟩ := ch_bd h
  unfold ch_wI at h3
  obtain ⟨a, rfl, h0⟩ := ch_bd h3
  split at h0
  case isFalse => cases h0
  case isTrue ht =>
    cases h0
    exact ch_iast (some a) _ _ rfl hd (by rw [ht.1]; exact h1) (by rw [ht.1]; exact hm) ht.2 (by rw [ht.1]; exact hkb) (kk _ h4)
theorem cp_bast {β : Type} {res : β} {f : ch_W → Option β} {r : Option Nat} {i x : Int32} {t : Nat} (hd : decode M.2.1 pc = .ok (.bastore, 1)) (h1 : ch_aty t = some .byte) (hm : t < 51) (hkb : (kb && ch_mt t) = false) (h : (ch_wI w r t i x.toInt8.toInt32).bind f = some res) (kk : ∀ v, f v = some res → ch_FT g kb M d (pc + 1) ls st v Q) : ch_FT g kb M d pc ls (.int x :: .int i :: va_rf r :: st) w Q := by
  obtain ⟨v, h3, h4⟩ := ch_bd h
  unfold ch_wI at h3
  obtain ⟨a, rfl, h0⟩ := ch_bd h3
  split at h0
  case isFalse => cases h0
  case isTrue ht =>
    cases h0
    exact ch_bast (some a) _ _ rfl hd (by rw [ht.1]; exact h1) (by rw [ht.1]; exact hm) ht.2 (by rw [ht.1]; exact hkb) (by rw [vp_nar_byte]; exact kk _ h4)
theorem cp_zast {β : Type} {res : β} {f : ch_W → Option β} {r : Option Nat} {i x : Int32} {t : Nat} (hd : decode M.2.1 pc = .ok (.bastore, 1)) (h1 : ch_aty t = some .boolean) (hm : t < 51) (hkb : (kb && ch_mt t) = false) (h : (ch_bit x).bind (fun _ => (ch_wI w r t i x).bind f) = some res) (kk : ∀ v, f v = some res → ch_FT g kb M d (pc + 1) ls st v Q) : ch_FT g kb M d pc ls (.int x :: .int i :: va_rf r :: st) w Q := by
  obtain ⟨b, hb, h⟩ := ch_bd h
  unfold ch_bit at hb
  split at hb
  case isFalse => cases hb
  case isTrue hb0 =>
    obtain ⟨v, h3, h4⟩ := ch_bd h
    unfold ch_wI at h3
    obtain ⟨a, rfl, h0⟩ := ch_bd h3
    split at h0
    case isFalse => cases h0
    case isTrue ht =>
      cases h0
      have e : vp_nar .boolean x = x := by
        unfold vp_nar
        rw [ch_nb hb0]
      exact ch_zast (some a) _ _ rfl hd (by rw [ht.1]; exact h1) (by rw [ht.1]; exact hm) ht.2 (by rw [ht.1]; exact hkb) (by rw [e]; exact kk _ h4)
theorem cp_last {β : Type} {res : β} {f : ch_W → Option β} {r : Option Nat} {i : Int32} {x : Int64} {t : Nat} (hd : decode M.2.1 pc = .ok (.lastore, 1)) (h1 : ch_aty t = some .long) (hm : t < 51) (hkb : (kb && ch_mt t) = false) (h : (ch_wL w r t i x).bind f = some res) (kk : ∀ v, f v = some res → ch_FT g kb M d (pc + 1) ls st v Q) : ch_FT g kb M d pc ls (.long x :: .int i :: va_rf r :: st) w Q := by
  obtain ⟨v, h3, h4⟩ := ch_bd h
  unfold ch_wL at h3
  obtain ⟨a, rfl, h0⟩ := ch_bd h3
  split at h0
  case isFalse => cases h0
  case isTrue ht =>
    cases h0
    exact ch_last (some a) _ _ rfl hd (by rw [ht.1]; exact h1) (by rw [ht.1]; exact hm) ht.2 (by rw [ht.1]; exact hkb) (kk _ h4)
/-- the class that goes with an array of references: its tag, 0 for Object -/
def ch_elt (E : String) (c : Nat) : Prop := (E = "java/lang/Object" ∧ c = 0) ∨ (∃ (ci : Nat) (q : vw_C), ch_cl[ci]? = some q ∧ q.1 = E ∧ c = ci + 1) ∨ (E = "java/lang/String" ∧ c = 20)
theorem cp_aast {β : Type} {res : β} {E : String} {f : ch_W → Option β} {r x : Option Nat} {i : Int32} {t c : Nat} (hd : decode M.2.1 pc = .ok (.aastore, 1)) (h1 : ch_aty t = some (.object E)) (hm : t < 51) (hkb : (kb && ch_mt t) = false) (he : ch_elt E c) (h : (ch_wR w r t c i x).bind f = some res) (kk : ∀ v, f v = some res → ch_FT g kb M d (pc + 1) ls st v Q) : ch_FT g kb M d pc ls (va_rf x :: .int i :: va_rf r :: st) w Q := by
  obtain ⟨v, h3, h4⟩ := ch_bd h
  unfold ch_wR at h3
  obtain ⟨a, rfl, h0⟩ := ch_bd h3
  split at h0
  case isFalse => cases h0
  case isTrue ht =>
    cases h0
    refine ch_aast (some a) _ _ rfl hd (by rw [ht.1.1]; exact h1) (by rw [ht.1.1]; exact hm) ht.1.2 (fun b hb => ?_) (by rw [ht.1.1]; exact hkb) (kk _ h4)
    have hx := ht.2
    subst hb
    rcases he with ⟨rfl, rfl⟩ | ⟨ci, q, e1, e2, rfl⟩ | ⟨rfl, rfl⟩
    · simp only [ch_fitR, if_true, Bool.and_eq_true, bne_iff_ne, ne_eq, decide_eq_true_eq] at hx
      exact Or.inl ⟨rfl, hx.1.1, by omega, hx.2⟩
    · simp only [ch_fitR, Nat.add_eq_zero_iff, Nat.one_ne_zero, and_false, if_false, beq_iff_eq] at hx
      exact Or.inr (Or.inl ⟨ci, q, e1, e2, hx⟩)
    · exact Or.inr (Or.inr ⟨rfl, by simpa [ch_fitR] using hx⟩)
theorem cp_new {β : Type} {res : β} {f : ch_W → Option β} {idx ci n : Nat} {q : vw_C} (hd : decode M.2.1 pc = .ok (.new idx, 3)) (hq : ch_cl[ci]? = some q) (hlink : Cond.classLink M.1.cls idx q.1 ∈ lw_all) (hins : Cond.instantiable q.1 n ∈ lw_all) (hini : Cond.initialized q.1 ∈ lw_all) (h : (ch_nO w (ci + 1) n).bind f = some res) (kk : ∀ v, f v = some res → ch_FT g kb M d (pc + 3) ls (va_rf (some (ch_nx w)) :: st) v Q) : ch_FT g kb M d pc ls st w Q := by
  obtain ⟨v, h3, h4⟩ := ch_bd h
  unfold ch_nO at h3
  split at h3
  case isFalse => cases h3
  case isTrue ht =>
    cases h3
    exact ch_newO ci n hd hq hlink hins hini ht.1 ht.2 (kk _ h4)
theorem cp_newA {β : Type} {res : β} {f : ch_W → Option β} {atype : ArrayType} {ty : FieldType} {t : Nat} {n : Int32} (hd : decode M.2.1 pc = .ok (.newarray atype, 2)) (hty : newarray.typeOf atype = ty) (ht : ch_aty t = some ty) (hm : t < 51) (hpl : ch_plain ty = true) (hcb : componentBytes ty ≤ 8) (hword : Cond.arrayClass ty ∈ lw_all) (h : (ch_nA w t n).bind f = some res) (kk : ∀ v, f v = some res → ch_FT g kb M d (pc + 2) ls (va_rf (some (ch_nx w)) :: st) v Q) : ch_FT g kb M d pc ls (.int n :: st) w Q := by
  obtain ⟨v, h3, h4⟩ := ch_bd h
  unfold ch_nA at h3
  split at h3
  case isFalse => cases h3
  case isTrue hc =>
    cases h3
    exact ch_newA t n hd hty ht hm hpl hcb hword hc.1 hc.2.1 hc.2.2 (kk _ h4)
theorem cp_newR {β : Type} {res : β} {f : ch_W → Option β} {idx t : Nat} {C : String} {n : Int32} (hd : decode M.2.1 pc = .ok (.anewarray idx, 3)) (ht : ch_aty t = some (.object C)) (hm : t < 51) (hlink : Cond.classLink M.1.cls idx C ∈ lw_all) (hover : Cond.arrayOver (.object C) ∈ lw_tbl) (h : (ch_nA w t n).bind f = some res) (kk : ∀ v, f v = some res → ch_FT g kb M d (pc + 3) ls (va_rf (some (ch_nx w)) :: st) v Q) : ch_FT g kb M d pc ls (.int n :: st) w Q := by
  obtain ⟨v, h3, h4⟩ := ch_bd h
  unfold ch_nA at h3
  split at h3
  case isFalse => cases h3
  case isTrue hc =>
    cases h3
    exact ch_newR t n hd ht hm hlink hover hc.1 hc.2.1 hc.2.2 (kk _ h4)
theorem cp_cast {β : Type} {res : β} {f : Unit → Option β} {r : Option Nat} {idx ci : Nat} {q : vw_C} (hd : decode M.2.1 pc = .ok (.checkcast idx, 3)) (hq : ch_cl[ci]? = some q) (hlink : Cond.classLink M.1.cls idx q.1 ∈ lw_all) (h : (ch_cast w r (ci + 1)).bind f = some res) (kk : f () = some res → ch_FT g kb M d (pc + 3) ls (va_rf r :: st) w Q) : ch_FT g kb M d pc ls (va_rf r :: st) w Q := by
  obtain ⟨v, h3, h4⟩ := ch_bd h
  refine ch_checkcast r hd hlink (fun a ha => ?_) (kk h4)
  subst ha
  simp only [ch_cast] at h3
  split at h3
  case isFalse => cases h3
  case isTrue hc => exact Or.inl ⟨ci, q, hq, rfl, hc⟩
theorem cp_castA {β : Type} {res : β} {f : Unit → Option β} {r : Option Nat} {idx t : Nat} {nm : String} {ty : FieldType} (hd : decode M.2.1 pc = .ok (.checkcast idx, 3)) (ht : ch_aty t = some ty) (hm : t < 51) (hnm : nm = "[" ++ ty.toString) (hlink : Cond.classLink M.1.cls idx nm ∈ lw_all) (h : (ch_cast w r t).bind f = some res) (kk : f () = some res → ch_FT g kb M d (pc + 3) ls (va_rf r :: st) w Q) : ch_FT g kb M d pc ls (va_rf r :: st) w Q := by
  obtain ⟨v, h3, h4⟩ := ch_bd h
  refine ch_checkcast r hd hlink (fun a ha => ?_) (kk h4)
  subst ha
  simp only [ch_cast] at h3
  split at h3
  case isFalse => cases h3
  case isTrue hc => exact Or.inr ⟨ty, by rw [hc]; exact ht, by rw [hc]; exact hm, hnm⟩
theorem cp_div {β : Type} {res : β} {f : Int32 → Option β} {x y : Int32} (hd : decode M.2.1 pc = .ok (.idiv, 1)) (h : (ch_nz y).bind f = some res) (kk : f y = some res → ch_FT g kb M d (pc + 1) ls (.int (x / y) :: st) w Q) : ch_FT g kb M d pc ls (.int y :: .int x :: st) w Q := by
  obtain ⟨v, h3, h4⟩ := ch_bd h
  unfold ch_nz at h3
  split at h3
  case isTrue => cases h3
  case isFalse hc => cases h3; exact ch_idiv _ _ hd hc (kk h4)
theorem cp_rem {β : Type} {res : β} {f : Int32 → Option β} {x y : Int32} (hd : decode M.2.1 pc = .ok (.irem, 1)) (h : (ch_nz y).bind f = some res) (kk : f y = some res → ch_FT g kb M d (pc + 1) ls (.int (x - x / y * y) :: st) w Q) : ch_FT g kb M d pc ls (.int y :: .int x :: st) w Q := by
  obtain ⟨v, h3, h4⟩ := ch_bd h
  unfold ch_nz at h3
  split at h3
  case isTrue => cases h3
  case isFalse hc => cases h3; exact ch_irem _ _ hd hc (kk h4)
/-- branches: a condition, what stands where it holds, where not -/
theorem cp_if_eq {β : Type} {res : β} {A B : Option β} (x : Int32) {off : Int} {tgt : Nat} (hd : decode M.2.1 pc = .ok (.ifCond .eq off, 3)) (ht : (pc : Int) + off = (tgt : Int)) (h : (if x = 0 then A else B) = some res) (kt : A = some res → ch_FT g kb M d tgt ls st w Q) (kf : B = some res → ch_FT g kb M d (pc + 3) ls st w Q) : ch_FT g kb M d pc ls (.int x :: st) w Q :=
  ch_if_eq x hd ht (fun c => kt (ch_ifT c h)) (fun c => kf (ch_ifF c h))
theorem cp_if_ne {β : Type} {res : β} {A B : Option β} (x : Int32) {off : Int} {tgt : Nat} (hd : decode M.2.1 pc = .ok (.ifCond .ne off, 3)) (ht : (pc : Int) + off = (tgt : Int)) (h : (if x = 0 then A else B) = some res) (kt : B = some res → ch_FT g kb M d tgt ls st w Q) (kf : A = some res → ch_FT g kb M d (pc + 3) ls st w Q) : ch_FT g kb M d pc ls (.int x :: st) w Q :=
  ch_if_ne x hd ht (fun c => kt (ch_ifF c h)) (fun c => kf (ch_ifT c h))
theorem cp_if_lt {β : Type} {res : β} {A B : Option β} (x : Int32) {off : Int} {tgt : Nat} (hd : decode M.2.1 pc = .ok (.ifCond .lt off, 3)) (ht : (pc : Int) + off = (tgt : Int)) (h : (if x < 0 then A else B) = some res) (kt : A = some res → ch_FT g kb M d tgt ls st w Q) (kf : B = some res → ch_FT g kb M d (pc + 3) ls st w Q) : ch_FT g kb M d pc ls (.int x :: st) w Q :=
  ch_if_lt x hd ht (fun c => kt (ch_ifT c h)) (fun c => kf (ch_ifF c h))
theorem cp_if_ge {β : Type} {res : β} {A B : Option β} (x : Int32) {off : Int} {tgt : Nat} (hd : decode M.2.1 pc = .ok (.ifCond .ge off, 3)) (ht : (pc : Int) + off = (tgt : Int)) (h : (if x < 0 then A else B) = some res) (kt : B = some res → ch_FT g kb M d tgt ls st w Q) (kf : A = some res → ch_FT g kb M d (pc + 3) ls st w Q) : ch_FT g kb M d pc ls (.int x :: st) w Q :=
  ch_if_ge x hd ht (fun c => kt (ch_ifF (Int32.not_lt.mpr c) h)) (fun c => kf (ch_ifT (Int32.not_le.mp c) h))
theorem cp_if_gt {β : Type} {res : β} {A B : Option β} (x : Int32) {off : Int} {tgt : Nat} (hd : decode M.2.1 pc = .ok (.ifCond .gt off, 3)) (ht : (pc : Int) + off = (tgt : Int)) (h : (if 0 < x then A else B) = some res) (kt : A = some res → ch_FT g kb M d tgt ls st w Q) (kf : B = some res → ch_FT g kb M d (pc + 3) ls st w Q) : ch_FT g kb M d pc ls (.int x :: st) w Q :=
  ch_if_gt x hd ht (fun c => kt (ch_ifT c h)) (fun c => kf (ch_ifF c h))
theorem cp_if_le {β : Type} {res : β} {A B : Option β} (x : Int32) {off : Int} {tgt : Nat} (hd : decode M.2.1 pc = .ok (.ifCond .le off, 3)) (ht : (pc : Int) + off = (tgt : Int)) (h : (if 0 < x then A else B) = some res) (kt : B = some res → ch_FT g kb M d tgt ls st w Q) (kf : A = some res → ch_FT g kb M d (pc + 3) ls st w Q) : ch_FT g kb M d pc ls (.int x :: st) w Q :=
  ch_if_le x hd ht (fun c => kt (ch_ifF (Int32.not_lt.mpr c) h)) (fun c => kf (ch_ifT (Int32.not_le.mp c) h))
theorem cp_icmp_eq {β : Type} {res : β} {A B : Option β} (x y : Int32) {off : Int} {tgt : Nat} (hd : decode M.2.1 pc = .ok (.if_icmp .eq off, 3)) (ht : (pc : Int) + off = (tgt : Int)) (h : (if x = y then A else B) = some res) (kt : A = some res → ch_FT g kb M d tgt ls st w Q) (kf : B = some res → ch_FT g kb M d (pc + 3) ls st w Q) : ch_FT g kb M d pc ls (.int y :: .int x :: st) w Q :=
  ch_icmp_eq x y hd ht (fun c => kt (ch_ifT c h)) (fun c => kf (ch_ifF c h))
theorem cp_icmp_ne {β : Type} {res : β} {A B : Option β} (x y : Int32) {off : Int} {tgt : Nat} (hd : decode M.2.1 pc = .ok (.if_icmp .ne off, 3)) (ht : (pc : Int) + off = (tgt : Int)) (h : (if x = y then A else B) = some res) (kt : B = some res → ch_FT g kb M d tgt ls st w Q) (kf : A = some res → ch_FT g kb M d (pc + 3) ls st w Q) : ch_FT g kb M d pc ls (.int y :: .int x :: st) w Q :=
  ch_icmp_ne x y hd ht (fun c => kt (ch_ifF c h)) (fun c => kf (ch_ifT c h))
theorem cp_icmp_lt {β : Type} {res : β} {A B : Option β} (x y : Int32) {off : Int} {tgt : Nat} (hd : decode M.2.1 pc = .ok (.if_icmp .lt off, 3)) (ht : (pc : Int) + off = (tgt : Int)) (h : (if x < y then A else B) = some res) (kt : A = some res → ch_FT g kb M d tgt ls st w Q) (kf : B = some res → ch_FT g kb M d (pc + 3) ls st w Q) : ch_FT g kb M d pc ls (.int y :: .int x :: st) w Q :=
  ch_icmp_lt x y hd ht (fun c => kt (ch_ifT c h)) (fun c => kf (ch_ifF c h))
theorem cp_icmp_ge {β : Type} {res : β} {A B : Option β} (x y : Int32) {off : Int} {tgt : Nat} (hd : decode M.2.1 pc = .ok (.if_icmp .ge off, 3)) (ht : (pc : Int) + off = (tgt : Int)) (h : (if x < y then A else B) = some res) (kt : B = some res → ch_FT g kb M d tgt ls st w Q) (kf : A = some res → ch_FT g kb M d (pc + 3) ls st w Q) : ch_FT g kb M d pc ls (.int y :: .int x :: st) w Q :=
  ch_icmp_ge x y hd ht (fun c => kt (ch_ifF (Int32.not_lt.mpr c) h)) (fun c => kf (ch_ifT (Int32.not_le.mp c) h))
theorem cp_icmp_gt {β : Type} {res : β} {A B : Option β} (x y : Int32) {off : Int} {tgt : Nat} (hd : decode M.2.1 pc = .ok (.if_icmp .gt off, 3)) (ht : (pc : Int) + off = (tgt : Int)) (h : (if y < x then A else B) = some res) (kt : A = some res → ch_FT g kb M d tgt ls st w Q) (kf : B = some res → ch_FT g kb M d (pc + 3) ls st w Q) : ch_FT g kb M d pc ls (.int y :: .int x :: st) w Q :=
  ch_icmp_gt x y hd ht (fun c => kt (ch_ifT c h)) (fun c => kf (ch_ifF c h))
theorem cp_icmp_le {β : Type} {res : β} {A B : Option β} (x y : Int32) {off : Int} {tgt : Nat} (hd : decode M.2.1 pc = .ok (.if_icmp .le off, 3)) (ht : (pc : Int) + off = (tgt : Int)) (h : (if y < x then A else B) = some res) (kt : B = some res → ch_FT g kb M d tgt ls st w Q) (kf : A = some res → ch_FT g kb M d (pc + 3) ls st w Q) : ch_FT g kb M d pc ls (.int y :: .int x :: st) w Q :=
  ch_icmp_le x y hd ht (fun c => kt (ch_ifF (Int32.not_lt.mpr c) h)) (fun c => kf (ch_ifT (Int32.not_le.mp c) h))
theorem cp_ifnull {β : Type} {res : β} {A B : Option β} (r : Option Nat) {off : Int} {tgt : Nat} (hd : decode M.2.1 pc = .ok (.ifnull off, 3)) (ht : (pc : Int) + off = (tgt : Int)) (h : (if r = none then A else B) = some res) (kt : A = some res → ch_FT g kb M d tgt ls st w Q) (kf : B = some res → ch_FT g kb M d (pc + 3) ls st w Q) : ch_FT g kb M d pc ls (va_rf r :: st) w Q :=
  ch_ifnull r hd ht (fun c => kt (ch_ifT c h)) (fun b c => kf (ch_ifF (by rw [c]; exact fun q => by cases q) h))
theorem cp_ifnonnull {β : Type} {res : β} {A B : Option β} (r : Option Nat) {off : Int} {tgt : Nat} (hd : decode M.2.1 pc = .ok (.ifnonnull off, 3)) (ht : (pc : Int) + off = (tgt : Int)) (h : (if r = none then A else B) = some res) (kt : B = some res → ch_FT g kb M d tgt ls st w Q) (kf : A = some res → ch_FT g kb M d (pc + 3) ls st w Q) : ch_FT g kb M d pc ls (va_rf r :: st) w Q :=
  ch_ifnonnull r hd ht (fun b c => kt (ch_ifF (by rw [c]; exact fun q => by cases q) h)) (fun c => kf (ch_ifT c h))
theorem cp_acmp_eq {β : Type} {res : β} {A B : Option β} (x y : Option Nat) {off : Int} {tgt : Nat} (hd : decode M.2.1 pc = .ok (.if_acmp .eq off, 3)) (ht : (pc : Int) + off = (tgt : Int)) (h : (if x = y then A else B) = some res) (kt : A = some res → ch_FT g kb M d tgt ls st w Q) (kf : B = some res → ch_FT g kb M d (pc + 3) ls st w Q) : ch_FT g kb M d pc ls (va_rf y :: va_rf x :: st) w Q :=
  ch_acmp_eq x y hd ht (fun c => kt (ch_ifT c h)) (fun c => kf (ch_ifF c h))
theorem cp_acmp_ne {β : Type} {res : β} {A B : Option β} (x y : Option Nat) {off : Int} {tgt : Nat} (hd : decode M.2.1 pc = .ok (.if_acmp .ne off, 3)) (ht : (pc : Int) + off = (tgt : Int)) (h : (if x = y then A else B) = some res) (kt : B = some res → ch_FT g kb M d tgt ls st w Q) (kf : A = some res → ch_FT g kb M d (pc + 3) ls st w Q) : ch_FT g kb M d pc ls (va_rf y :: va_rf x :: st) w Q :=
  ch_acmp_ne x y hd ht (fun c => kt (ch_ifF c h)) (fun c => kf (ch_ifT c h))
theorem cp_zret {β : Type} {res : β} {f : Int32 → Option β} (x : Int32) (hd : decode M.2.1 pc = .ok (.ireturn, 1)) (hr : M.2.2.2.1 = some .boolean) (h : (ch_bit x).bind f = some res) (hq : f x = some res → Q (.returned (some (.int x))) w) : ch_FT g kb M d pc ls [.int x] w Q := by
  obtain ⟨b, hb, h⟩ := ch_bd h
  unfold ch_bit at hb
  split at hb
  case isFalse => cases hb
  case isTrue hb0 => cases hb; exact ch_ireturn _ hd hr (ch_nb hb0) (hq h)
/-- what is left of a caller behind a callee -/
theorem cp_kI {y : MethodName} {d' : Nat} {av rest : List Value} {v : Int32} {w1 : ch_W} (h : ∀ Q', Q' (.returned (some (.int v))) w1 → ch_CT g kb y d' av w Q') (k : ch_FT g kb M d (pc + 3) ls (.int v :: rest) w1 Q) : ch_CT g kb y d' av w (ch_K g kb M d pc ls rest Q) := h _ k
theorem cp_kL {y : MethodName} {d' : Nat} {av rest : List Value} {v : Int64} {w1 : ch_W} (h : ∀ Q', Q' (.returned (some (.long v))) w1 → ch_CT g kb y d' av w Q') (k : ch_FT g kb M d (pc + 3) ls (.long v :: rest) w1 Q) : ch_CT g kb y d' av w (ch_K g kb M d pc ls rest Q) := h _ k
theorem cp_kR {y : MethodName} {d' : Nat} {av rest : List Value} {v : Option Nat} {w1 : ch_W} (h : ∀ Q', Q' (.returned (some (va_rf v))) w1 → ch_CT g kb y d' av w Q') (k : ch_FT g kb M d (pc + 3) ls (va_rf v :: rest) w1 Q) : ch_CT g kb y d' av w (ch_K g kb M d pc ls rest Q) := h _ k
theorem cp_kV {y : MethodName} {d' : Nat} {av rest : List Value} {w1 : ch_W} (h : ∀ Q', Q' (.returned none) w1 → ch_CT g kb y d' av w Q') (k : ch_FT g kb M d (pc + 3) ls rest w1 Q) : ch_CT g kb y d' av w (ch_K g kb M d pc ls rest Q) := h _ k
theorem cp_tI {γ : Type} {res : γ} {x : Option (Except Nat Int32 × ch_W)} {er : Nat → ch_W → γ} {kf : Int32 → ch_W → Option γ} {y : MethodName} {d' : Nat} {av rest : List Value} (h : ch_tb x er kf = some res) (hs : ∀ p, x = some p → ∀ Q', ch_xI Q' p → ch_CT g kb y d' av w Q') (k : ∀ v w1, kf v w1 = some res → ch_FT g kb M d (pc + 3) ls (.int v :: rest) w1 Q) (ke : ∀ a w1, er a w1 = res → ch_TH g kb M d pc ls a w1 Q) : ch_CT g kb y d' av w (ch_K g kb M d pc ls rest Q) := by
  obtain ⟨⟨e, w1⟩, h1, h2⟩ := ch_bd h
  refine hs _ h1 _ ?_
  cases e with
  | ok v => exact k v w1 h2
  | error a => exact ke a w1 (Option.some.inj h2)
theorem cp_tL {γ : Type} {res : γ} {x : Option (Except Nat Int64 × ch_W)} {er : Nat → ch_W → γ} {kf : Int64 → ch_W → Option γ} {y : MethodName} {d' : Nat} {av rest : List Value} (h : ch_tb x er kf = some res) (hs : ∀ p, x = some p → ∀ Q', ch_xL Q' p → ch_CT g kb y d' av w Q') (k : ∀ v w1, kf v w1 = some res → ch_FT g kb M d (pc + 3) ls (.long v :: rest) w1 Q) (ke : ∀ a w1, er a w1 = res → ch_TH g kb M d pc ls a w1 Q) : ch_CT g kb y d' av w (ch_K g kb M d pc ls rest Q) := by
  obtain ⟨⟨e, w1⟩, h1, h2⟩ := ch_bd h
  refine hs _ h1 _ ?_
  cases e with
  | ok v => exact k v w1 h2
  | error a => exact ke a w1 (Option.some.inj h2)
theorem cp_tR {γ : Type} {res : γ} {x : Option (Except Nat (Option Nat) × ch_W)} {er : Nat → ch_W → γ} {kf : Option Nat → ch_W → Option γ} {y : MethodName} {d' : Nat} {av rest : List Value} (h : ch_tb x er kf = some res) (hs : ∀ p, x = some p → ∀ Q', ch_xR Q' p → ch_CT g kb y d' av w Q') (k : ∀ v w1, kf v w1 = some res → ch_FT g kb M d (pc + 3) ls (va_rf v :: rest) w1 Q) (ke : ∀ a w1, er a w1 = res → ch_TH g kb M d pc ls a w1 Q) : ch_CT g kb y d' av w (ch_K g kb M d pc ls rest Q) := by
  obtain ⟨⟨e, w1⟩, h1, h2⟩ := ch_bd h
  refine hs _ h1 _ ?_
  cases e with
  | ok v => exact k v w1 h2
  | error a => exact ke a w1 (Option.some.inj h2)
theorem cp_tV {γ : Type} {res : γ} {x : Option (Except Nat Unit × ch_W)} {er : Nat → ch_W → γ} {kf : Unit → ch_W → Option γ} {y : MethodName} {d' : Nat} {av rest : List Value} (h : ch_tb x er kf = some res) (hs : ∀ p, x = some p → ∀ Q', ch_xV Q' p → ch_CT g kb y d' av w Q') (k : ∀ w1, kf () w1 = some res → ch_FT g kb M d (pc + 3) ls rest w1 Q) (ke : ∀ a w1, er a w1 = res → ch_TH g kb M d pc ls a w1 Q) : ch_CT g kb y d' av w (ch_K g kb M d pc ls rest Q) := by
  obtain ⟨⟨e, w1⟩, h1, h2⟩ := ch_bd h
  refine hs _ h1 _ ?_
  cases e with
  | ok v => exact k w1 h2
  | error a => exact ke a w1 (Option.some.inj h2)
end CROW
