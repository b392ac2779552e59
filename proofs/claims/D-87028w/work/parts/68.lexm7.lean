/-! LEVEL B2: the model's names -/
set_option maxRecDepth 100000
def md_sa (σ : ch_S) (k i : Nat) (v : Int32) : ch_S := (σ.1, va_up σ.2 k (va_up (σ.2 k) i v))
theorem md_ga {σ : ch_S} {k i a j : Nat} {v : Int32} : (md_sa σ k i v).2 a j = if a = k ∧ j = i then v else σ.2 a j := by
  unfold md_sa va_up
  by_cases h1 : a = k
  · subst h1
    by_cases h2 : j = i
    · simp [h2]
    · simp [h2]
  · simp [h1]
theorem md_gi {σ : ch_S} {k i j : Nat} {v : Int32} : (md_sa σ k i v).1 j = σ.1 j := rfl
theorem md_ia {σ : ch_S} {k : Nat} {v : Int32} : (md_si σ k v).2 = σ.2 := rfl
theorem md_an {σ : ch_S} {k i a : Nat} {v : Int32} (h : a ≠ k) : (md_sa σ k i v).2 a = σ.2 a := by
  unfold md_sa va_up
  simp [h]
/-- the bytes from fr to tt -/
def lx_tx (f : Nat → Nat) (fr tt : Nat) : List Nat := (List.range (tt - fr)).map (fun i => f (fr + i))
theorem lx_txn {f : Nat → Nat} {fr tt : Nat} : (lx_tx f fr tt).length = tt - fr := by unfold lx_tx; simp
theorem lx_txg {f : Nat → Nat} {fr tt i : Nat} (h : i < tt - fr) : (lx_tx f fr tt).getD i 0 = f (fr + i) := by
  unfold lx_tx
  simp [List.getD_eq_getElem?_getD, h]
theorem lx_ext {a b : List Nat} : a = b ↔ (a.length = b.length ∧ ∀ i : Nat, i < a.length → a.getD i 0 = b.getD i 0) := by
  constructor
  · intro h; subst h; exact ⟨rfl, fun _ _ => rfl⟩
  · rintro ⟨h1, h2⟩
    refine List.ext_getElem h1 (fun i p q => ?_)
    have := h2 i p
    simpa [List.getD_eq_getElem?_getD, p, q] using this
theorem lx_is_tx {f : Nat → Nat} {fr tt : Nat} {l : List Nat} (h : fr ≤ tt) : lx_is f fr tt l ↔ lx_tx f fr tt = l := by
  rw [lx_ext, lx_txn]
  constructor
  · rintro ⟨h1, h2⟩
    refine ⟨by omega, fun i hi => ?_⟩
    rw [lx_txg hi]; exact h2 i (by omega)
  · rintro ⟨h1, h2⟩
    refine ⟨by omega, fun i hi => ?_⟩
    rw [← lx_txg (f := f) (fr := fr) (tt := tt) (by omega)]; exact h2 i (by omega)
/-- the model's name j is the text t -/
def md_nm (σ : ch_S) (j : Nat) (t : List Nat) : Prop := ∃ a : Nat, σ.2 fX3_nameFrom j = Int32.ofNat a ∧ σ.2 fX3_nameLong j = Int32.ofNat t.length ∧ a + t.length ≤ 3100 ∧ ∀ i : Nat, i < t.length → t.getD i 0 < 256 ∧ σ.2 fX3_source (a + i) = Int32.ofNat (t.getD i 0)
/-- the model's names: k of them, T their texts -/
def md_N (σ : ch_S) (k : Nat) (T : Nat → List Nat) : Prop := σ.1 fX3_names = Int32.ofNat k ∧ (∀ j : Nat, j < k → md_nm σ j (T j)) ∧ ∀ i j : Nat, i < k → j < k → T i = T j → i = j
theorem lm_82 {σ : ch_S} {j : Nat} {v : Int32} : m_X3_nameOf_82 (Int32.ofNat j) v σ = if v = 0 then some (.inl (Int32.ofNat (j + 1))) else some (.inr (Int32.ofNat j, σ)) := by
  unfold m_X3_nameOf_82
  have e1 : Int32.ofNat j + 1 = Int32.ofNat (j + 1) := bn_add (b := 1)
  rw [e1]
theorem lm_nm1 {σ : ch_S} {n fr tt j : Nat} {f : Nat → Nat} {t : List Nat} (hS : md_S σ n f) (hj : j < 1600) (hw : σ.1 fX3_wordFrom = Int32.ofNat fr) (hq : σ.1 fX3_wordLong = Int32.ofNat (tt - fr)) (h0 : fr ≤ tt) (hn : tt ≤ n) (hT : md_nm σ j t) (hl : t.length = tt - fr) : ∀ (c i : Nat), (tt - fr) - i ≤ c → i ≤ tt - fr → (∀ x : Nat, x < i → t.getD x 0 = f (fr + x)) →
    ch_loop (fun (s : Int32 × Int32) => m_X3_nameOf_31 (Int32.ofNat j) s.1 s.2 σ) (1, Int32.ofNat i) = if t = lx_tx f fr tt then some (.inr (Int32.ofNat j, σ)) else some (.inl (Int32.ofNat (j + 1))) := by
  have hml : ch_ml fX3_source = 3100 := rfl
  have hm2 : ch_ml fX3_nameFrom = 1600 := rfl
  have h5 := hS.2.1
  obtain ⟨a, a1, a2, a3, a4⟩ := hT
  have z0 : ∀ i : Nat, ch_loop (fun (s : Int32 × Int32) => m_X3_nameOf_31 (Int32.ofNat j) s.1 s.2 σ) (0, Int32.ofNat i) = some (.inl (Int32.ofNat (j + 1))) := by
    intro i
    refine ch_loop_inr ?_
    show m_X3_nameOf_31 (Int32.ofNat j) 0 (Int32.ofNat i) σ = _
    unfold m_X3_nameOf_31
    rw [lm_82, if_pos rfl]
    split <;> rfl
  have fin : ∀ i : Nat, i = tt - fr → (∀ x : Nat, x < i → t.getD x 0 = f (fr + x)) → ch_loop (fun (s : Int32 × Int32) => m_X3_nameOf_31 (Int32.ofNat j) s.1 s.2 σ) (1, Int32.ofNat i) = if t = lx_tx f fr tt then some (.inr (Int32.ofNat j, σ)) else some (.inl (Int32.ofNat (j + 1))) := by
    intro i hi hx
    rw [if_pos (lx_ext.mpr ⟨by rw [lx_txn]; exact hl, fun x q => by rw [lx_txg (by omega)]; exact hx x (by omega)⟩)]
    refine ch_loop_inr ?_
    show m_X3_nameOf_31 (Int32.ofNat j) 1 (Int32.ofNat i) σ = _
    unfold m_X3_nameOf_31
    rw [hq, if_neg (by rw [bn_lt (by omega) (by omega)]; omega), lm_82, if_neg (by decide)]
    rfl
  intro c
  induction c with
  | zero => intro i h1 h2 hx; exact fin i (by omega) hx
  | succ c ih =>
    intro i h1 h2 hx
    by_cases hi : i = tt - fr
    · exact fin i hi hx
    · obtain ⟨b1, b2⟩ := a4 i (by omega)
      obtain ⟨b3, b4⟩ := hS.2.2 (fr + i) (by omega)
      have e1 : Int32.ofNat i + 1 = Int32.ofNat (i + 1) := bn_add (b := 1)
      have hb : m_X3_nameOf_31 (Int32.ofNat j) 1 (Int32.ofNat i) σ = if t.getD i 0 = f (fr + i) then some (.inl (1, Int32.ofNat (i + 1))) else some (.inl (0, Int32.ofNat (i + 1))) := by
        unfold m_X3_nameOf_31
        rw [hq, if_pos (by rw [bn_lt (by omega) (by omega)]; omega), if_neg (by decide), d_ma (by rw [hm2]; omega) (by rw [hm2]; decide), a1, bn_add, d_ma (by rw [hml]; omega) (by rw [hml]; decide), b2, hw, bn_add, d_ma (by rw [hml]; omega) (by rw [hml]; decide), b4, e1]
        simp only [bn_eq (show t.getD i 0 < 2 ^ 31 by omega) (show f (fr + i) < 2 ^ 31 by omega)]
      by_cases hq2 : t.getD i 0 = f (fr + i)
      · rw [if_pos hq2] at hb
        rw [ch_loop_inl hb]
        refine ih (i + 1) (by omega) (by omega) (fun x q => ?_)
        by_cases hx2 : x = i
        · subst hx2; exact hq2
        · exact hx x (by omega)
      · rw [if_neg hq2] at hb
        rw [ch_loop_inl hb, z0 (i + 1), if_neg]
        intro h
        refine hq2 ?_
        rw [h, lx_txg (by omega)]
theorem lm_nm2 {σ : ch_S} {n fr tt j k : Nat} {f : Nat → Nat} {t : List Nat} (hS : md_S σ n f) (hk : σ.1 fX3_names = Int32.ofNat k) (hk2 : k ≤ 1600) (hj : j < k) (hw : σ.1 fX3_wordFrom = Int32.ofNat fr) (hq : σ.1 fX3_wordLong = Int32.ofNat (tt - fr)) (h0 : fr ≤ tt) (hn : tt ≤ n) (hT : md_nm σ j t) :
    m_X3_nameOf_2 (Int32.ofNat j) σ = if t = lx_tx f fr tt then some (.inr (Int32.ofNat j, σ)) else some (.inl (Int32.ofNat (j + 1))) := by
  have hm2 : ch_ml fX3_nameLong = 1600 := rfl
  have h5 := hS.2.1
  obtain ⟨a, a1, a2, a3, a4⟩ := id hT
  unfold m_X3_nameOf_2
  rw [hk, if_pos (by rw [bn_lt (by omega) (by omega)]; exact hj), d_ma (by rw [hm2]; omega) (by rw [hm2]; decide), a2, hq]
  simp only [bn_eq (show t.length < 2 ^ 31 by omega) (show tt - fr < 2 ^ 31 by omega)]
  by_cases hl : t.length = tt - fr
  · rw [if_pos hl]
    exact lm_nm1 hS (by omega) hw hq h0 hn hT hl (tt - fr) 0 (by omega) (by omega) (fun x q => absurd q (by omega))
  · rw [if_neg hl, if_neg (fun h => hl (by rw [h, lx_txn]))]
    refine ch_loop_inr ?_
    show m_X3_nameOf_31 (Int32.ofNat j) 0 0 σ = _
    unfold m_X3_nameOf_31
    rw [lm_82, if_pos rfl]
    split <;> rfl
def lx_up (T : Nat → List Nat) (k : Nat) (t : List Nat) : Nat → List Nat := fun j => if j = k then t else T j
/-- the state behind a new name -/
def md_nn (σ : ch_S) (k : Nat) : ch_S := md_si (md_sa (md_sa σ fX3_nameFrom k (σ.1 fX3_wordFrom)) fX3_nameLong k (σ.1 fX3_wordLong)) fX3_names (Int32.ofNat (k + 1))
theorem lm_nm3 {σ : ch_S} {n fr tt k : Nat} {f : Nat → Nat} {T : Nat → List Nat} (hS : md_S σ n f) (hN : md_N σ k T) (hk2 : k < 1600) (hw : σ.1 fX3_wordFrom = Int32.ofNat fr) (hq : σ.1 fX3_wordLong = Int32.ofNat (tt - fr)) (h0 : fr ≤ tt) (hn : tt ≤ n) : ∀ (c j : Nat), k - j ≤ c → j ≤ k → (∀ x : Nat, x < j → T x ≠ lx_tx f fr tt) →
    (∃ x : Nat, x < k ∧ T x = lx_tx f fr tt ∧ ch_loop (fun (s : Int32) => m_X3_nameOf_2 s σ) (Int32.ofNat j) = some (Int32.ofNat x, σ)) ∨
    ((∀ x : Nat, x < k → T x ≠ lx_tx f fr tt) ∧ ch_loop (fun (s : Int32) => m_X3_nameOf_2 s σ) (Int32.ofNat j) = some (Int32.ofNat k, md_nn σ k)) := by
  have hm1 : ch_ml fX3_nameFrom = 1600 := rfl
  have hm2 : ch_ml fX3_nameLong = 1600 := rfl
  obtain ⟨n1, n2, n3⟩ := id hN
  have fin : ∀ j : Nat, j = k → (∀ x : Nat, x < j → T x ≠ lx_tx f fr tt) → ((∀ x : Nat, x < k → T x ≠ lx_tx f fr tt) ∧ ch_loop (fun (s : Int32) => m_X3_nameOf_2 s σ) (Int32.ofNat j) = some (Int32.ofNat k, md_nn σ k)) := by
    intro j hj hx
    subst hj
    refine ⟨hx, ch_loop_inr ?_⟩
    show m_X3_nameOf_2 (Int32.ofNat j) σ = _
    unfold m_X3_nameOf_2
    rw [n1, if_neg (by rw [bn_lt (by omega) (by omega)]; omega), d_mw (by rw [hm1]; exact hk2) (by rw [hm1]; decide)]
    have e1 : Int32.ofNat j + 1 = Int32.ofNat (j + 1) := bn_add (b := 1)
    have e2 : Int32.ofNat (j + 1) - 1 = Int32.ofNat j := bn_sub (a := j + 1) (b := 1) (by omega)
    show (ch_mw (md_sa σ fX3_nameFrom j (σ.1 fX3_wordFrom)) fX3_nameLong (σ.1 fX3_names) (σ.1 fX3_wordLong)).bind _ = _
    rw [n1, d_mw (by rw [hm2]; exact hk2) (by rw [hm2]; decide)]
    show (ch_mI (md_sa (md_sa σ fX3_nameFrom j (σ.1 fX3_wordFrom)) fX3_nameLong j (σ.1 fX3_wordLong)) fX3_names (σ.1 fX3_names + 1)).bind _ = _
    rw [n1, e1]
    show some (Sum.inr (Int32.ofNat (j + 1) - 1, md_nn σ j)) = _
    rw [e2]
  intro c
  induction c with
  | zero => intro j h1 h2 hx; exact Or.inr (fin j (by omega) hx)
  | succ c ih =>
    intro j h1 h2 hx
    by_cases hj : j = k
    · exact Or.inr (fin j hj hx)
    · have hb := lm_nm2 hS n1 (by omega) (show j < k by omega) hw hq h0 hn (n2 j (by omega))
      by_cases ht : T j = lx_tx f fr tt
      · rw [if_pos ht] at hb
        exact Or.inl ⟨j, by omega, ht, ch_loop_inr hb⟩
      · rw [if_neg ht] at hb
        rw [ch_loop_inl hb]
        refine ih (j + 1) (by omega) (by omega) (fun x q => ?_)
        by_cases hx2 : x = j
        · subst hx2; exact ht
        · exact hx x (by omega)
theorem md_nn_N {σ : ch_S} {n fr tt k : Nat} {f : Nat → Nat} {T : Nat → List Nat} (hS : md_S σ n f) (hN : md_N σ k T) (hw : σ.1 fX3_wordFrom = Int32.ofNat fr) (hq : σ.1 fX3_wordLong = Int32.ofNat (tt - fr)) (h0 : fr ≤ tt) (hn : tt ≤ n) (hx : ∀ x : Nat, x < k → T x ≠ lx_tx f fr tt) : md_N (md_nn σ k) (k + 1) (lx_up T k (lx_tx f fr tt)) := by
  obtain ⟨n1, n2, n3⟩ := hN
  have h5 := hS.2.1
  have eF : (md_nn σ k).2 fX3_nameFrom = va_up (σ.2 fX3_nameFrom) k (σ.1 fX3_wordFrom) := by unfold md_nn; rw [md_ia, md_an (by decide)]; unfold md_sa va_up; simp
  have eL : (md_nn σ k).2 fX3_nameLong = va_up (σ.2 fX3_nameLong) k (σ.1 fX3_wordLong) := by unfold md_nn md_si md_sa; simp [va_up]
  have eS : (md_nn σ k).2 fX3_source = σ.2 fX3_source := by unfold md_nn; rw [md_ia, md_an (by decide), md_an (by decide)]
  refine ⟨rfl, fun j hj => ?_, fun i j hi hj hij => ?_⟩
  · unfold lx_up
    by_cases hjk : j = k
    · rw [if_pos hjk]
      subst hjk
      refine ⟨fr, by rw [eF]; simp [va_up, hw], by rw [eL, lx_txn]; simp [va_up, hq], by rw [lx_txn]; omega, fun i hi => ?_⟩
      rw [lx_txn] at hi
      rw [lx_txg hi, eS]
      exact hS.2.2 (fr + i) (by omega)
    · rw [if_neg hjk]
      obtain ⟨a, a1, a2, a3, a4⟩ := n2 j (by omega)
      exact ⟨a, by rw [eF]; simp [va_up, hjk, a1], by rw [eL]; simp [va_up, hjk, a2], a3, fun i hi => by rw [eS]; exact a4 i hi⟩
  · unfold lx_up at hij
    by_cases h1 : i = k
    · by_cases h2 : j = k
      · omega
      · rw [if_pos h1, if_neg h2] at hij
        exact absurd hij.symm (hx j (by omega))
    · by_cases h2 : j = k
      · rw [if_neg h1, if_pos h2] at hij
        exact absurd hij (hx i (by omega))
      · rw [if_neg h1, if_neg h2] at hij
        exact n3 i j (by omega) (by omega) hij
