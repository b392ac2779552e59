/-! LEVEL B2: classes: the model when it is stuck -/
set_option maxRecDepth 100000
def cla : List Nat := [fX3_classId, fX3_classAt, fX3_parentId, fX3_memberFrom, fX3_memberId, fX3_memberAt, fX3_memberType, fX3_isMethod, fX3_parameterFrom, fX3_body, fX3_closeAt, fX3_parameterType, fX3_parameterId]
def clk : List Nat := [fX3_classes, fX3_members, fX3_parameters]
/-- what reading a program may change of the model -/
def fc (σ σ' : ch_S) : Prop := md_fr (pks ++ clk) (pas ++ cla) σ σ'
/-- how many classes, members, parameters -/
def cB (j : Nat) (σ : ch_S) : Prop := ∃ c M Q, σ.1 fX3_classes = Int32.ofNat c ∧ σ.1 fX3_members = Int32.ofNat M ∧ σ.1 fX3_parameters = Int32.ofNat Q ∧ c ≤ 330 + j ∧ M ≤ 500 + j ∧ Q ≤ 700 + j
/-- the model is stuck at q, classes being read -/
def dC (n q j : Nat) (σ : ch_S) : Prop := dk σ q ∧ q ≤ n ∧ n ≤ 1280 ∧ pjN σ ∧ cB j σ
section DC
variable {n q j : Nat} {σ σ' σ1 : ch_S}
theorem fc.refl : fc σ σ := md_fr.refl
theorem fc.trans (h : fc σ σ1) (h2 : fc σ1 σ') : fc σ σ' := md_fr.trans h h2
theorem cB.fr {Ks As : List Nat} (h : cB j σ) (hf : md_fr Ks As σ σ') (h1 : fX3_classes ∉ Ks) (h2 : fX3_members ∉ Ks) (h3 : fX3_parameters ∉ Ks) : cB j σ' := by
  obtain ⟨c, M, Q, a1, a2, a3, a4⟩ := h
  exact ⟨c, M, Q, by rw [hf.1 _ h1]; exact a1, by rw [hf.1 _ h2]; exact a2, by rw [hf.1 _ h3]; exact a3, a4⟩
theorem cB.mono {j' : Nat} (h : cB j σ) (hj : j ≤ j') : cB j' σ := by
  obtain ⟨c, M, Q, a1, a2, a3, a4, a5, a6⟩ := h
  exact ⟨c, M, Q, a1, a2, a3, by omega, by omega, by omega⟩
theorem dC.mono {j' : Nat} (h : dC n q j σ) (hj : j ≤ j') : dC n q j' σ := ⟨h.1, h.2.1, h.2.2.1, h.2.2.2.1, h.2.2.2.2.mono hj⟩
theorem dC.lt (h : dC n q j σ) : q < 2 ^ 31 := by have := h.2.1; have := h.2.2.1; omega
theorem dC.rd (h : dC n q j σ) (hd : dr q σ σ') : dC n q j σ' ∧ fc σ σ' := ⟨⟨hd.dk, h.2.1, h.2.2.1, pjN_fr h.2.2.2.1 hd.1 (by decide) (by decide) (by decide) (by decide), h.2.2.2.2.fr hd.1 (by decide) (by decide) (by decide)⟩, hd.1.mono (by decide) (fun _ q => by cases q)⟩
theorem dC.sa {a i : Nat} {v : Int32} (h : dC n q j σ) (ha : a ∈ cla) : dC n q j (md_sa σ a i v) ∧ fc σ (md_sa σ a i v) := by
  refine ⟨⟨h.1, h.2.1, h.2.2.1, h.2.2.2.1, h.2.2.2.2⟩, md_fr.refl.sa (List.mem_append_right _ ha)⟩
theorem dC_pds {sd td : Int} {fr : Nat} (h : pds n sd td σ fr σ' q) (hn : n ≤ 1280) (hc : cB j σ) : dC n q j σ' ∧ fc σ σ' := ⟨⟨h.2.1, h.2.2.2.1, hn, h.2.2.2.2.1, hc.fr h.1 (by decide) (by decide) (by decide)⟩, h.1.mono (fun _ z => List.mem_append_left _ z) (fun _ z => List.mem_append_left _ z)⟩
theorem dC.toPd (h : dC n q j σ) : pds n 0 0 σ q σ q := by
  refine ⟨md_fr.refl, h.1, Nat.le_refl _, h.2.1, h.2.2.2.1, rfl, by omega, by omega, ?_⟩
  split <;> omega
theorem dC.mem (h : dC n q j σ) : ∃ σ', (ch_mI σ fX3_members (σ.1 fX3_members + 1)) = some σ' ∧ dC n q (j + 1) σ' ∧ fc σ σ' := by
  obtain ⟨h1, h2, h3, h4, c, M, Q, a1, a2, a3, a4, a5, a6⟩ := h
  have e1 : Int32.ofNat M + 1 = Int32.ofNat (M + 1) := bn_add (b := 1)
  refine ⟨md_si σ fX3_members (σ.1 fX3_members + 1), rfl, ⟨h1, h2, h3, h4, c, M + 1, Q, a1, ?_, a3, by omega, by omega, by omega⟩, md_fr.refl.si (by decide)⟩
  rw [md_gs, a2, e1]
theorem dC.par (h : dC n q j σ) : ∃ σ', (ch_mI σ fX3_parameters (σ.1 fX3_parameters + 1)) = some σ' ∧ dC n q (j + 1) σ' ∧ fc σ σ' := by
  obtain ⟨h1, h2, h3, h4, c, M, Q, a1, a2, a3, a4, a5, a6⟩ := h
  have e1 : Int32.ofNat Q + 1 = Int32.ofNat (Q + 1) := bn_add (b := 1)
  refine ⟨md_si σ fX3_parameters (σ.1 fX3_parameters + 1), rfl, ⟨h1, h2, h3, h4, c, M, Q + 1, a1, a2, ?_, by omega, by omega, by omega⟩, md_fr.refl.si (by decide)⟩
  rw [md_gs, a3, e1]
theorem dC.cls (h : dC n q j σ) : ∃ σ', (ch_mI σ fX3_classes (σ.1 fX3_classes + 1)) = some σ' ∧ dC n q (j + 1) σ' ∧ fc σ σ' := by
  obtain ⟨h1, h2, h3, h4, c, M, Q, a1, a2, a3, a4, a5, a6⟩ := h
  have e1 : Int32.ofNat c + 1 = Int32.ofNat (c + 1) := bn_add (b := 1)
  refine ⟨md_si σ fX3_classes (σ.1 fX3_classes + 1), rfl, ⟨h1, h2, h3, h4, c + 1, M, Q, ?_, a2, a3, by omega, by omega, by omega⟩, md_fr.refl.si (by decide)⟩
  rw [md_gs, a1, e1]
/-- behind the parameters -/
theorem dm_230c {m : Nat} {σ0 : ch_S} (hc : m_X3_closes 41 σ0 = some σ) (h : dC n q j σ) (hm : m < 799) : ∃ σ', m_X3_member_230 (Int32.ofNat m) σ0 = some σ' ∧ dC n q j σ' ∧ fc σ σ' := by
  unfold m_X3_member_230
  have e1 : Int32.ofNat m + 1 = Int32.ofNat (m + 1) := bn_add (b := 1)
  rw [hc, Option.bind_some, e1, m_mw (show m + 1 < 801 by omega) (by decide)]
  obtain ⟨c1, c2⟩ := h.sa (a := fX3_parameterFrom) (i := m + 1) (v := σ.1 fX3_parameters) (by decide)
  obtain ⟨p, d1, d2⟩ := dm_block (e := 69) c1.toPd c1.lt
  obtain ⟨e1, e2⟩ := dC_pds d2 c1.2.2.1 c1.2.2.2.2
  rw [d1, Option.bind_some, m_mw (show m < 800 by omega) (by decide), m_mw (show m < 800 by omega) (by decide)]
  obtain ⟨f1, f2⟩ := e1.sa (a := fX3_body) (i := m) (v := p.1) (by decide)
  obtain ⟨g1, g2⟩ := f1.sa (a := fX3_closeAt) (i := m) (v := (md_sa p.2 fX3_body m p.1).1 fX3_blockEnd) (by decide)
  exact ⟨_, rfl, g1, c2.trans (e2.trans (f2.trans g2))⟩
theorem dm_230 {m : Nat} (h : dC n q j σ) (hm : m < 799) : ∃ σ', m_X3_member_230 (Int32.ofNat m) σ = some σ' ∧ dC n q j σ' ∧ fc σ σ' := by
  obtain ⟨σ1, a1, a2⟩ := dm_closes (c := 41) h.1 h.lt
  obtain ⟨b1, b2⟩ := h.rd a2
  obtain ⟨σ', c1, c2, c3⟩ := dm_230c a1 b1 hm
  exact ⟨σ', c1, c2, b2.trans c3⟩
/-- the loop of parameters -/
theorem dm_165 {m : Nat} {x : Int32} (h : dC n q j σ) (hm : m < 799) (hj : j ≤ 10) : ∃ σ', ch_loop (fun (s : Int32 × ch_S) => m_X3_member_165 (Int32.ofNat m) s.1 s.2) (x, σ) = some σ' ∧ dC n q (j + 1) σ' ∧ fc σ σ' := by
  have stop : ∀ (x : Int32) (j : Nat) (σ : ch_S), dC n q j σ → (x = 0 ∨ ¬ σ.1 fX3_wrong < 0) → ∃ σ', ch_loop (fun (s : Int32 × ch_S) => m_X3_member_165 (Int32.ofNat m) s.1 s.2) (x, σ) = some σ' ∧ dC n q j σ' ∧ fc σ σ' := by
    intro x j σ h hx
    obtain ⟨σ', a1, a2, a3⟩ := dm_230 h hm
    refine ⟨σ', ch_loop_inr ?_, a2, a3⟩
    show m_X3_member_165 _ x σ = _
    unfold m_X3_member_165
    by_cases hx0 : x = 0
    · rw [if_pos hx0, a1]; rfl
    · rw [if_neg hx0, if_neg (by rcases hx with z | z; exact absurd z hx0; exact z), a1]; rfl
  by_cases hs : x = 0 ∨ ¬ σ.1 fX3_wrong < 0
  · obtain ⟨σ', a1, a2, a3⟩ := stop x j σ h hs
    exact ⟨σ', a1, a2.mono (by omega), a3⟩
  · have hx0 : ¬ x = 0 := fun z => hs (Or.inl z)
    have hw : σ.1 fX3_wrong < 0 := Classical.byContradiction fun z => hs (Or.inr z)
    obtain ⟨v, σ1, a1, a2⟩ := dm_type h.1 h.lt
    obtain ⟨b1, b2⟩ := h.rd a2
    obtain ⟨c, M, Q, k1, k2, k3, k4, k5, k6⟩ := id h.2.2.2.2
    obtain ⟨c1, c2⟩ := b1.sa (a := fX3_parameterType) (i := Q) (v := v) (by decide)
    obtain ⟨σ2, d1, d2⟩ := dm_name c1.1 c1.lt
    obtain ⟨e1, e2⟩ := c1.rd d2
    obtain ⟨f1, f2⟩ := e1.sa (a := fX3_parameterId) (i := Q) (v := -1) (by decide)
    obtain ⟨σ3, g1, g2, g3⟩ := f1.par
    obtain ⟨σ4, i1, i2, i3⟩ := stop 0 (j + 1) σ3 g2 (Or.inl rfl)
    have q1 : (md_sa σ1 fX3_parameterType Q v).1 fX3_parameters = Int32.ofNat Q := by
      rw [md_gi, a2.1.1 _ (by decide)]; exact k3
    refine ⟨σ4, ?_, i2, b2.trans (c2.trans (e2.trans (f2.trans (g3.trans i3))))⟩
    rw [ch_loop_inl (a' := (0, σ3)), i1]
    show m_X3_member_165 _ x σ = _
    unfold m_X3_member_165
    rw [if_neg hx0, if_pos hw, a1, Option.bind_some, k3, m_mw (show Q < 900 by omega) (by decide), d1, Option.bind_some, q1, m_mw (show Q < 900 by omega) (by decide), g1, Option.bind_some, dm_sign g2.1 g2.lt, Option.bind_some, if_pos rfl]
theorem dm_92 {m : Nat} {y : Int32} (h : dC n q j σ) (hm : m < 799) (hy : y = 0 ∨ y = 1) : ∃ σ', m_X3_member_92 (Int32.ofNat m) y (Int32.ofNat m) σ = some σ' ∧ dC n q j σ' ∧ fc σ σ' ∧ σ'.1 fX3_wrong = Int32.ofNat q := by
  unfold m_X3_member_92
  have hb : ch_bit y = some y := by rcases hy with z | z <;> rw [z] <;> rfl
  have e1 : Int32.ofNat m + 1 = Int32.ofNat (m + 1) := bn_add (b := 1)
  rw [hb, Option.bind_some, m_mw (show m < 800 by omega) (by decide), m_mw (show m < 801 by omega) (by decide), e1, m_mw (show m + 1 < 801 by omega) (by decide)]
  obtain ⟨c1, c2⟩ := h.sa (a := fX3_isMethod) (i := m) (v := y) (by decide)
  obtain ⟨d1, d2⟩ := c1.sa (a := fX3_parameterFrom) (i := m) (v := (md_sa σ fX3_isMethod m y).1 fX3_parameters) (by decide)
  obtain ⟨f1, f2⟩ := d1.sa (a := fX3_parameterFrom) (i := m + 1) (v := (md_sa (md_sa σ fX3_isMethod m y) fX3_parameterFrom m ((md_sa σ fX3_isMethod m y).1 fX3_parameters)).1 fX3_parameters) (by decide)
  have hv : (md_sa (md_sa (md_sa σ fX3_isMethod m y) fX3_parameterFrom m ((md_sa σ fX3_isMethod m y).1 fX3_parameters)) fX3_parameterFrom (m + 1) ((md_sa (md_sa σ fX3_isMethod m y) fX3_parameterFrom m ((md_sa σ fX3_isMethod m y).1 fX3_parameters)).1 fX3_parameters)).2 fX3_isMethod m = y := by
    rw [md_an (by decide), md_an (by decide), md_ga, if_pos ⟨rfl, rfl⟩]
  rw [d_ma (show m < 800 by omega) (by decide), hv]
  have ft := c2.trans (d2.trans f2)
  by_cases hy0 : y = 0
  · obtain ⟨σ1, a1, a2⟩ := dm_passes (v := 0) f1.1 f1.lt (fun _ => rfl)
    obtain ⟨b1, b2⟩ := f1.rd a2
    rw [if_pos hy0, dm_sign f1.1 f1.lt, Option.bind_some, a1, Option.bind_some]
    exact ⟨_, rfl, b1, ft.trans b2, a2.2⟩
  · obtain ⟨σ1, a1, a2⟩ := dm_opens (v := 0) f1.1 f1.lt (fun _ => rfl)
    obtain ⟨b1, b2⟩ := f1.rd a2
    rw [if_neg hy0, dm_sign f1.1 f1.lt, Option.bind_some, a1, Option.bind_some, if_pos rfl]
    exact ⟨_, rfl, b1, ft.trans b2, a2.2⟩
theorem dm_39 {m : Nat} {x : Int32} (h : dC n q j σ) (hm : m < 799) : ∃ σ', m_X3_member_39 (Int32.ofNat m) x σ = some σ' ∧ dC n q (j + 1) σ' ∧ fc σ σ' ∧ σ'.1 fX3_wrong = Int32.ofNat q := by
  unfold m_X3_member_39 m_X3_member_87
  obtain ⟨c1, c2⟩ := h.sa (a := fX3_memberAt) (i := m) (v := σ.1 fX3_wordFrom) (by decide)
  obtain ⟨σ2, d1, d2⟩ := dm_name c1.1 c1.lt
  obtain ⟨e1, e2⟩ := c1.rd d2
  obtain ⟨f1, f2⟩ := e1.sa (a := fX3_memberId) (i := m) (v := -1) (by decide)
  obtain ⟨σ3, g1, g2, g3⟩ := f1.mem
  rw [m_mw (show m < 800 by omega) (by decide), d1, Option.bind_some, m_mw (show m < 800 by omega) (by decide), g1, Option.bind_some, dm_sign g2.1 g2.lt, Option.bind_some, if_pos rfl]
  have ft := c2.trans (e2.trans (f2.trans g3))
  have fin : ∀ (y : Int32), (y = 0 ∨ y = 1) → ∃ σ', m_X3_member_92 (Int32.ofNat m) y (Int32.ofNat m) σ3 = some σ' ∧ dC n q (j + 1) σ' ∧ fc σ σ' ∧ σ'.1 fX3_wrong = Int32.ofNat q := by
    intro y hy
    obtain ⟨σ', i1, i2, i3, i4⟩ := dm_92 g2 hm hy
    exact ⟨σ', i1, i2, ft.trans i3, i4⟩
  split
  · exact fin 0 (Or.inl rfl)
  · exact fin 1 (Or.inr rfl)
/-- a member -/
theorem dm_member (h : dC n q j σ) (hj : j ≤ 10) : ∃ σ', m_X3_member σ = some σ' ∧ dC n q (j + 1) σ' ∧ fc σ σ' ∧ σ'.1 fX3_wrong = Int32.ofNat q := by
  unfold m_X3_member
  obtain ⟨c, M, Q, k1, k2, k3, k4, k5, k6⟩ := id h.2.2.2.2
  obtain ⟨c1, c2⟩ := h.sa (a := fX3_memberType) (i := M) (v := 3) (by decide)
  obtain ⟨v, σ2, d1, d2⟩ := dm_type c1.1 c1.lt
  obtain ⟨e1, e2⟩ := c1.rd d2
  obtain ⟨f1, f2⟩ := e1.sa (a := fX3_memberType) (i := M) (v := v) (by decide)
  obtain ⟨σ', i1, i2, i3, i4⟩ := dm_39 (x := 0) (m := M) f1 (by omega)
  rw [dm_key h.1 h.lt, Option.bind_some, k2, m_mw (show M < 800 by omega) (by decide), if_pos rfl, d1, Option.bind_some, m_mw (show M < 800 by omega) (by decide), i1]
  exact ⟨_, rfl, i2, c2.trans (e2.trans (f2.trans i3)), i4⟩
theorem dm_102 (h : dC n q j σ) (hj : j ≤ 10) : ∃ σ', m_X3_readClass_102 σ = some σ' ∧ dC n q j σ' ∧ fc σ σ' ∧ σ'.1 fX3_wrong = Int32.ofNat q := by
  unfold m_X3_readClass_102
  obtain ⟨σ1, a1, a2⟩ := dm_closes (c := 125) h.1 h.lt
  obtain ⟨b1, b2⟩ := h.rd a2
  obtain ⟨c, M, Q, k1, k2, k3, k4, k5, k6⟩ := id b1.2.2.2.2
  obtain ⟨c1, c2⟩ := b1.sa (a := fX3_memberFrom) (i := c) (v := σ1.1 fX3_members) (by decide)
  rw [a1, Option.bind_some, k1, m_mw (show c < 351 by omega) (by decide)]
  exact ⟨_, rfl, c1, b2.trans c2, a2.2⟩
/-- the loop of members -/
theorem dm_79 (h : dC n q j σ) (hj : j ≤ 9) : ∃ σ', ch_loop (fun (s : ch_S) => m_X3_readClass_79 s) σ = some σ' ∧ dC n q (j + 1) σ' ∧ fc σ σ' ∧ σ'.1 fX3_wrong = Int32.ofNat q := by
  have stop : ∀ (j : Nat) (σ : ch_S), dC n q j σ → j ≤ 10 → ¬ σ.1 fX3_wrong < 0 → ∃ σ', ch_loop (fun (s : ch_S) => m_X3_readClass_79 s) σ = some σ' ∧ dC n q j σ' ∧ fc σ σ' ∧ σ'.1 fX3_wrong = Int32.ofNat q := by
    intro j σ h hj hw
    obtain ⟨σ', a1, a2, a3, a4⟩ := dm_102 h hj
    refine ⟨σ', ch_loop_inr ?_, a2, a3, a4⟩
    show m_X3_readClass_79 σ = _
    unfold m_X3_readClass_79
    rw [if_neg hw, a1]
    rfl
  by_cases hw : σ.1 fX3_wrong < 0
  · obtain ⟨σ1, a1, a2, a3, a4⟩ := dm_member h (by omega)
    obtain ⟨σ2, b1, b2, b3, b4⟩ := stop (j + 1) σ1 a2 (by omega) (by rw [a4]; exact bn_nn h.lt)
    refine ⟨σ2, ?_, b2, a3.trans b3, b4⟩
    rw [ch_loop_inl (a' := σ1), b1]
    show m_X3_readClass_79 σ = _
    unfold m_X3_readClass_79
    rw [if_pos hw, dm_sign h.1 h.lt, Option.bind_some, if_pos rfl, a1]
    rfl
  · obtain ⟨σ2, b1, b2, b3, b4⟩ := stop j σ h (by omega) hw
    exact ⟨σ2, b1, b2.mono (by omega), b3, b4⟩
theorem dm_55 (h : dC n q j σ) : ∃ σ', m_X3_readClass_55 σ = some σ' ∧ dC n q (j + 1) σ' ∧ fc σ σ' ∧ σ'.1 fX3_wrong = Int32.ofNat q := by
  unfold m_X3_readClass_55
  obtain ⟨σ1, a1, a2, a3⟩ := h.cls
  obtain ⟨σ2, b1, b2⟩ := dm_opens (v := 0) a2.1 a2.lt (fun _ => rfl)
  obtain ⟨c1, c2⟩ := a2.rd b2
  rw [a1, Option.bind_some, dm_sign a2.1 a2.lt, Option.bind_some, b1, Option.bind_some, if_pos rfl]
  exact ⟨_, rfl, c1, a3.trans c2, b2.2⟩
theorem dm_class (h : dC n q j σ) (hj : j ≤ 10) : ∃ σ', m_X3_readClass σ = some σ' ∧ dC n q (j + 1) σ' ∧ fc σ σ' ∧ σ'.1 fX3_wrong = Int32.ofNat q := by
  unfold m_X3_readClass
  obtain ⟨c, M, Q, k1, k2, k3, k4, k5, k6⟩ := id h.2.2.2.2
  obtain ⟨c1, c2⟩ := h.sa (a := fX3_classAt) (i := c) (v := σ.1 fX3_wordFrom) (by decide)
  obtain ⟨σ2, d1, d2⟩ := dm_name c1.1 c1.lt
  obtain ⟨e1, e2⟩ := c1.rd d2
  obtain ⟨f1, f2⟩ := e1.sa (a := fX3_classId) (i := c) (v := -1) (by decide)
  obtain ⟨g1, g2⟩ := f1.sa (a := fX3_parentId) (i := c) (v := -1) (by decide)
  obtain ⟨σ', i1, i2, i3, i4⟩ := dm_55 g1
  rw [k1, m_mw (show c < 350 by omega) (by decide), d1, Option.bind_some, m_mw (show c < 350 by omega) (by decide), m_mw (show c < 350 by omega) (by decide), dm_sign g1.1 g1.lt, Option.bind_some, if_pos rfl, i1]
  exact ⟨_, rfl, i2, c2.trans (e2.trans (f2.trans (g2.trans i3))), i4⟩
/-- the program's loop ends -/
theorem dm_prog (h : dC n q j σ) (hw : σ.1 fX3_wrong = Int32.ofNat q) : ch_loop (fun (s : Int32 × ch_S) => m_X3_program_164 s.1 s.2) (0, σ) = some (-1 - Int32.ofNat q, σ) := by
  refine ch_loop_inr ?_
  show m_X3_program_164 0 σ = _
  unfold m_X3_program_164
  rw [if_pos rfl, hw, if_neg (bn_nn h.lt)]
theorem dm_184 (h : dC n q j σ) (hw : σ.1 fX3_wrong = Int32.ofNat q) : m_X3_program_184 σ = some (.inl (0, σ)) := by
  unfold m_X3_program_184
  rw [hw, if_neg (bn_nn h.lt)]
/-- stuck at the loop's head -/
theorem dm_head (h : dC n q j σ) : ∃ σ', ch_loop (fun (s : Int32 × ch_S) => m_X3_program_164 s.1 s.2) (1, σ) = some (-1 - Int32.ofNat q, σ') ∧ dC n q j σ' ∧ fc σ σ' := by
  obtain ⟨σ1, a1, a2⟩ := dm_passes (v := 0) h.1 h.lt (fun _ => rfl)
  obtain ⟨b1, b2⟩ := h.rd a2
  refine ⟨σ1, ?_, b1, b2⟩
  rw [ch_loop_inl (a' := (0, σ1)), dm_prog b1 a2.2]
  show m_X3_program_164 1 σ = _
  unfold m_X3_program_164
  rw [if_neg (by decide), dm_key h.1 h.lt, Option.bind_some, a1, Option.bind_some, if_pos rfl, dm_184 b1 a2.2]
end DC
