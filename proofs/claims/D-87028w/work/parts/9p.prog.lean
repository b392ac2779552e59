/-! LEVEL B2: the classes of a program -/
set_option maxRecDepth 100000
def cPB (g : State) (r : Nat) : ch_W → Option (ch_W ⊕ (Except Nat Unit × ch_W)) := fun s => c_X4_program_4 g r s
def mPB : Int32 × ch_S → Option ((Int32 × ch_S) ⊕ (Int32 × ch_S)) := fun s => m_X3_program_164 s.1 s.2
section PG
variable {g : State} {P r L S n C1 C2 : Nat} {f : Nat → Nat} {wS w w' : ch_W} {σS σ σ' : ch_S} {frS c tc fr tt M Q q j : Nat} {u : Int}
theorem dm_184b (h : dC n q j σ) : ∃ x σ', m_X3_program_184 σ = some (.inl (x, σ)) ∧ ch_loop mPB (x, σ) = some (-1 - Int32.ofNat q, σ') ∧ fc σ σ' := by
  rcases h.1 with z | ⟨z1, z2, z3⟩
  · exact ⟨0, σ, dm_184 h z, dm_prog h z, fc.refl⟩
  · obtain ⟨σ', f1, f2, f3⟩ := dm_head h
    refine ⟨1, σ', ?_, f1, f3⟩
    unfold m_X3_program_184
    rw [z1, if_pos bn_m1, z2, if_neg (by decide)]
theorem m164 {x : Int32} (hx : x ≠ 0) : m_X3_program_164 x σ = ((m_X3_isKey 1 σ).bind fun v5 => (m_X3_passes v5 σ).bind fun p7 => if p7.1 = 0 then (m_X3_program_184 p7.2) else ((m_X3_readClass p7.2).bind fun p9 => m_X3_program_184 p9)) := by
  unfold m_X3_program_164
  rw [if_neg hx]
/-- A CLASS of the program -/
theorem po_class (hAS : pjA L n C1 C2 wS σS frS) (h : cI g P r L S n f C1 C2 wS σS frS c M Q w σ tc fr tt 0) :
    (∃ w' σ' tc' fr' tt' M' Q', c_X4_program_4 g r w = some (if tc' = 0 then .inr (.ok (), w') else .inl w') ∧ ch_loop mPB (1, σ) = ch_loop mPB (if tc' = 0 then 0 else 1, σ') ∧ cI g P r L S n f C1 C2 wS σS frS (c + 1) M' Q' w' σ' tc' fr' tt' 0 ∧ fr < fr') ∨
    (∃ e w' σ' q, c_X4_program_4 g r w = some (.inr (.error e, w')) ∧ ch_loop mPB (1, σ) = some (-1 - Int32.ofNat q, σ') ∧ pe P C1 C2 wS w' e q ∧ q ≤ n ∧ fc σS σ') := by
  have hj := h.1
  have hat := hj.1.2.2.2.2.2.2.1
  have hr := hat.1.1
  have hn12 := hj.2.1.2.2.2.2.1
  have hcB := h.cB
  have s1 : m_X3_isKey 1 σ = some (if tc = 2000 + 1 then 1 else 0) := ms_key (c := 1) hj.2.1 hat.2.2.2 (by decide) (by decide)
  have stk : ∀ (σ1 : ch_S) (q j : Nat), m_X3_program_164 1 σ = m_X3_program_184 σ1 → dC n q j σ1 → ∃ σ', ch_loop mPB (1, σ) = some (-1 - Int32.ofNat q, σ') ∧ fc σ1 σ' := by
    intro σ1 q j h1 h2
    obtain ⟨x, σ', f1, f2, f3⟩ := dm_184b h2
    refine ⟨σ', ?_, f3⟩
    rw [ch_loop_inl (a' := (x, σ1)), f2]
    show m_X3_program_164 1 σ = _
    rw [h1, f1]
  unfold c_X4_program_4
  rw [d_rc hr]
  rcases po_want hj (c := 2001) (by decide) (it_114 hat hj.1.1) with ⟨x1, w1, y1, σ1, e1, e2, e3, e4, ⟨tc1, fr1, tt1, j1, p1, l1⟩, -⟩ | ⟨e, w1, y1, σ1, q, e1, e2, e3, e4⟩
  · have h1 := h.step j1 p1.s0 (by omega) (by omega)
    have h4c := h.2.2.2.2.2.2.2.2.2.1
    have e2' : m_X3_passes (if tc = 2000 + 1 then 1 else 0) σ = some (y1, σ1) := e2
    have h164 : ∀ σ2, m_X3_readClass σ1 = some σ2 → m_X3_program_164 1 σ = m_X3_program_184 σ2 := fun σ2 hσ => by
      rw [m164 (by decide), s1, Option.bind_some, e2', Option.bind_some]
      dsimp only
      rw [e3, if_neg (show ¬ (1 : Int32) = 0 by decide), hσ, Option.bind_some]
    rw [tb_ok e1]
    rcases po_cls hAS h1 (by omega) (by omega) with ⟨w2, σ2, tc2, fr2, tt2, M2, Q2, k1, k2, k3, k4⟩ | ⟨e, w2, σ2, q, k1, k2, k3, k4, k5⟩
    · left
      refine ⟨w2, σ2, tc2, fr2, tt2, M2, Q2, k1, ?_, k3, by omega⟩
      have hw := ms_word k3.1.2.1 k3.1.1.2.2.2.2.2.2.1.2.2.2
      refine ch_loop_inl ?_
      show m_X3_program_164 1 σ = _
      rw [h164 σ2 k2]
      unfold m_X3_program_184
      rw [k3.1.2.1.2.2.1, if_pos bn_m1]
      by_cases hz : tc2 = 0
      · rw [if_pos (hw.2.2.2.mpr hz), if_pos hz]
      · rw [if_neg (fun z => hz (hw.2.2.2.mp z)), if_neg hz]
    · right
      obtain ⟨σ', f1, f2⟩ := stk σ2 q 6 (h164 σ2 k2) k4
      exact ⟨e, w2, σ', q, k1, f1, k3, k4.2.1, k5.trans f2⟩
  · right
    rw [tb_er e1]
    obtain ⟨d1, d2⟩ := dC_pds e4.s hn12 hcB
    have e2' : m_X3_passes (if tc = 2000 + 1 then 1 else 0) σ = some (y1, σ1) := e2
    by_cases hy : y1 = 0
    · obtain ⟨σ', f1, f2⟩ := stk σ1 q 0 (by
        rw [m164 (by decide), s1, Option.bind_some, e2', Option.bind_some]
        dsimp only
        rw [if_pos hy]) d1
      exact ⟨e, w1, σ', q, rfl, f1, e3.low h.2.1 h.2.2.1, d1.2.1, h.2.2.2.1.trans (d2.trans f2)⟩
    · obtain ⟨σ2, g1, g2, g3, -⟩ := dm_class d1 (by omega)
      obtain ⟨σ', f1, f2⟩ := stk σ2 q 1 (by
        rw [m164 (by decide), s1, Option.bind_some, e2', Option.bind_some]
        dsimp only
        rw [if_neg hy, g1, Option.bind_some]) g2
      exact ⟨e, w1, σ', q, rfl, f1, e3.low h.2.1 h.2.2.1, d1.2.1, h.2.2.2.1.trans (d2.trans (g3.trans f2))⟩
/-- THE CLASSES -/
theorem lp_prog (hAS : pjA L n C1 C2 wS σS frS) : ∀ (N : Nat) (w : ch_W) (σ : ch_S) (tc fr tt c M Q : Nat), n - fr ≤ N → cI g P r L S n f C1 C2 wS σS frS c M Q w σ tc fr tt 0 →
    (∃ w' σ' fr' tt' c' M' Q', ch_loop (cPB g r) w = some (.ok (), w') ∧ ch_loop mPB (1, σ) = ch_loop mPB (0, σ') ∧ cI g P r L S n f C1 C2 wS σS frS c' M' Q' w' σ' 0 fr' tt' 0 ∧ c < c') ∨
    (∃ e w' σ' q, ch_loop (cPB g r) w = some (.error e, w') ∧ ch_loop mPB (1, σ) = some (-1 - Int32.ofNat q, σ') ∧ pe P C1 C2 wS w' e q ∧ q ≤ n ∧ fc σS σ') := by
  intro N
  induction N with
  | zero =>
    intro w σ tc fr tt c M Q hN h
    have htk := h.1.1.2.2.2.2.2.2.1.2.2.2
    rcases po_class hAS h with ⟨w1, σ1, tc1, fr1, tt1, M1, Q1, k1, k2, k3, k4⟩ | ⟨e, w1, σ1, q, k1, k2, k3, k4, k5⟩
    · exfalso
      have h1 := k3.1.1.2.2.2.2.2.2.1.2.2.2
      have := h1.1
      have := h1.2.1
      have := htk.1
      have := htk.2.1
      omega
    · exact Or.inr ⟨e, w1, σ1, q, ch_loop_inr k1, k2, k3, k4, k5⟩
  | succ N ih =>
    intro w σ tc fr tt c M Q hN h
    have htk := h.1.1.2.2.2.2.2.2.1.2.2.2
    rcases po_class hAS h with ⟨w1, σ1, tc1, fr1, tt1, M1, Q1, k1, k2, k3, k4⟩ | ⟨e, w1, σ1, q, k1, k2, k3, k4, k5⟩
    · by_cases hz : tc1 = 0
      · rw [if_pos hz] at k1 k2
        rw [hz] at k3
        exact Or.inl ⟨w1, σ1, fr1, tt1, c + 1, M1, Q1, ch_loop_inr k1, k2, k3, by omega⟩
      · rw [if_neg hz] at k1 k2
        rw [show ch_loop (cPB g r) w = ch_loop (cPB g r) w1 from ch_loop_inl (a' := w1) k1, k2]
        have h1 := k3.1.1.2.2.2.2.2.2.1.2.2.2
        rcases ih w1 σ1 tc1 fr1 tt1 (c + 1) M1 Q1 (by have := h1.1; have := h1.2.1; omega) k3 with ⟨w2, σ2, fr2, tt2, c2, M2, Q2, z1, z2, z3, z4⟩ | z
        · exact Or.inl ⟨w2, σ2, fr2, tt2, c2, M2, Q2, z1, z2, z3, by omega⟩
        · exact Or.inr z
    · exact Or.inr ⟨e, w1, σ1, q, ch_loop_inr k1, k2, k3, k4, k5⟩
end PG
