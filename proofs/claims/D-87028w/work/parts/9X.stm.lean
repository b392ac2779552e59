/-! LEVEL B2: a statement of both sides, any -/
set_option maxRecDepth 100000
section SM
variable {g : State} {P r L S n C1 C2 : Nat} {f : Nat → Nat} {w : ch_W} {σ σ' : ch_S} {tc fr tt op : Nat}
theorem bind_pair {y : Option (Int32 × ch_S)} : (y.bind fun p => some ((p.1, p.2))) = y := by cases y <;> rfl
theorem m107_o {rc : Nat → ch_S → Option (Int32 × ch_S)} {k : Nat} (hk : k ≤ 21) (h : k ≠ 6 ∧ k ≠ 8 ∧ k ≠ 9 ∧ k ≠ 10 ∧ k ≠ 11 ∧ k ≠ 13) : m_X3_statement_107 rc (Int32.ofNat k) σ = m_X3_placed σ := by
  have e : ∀ j : Nat, j < 100 → k ≠ j → ¬ Int32.ofNat k = Int32.ofNat j := fun j hj hkj q => hkj ((bn_eq (by omega) (by omega)).mp q)
  unfold m_X3_statement_107
  rw [bind_pair, if_neg (show ¬ Int32.ofNat k = 6 from e 6 (by decide) h.1), if_neg (show ¬ Int32.ofNat k = 8 from e 8 (by decide) h.2.1), if_neg (show ¬ Int32.ofNat k = 9 from e 9 (by decide) h.2.2.1), if_neg (show ¬ Int32.ofNat k = 10 from e 10 (by decide) h.2.2.2.1), if_neg (show ¬ Int32.ofNat k = 11 from e 11 (by decide) h.2.2.2.2.1), if_neg (show ¬ Int32.ofNat k = 13 from e 13 (by decide) h.2.2.2.2.2)]
  split
  · rfl
  · split <;> rfl
theorem m107_r {rc : Nat → ch_S → Option (Int32 × ch_S)} {k : Nat} {kM : Int32} (hk : (k = 9 ∧ kM = 3) ∨ (k = 10 ∧ kM = 4) ∨ (k = 13 ∧ kM = 6)) : m_X3_statement_107 rc (Int32.ofNat k) σ = m_X3_statement_380 rc (Int32.ofNat k) kM σ := by
  rcases hk with ⟨rfl, rfl⟩ | ⟨rfl, rfl⟩ | ⟨rfl, rfl⟩ <;> rfl
theorem m91 {rc : Nat → ch_S → Option (Int32 × ch_S)} (h : pj g P r L S n f C1 C2 w σ tc fr tt op op fr) : m_X3_statement_91 rc σ = m_X3_statement_107 rc (Int32.ofNat (if 2000 ≤ tc then tc - 2000 else 0)) σ := by
  have htk := h.1.2.2.2.2.2.2.1.2.2.2
  have hw := (ms_word h.2.1 htk).2.2.1
  unfold m_X3_statement_91
  by_cases z : 2000 ≤ tc
  · rw [if_pos (hw.mpr z), if_pos z, (h.2.1.2.1.2.2.2.2.2.2.2 z).2]
  · rw [if_neg (fun q => z (hw.mp q)), if_neg z]
    rfl
theorem po_53 {d e : Nat} (HB : BP g P r L S n f C1 C2 op d (e + 1)) (h : pj g P r L S n f C1 C2 w σ tc fr tt op op fr) (hR : rm1 L n C1 C2 w σ fr) (hn31 : n < 2 ^ 31) : pos P n C1 C2 0 0 w σ fr (c_X4_statement_53 (cr_PS g (d + 1)) g r (Int32.ofNat fr) w) (m_X3_statement_91 (cr_MB (e + 1)) σ) (sQ g P r L S n f C1 C2 op w σ fr) := by
  have hat := h.1.2.2.2.2.2.2.1
  have hr := hat.1.1
  have hbb := h.1.1
  have hrng := hat.2.2.2.rng
  have e71 : c_X4_statement_71 (cr_PS g (d + 1)) g r (Int32.ofNat fr) w = c_X4_conditional (cr_PS g d) g r (Int32.ofNat fr) w := by
    unfold c_X4_statement_71
    rw [d_rc hr, tb_idA]
    rfl
  have e3 : cr_PS g (d + 1) 3 r (Int32.ofNat fr) w = c_X4_tried (cr_PS g d) g r (Int32.ofNat fr) w := rfl
  rw [m91 h]
  unfold c_X4_statement_53
  rw [d_rc hr, it_213 hat hbb, Option.bind_some]
  by_cases z1 : tc = 2006
  · rw [if_pos z1, if_neg (show ¬ (1 : Int32) = 0 by decide), e71, if_pos (show 2000 ≤ tc by omega), show tc - 2000 = 6 by omega]
    exact po_if HB h hR hn31 z1
  rw [if_neg z1, if_pos rfl, d_rc hr, it_215 hat hbb, Option.bind_some]
  by_cases z2 : tc = 2008
  · rw [if_pos z2, if_neg (show ¬ (1 : Int32) = 0 by decide), e71, if_pos (show 2000 ≤ tc by omega), show tc - 2000 = 8 by omega]
    exact po_while HB h hR hn31 z2
  rw [if_neg z2, if_pos rfl, d_rc hr, it_220 hat hbb, Option.bind_some]
  by_cases z3 : tc = 2011
  · rw [if_pos z3, if_neg (show ¬ (1 : Int32) = 0 by decide), d_rc hr, tb_idA, e3, if_pos (show 2000 ≤ tc by omega), show tc - 2000 = 11 by omega]
    exact po_try HB h hR hn31 z3
  rw [if_neg z3, if_pos rfl, d_rc hr, it_225 hat hbb, Option.bind_some]
  by_cases z4 : tc = 2009
  · rw [if_pos z4, if_neg (show ¬ (1 : Int32) = 0 by decide), if_pos (show 2000 ≤ tc by omega), show tc - 2000 = 9 by omega, m107_r (Or.inl ⟨rfl, rfl⟩)]
    exact po_ret h hR hn31 z4 (Or.inl ⟨rfl, rfl, rfl⟩)
  rw [if_neg z4, if_pos rfl, d_rc hr, it_227 hat hbb, Option.bind_some]
  by_cases z5 : tc = 2010
  · rw [if_pos z5, if_neg (show ¬ (1 : Int32) = 0 by decide), if_pos (show 2000 ≤ tc by omega), show tc - 2000 = 10 by omega, m107_r (Or.inr (Or.inl ⟨rfl, rfl⟩))]
    exact po_ret h hR hn31 z5 (Or.inr (Or.inl ⟨rfl, rfl, rfl⟩))
  rw [if_neg z5, if_pos rfl, d_rc hr, it_229 hat hbb, Option.bind_some]
  by_cases z6 : tc = 2013
  · rw [if_pos z6, if_neg (show ¬ (1 : Int32) = 0 by decide), if_pos (show 2000 ≤ tc by omega), show tc - 2000 = 13 by omega, m107_r (Or.inr (Or.inr ⟨rfl, rfl⟩))]
    exact po_ret h hR hn31 z6 (Or.inr (Or.inr ⟨rfl, rfl, rfl⟩))
  rw [if_neg z6, if_pos rfl, d_rc hr, m107_o (by split <;> omega) (by split <;> omega)]
  exact po_placed h hR hn31
/-- looking ahead changes nothing that is told -/
theorem pos_ahead {x : Option (Except Nat (Option Nat) × ch_W)} {y : Option (Int32 × ch_S)} (h : pj g P r L S n f C1 C2 w σ tc fr tt op op fr) (h1 : md_fr [] md_na σ σ') (h2 : mf σ σ') (H : pos P n C1 C2 0 0 w σ' fr x y (sQ g P r L S n f C1 C2 op w σ' fr)) : pos P n C1 C2 0 0 w σ fr x y (sQ g P r L S n f C1 C2 op w σ fr) := by
  have hnn : ∀ k : Nat, nn σ' k = nn σ k := fun k => nn_fr h1 (by simp)
  have hb : bds L 0 0 0 w σ fr w σ' fr := by
    unfold bds
    rw [hnn, hnn, hnn]
    omega
  have hp : prs g P r L 0 0 0 w σ fr w σ' fr := ⟨pf.refl, h2.s, hb⟩
  rcases H with ⟨a, w', b, σ2, e1, e2, a', s, q1, q2, q3, q4, q5, q6, tc', fr', tt', q7, q8, q9⟩ | ⟨e, w', b, σ2, q, e1, e2, e3, e4⟩
  · refine Or.inl ⟨a, w', b, σ2, e1, e2, a', s, q1, q2, by rw [q3, hnn], q4, q5, q6, tc', fr', tt', q7, ?_, q9⟩
    exact (hp.trans q8).weak (by omega) (by omega) (by omega)
  · refine Or.inr ⟨e, w', b, σ2, q, e1, e2, e3, ?_⟩
    exact (e4.base h2.s hb).weak (by omega) (by omega)
/-- A STATEMENT -/
theorem po_stm {d e : Nat} (HB : BP g P r L S n f C1 C2 op d (e + 1)) (hn31 : n < 2 ^ 31) : SP g P r L S n f C1 C2 op (d + 2) (e + 2) := by
  intro w σ tc fr tt h hR
  have hat := h.1.2.2.2.2.2.2.1
  have hr := hat.1.1
  have hbb := h.1.1
  have e47 : ∀ rc, c_X4_statement_47 rc g r (Int32.ofNat fr) w = c_X4_told g r (Int32.ofNat fr) w := fun rc => by
    unfold c_X4_statement_47
    rw [d_rc hr, tb_idA]
  have hw := (ms_word h.2.1 hat.2.2.2).1
  show pos P n C1 C2 0 0 w σ fr (c_X4_statement (cr_PS g (d + 1)) g r w) (m_X3_statement (cr_MB (e + 1)) σ) _
  unfold c_X4_statement m_X3_statement
  rw [d_gI hr, hat.2.1.1, d_rc hr, it_149 hat hbb, Option.bind_some, ms_isType h.2.1 hat.2.2.2, Option.bind_some]
  by_cases z1 : tc = 2002
  · rw [if_pos z1, if_neg (show ¬ (1 : Int32) = 0 by decide), if_pos (Or.inl z1), if_neg (show ¬ (1 : Int32) = 0 by decide), e47]
    exact po_told h hR hn31
  rw [if_neg z1, if_pos rfl, d_rc hr, it_151 hat hbb, Option.bind_some]
  by_cases z2 : tc = 2003
  · rw [if_pos z2, if_neg (show ¬ (1 : Int32) = 0 by decide), if_pos (Or.inr (Or.inl z2)), if_neg (show ¬ (1 : Int32) = 0 by decide), e47]
    exact po_told h hR hn31
  rw [if_neg z2, if_pos rfl, d_rc hr, it_153 hat hbb, Option.bind_some]
  by_cases z3 : tc = 2004
  · rw [if_pos z3, if_neg (show ¬ (1 : Int32) = 0 by decide), if_pos (Or.inr (Or.inr z3)), if_neg (show ¬ (1 : Int32) = 0 by decide), e47]
    exact po_told h hR hn31
  rw [if_neg z3, if_pos rfl, d_gI hr, hat.2.2.1, if_neg (show ¬ (tc = 2002 ∨ tc = 2003 ∨ tc = 2004) by omega), if_pos rfl]
  by_cases z4 : tc = 1
  · obtain ⟨v, σ', a1, a2, a3, a4, a5, a6⟩ := pj_ahead h
    have hnn : ∀ k : Nat, nn σ' k = nn σ k := fun k => nn_fr a4 (by simp)
    have h' : pj g P r L S n f C1 C2 w σ' tc fr tt op op fr := by
      refine ⟨h.1, a6, ?_⟩
      have := h.2.2
      unfold pjA at *
      rw [hnn, hnn, hnn, hnn]
      exact this
    have hR' : rm1 L n C1 C2 w σ' fr := by
      unfold rm1 at *
      rw [hnn]
      exact hR
    rw [if_pos (show lx_kd tc = 1 by rw [z4]; rfl), d_rc hr, a2, if_pos (hw.mpr z4), h.2.1.2.2.1, if_pos bn_m1, a3, Option.bind_some]
    refine pos_ahead h a4 a5 ?_
    show pos P n C1 C2 0 0 w σ' fr (if v = 0 then _ else _) (if v = 0 then _ else _) _
    rcases a1 with a1 | a1
    · rw [if_pos a1, if_pos a1]
      exact po_53 HB h' hR' hn31
    · rw [if_neg (by rw [a1]; decide), if_neg (by rw [a1]; decide), e47]
      exact po_told h' hR' hn31
  · have hk : ¬ lx_kd tc = 1 := by
      unfold lx_kd
      rw [if_neg z4]
      split
      · decide
      · split <;> decide
    rw [if_neg hk, if_neg (fun q => z4 (hw.mp q))]
    exact po_53 HB h hR hn31
end SM
/-- blocks and statements of any depth -/
theorem po_BS {g : State} {P r L S n C1 C2 : Nat} {f : Nat → Nat} (hn31 : n < 2 ^ 31) : ∀ (k op : Nat), op + k = 30 → (∀ d e : Nat, BP g P r L S n f C1 C2 op (d + 1 + 3 * k) (e + 2 + 2 * k)) ∧ ∀ d e : Nat, SP g P r L S n f C1 C2 op (d + 3 + 3 * k) (e + 3 + 2 * k) := by
  intro k
  induction k with
  | zero =>
    intro op ho
    have hB : ∀ d e : Nat, BP g P r L S n f C1 C2 op (d + 1) (e + 2) := fun d e => po_block (op := op) (d := d) (e := e) (fun q => absurd q (by omega)) hn31
    exact ⟨hB, fun d e => po_stm (d := d + 1) (e := e + 1) (hB d e) hn31⟩
  | succ k ih =>
    intro op ho
    have hB : ∀ d e : Nat, BP g P r L S n f C1 C2 op (d + 1 + 3 * (k + 1)) (e + 2 + 2 * (k + 1)) := fun d e => by
      rw [show d + 1 + 3 * (k + 1) = d + 3 + 3 * k + 1 by omega, show e + 2 + 2 * (k + 1) = e + 2 + 2 * k + 2 by omega]
      refine po_block (op := op) (d := d + 3 + 3 * k) (e := e + 2 + 2 * k) (fun q => ?_) hn31
      rw [show e + 2 + 2 * k + 1 = e + 3 + 2 * k by omega]
      exact (ih (op + 1) (by omega)).2 d e
    refine ⟨hB, fun d e => ?_⟩
    rw [show d + 3 + 3 * (k + 1) = d + 1 + 3 * (k + 1) + 2 by omega, show e + 3 + 2 * (k + 1) = e + 1 + 2 * (k + 1) + 2 by omega]
    refine po_stm (d := d + 1 + 3 * (k + 1)) (e := e + 1 + 2 * (k + 1)) ?_ hn31
    rw [show e + 1 + 2 * (k + 1) + 1 = e + 2 + 2 * (k + 1) by omega]
    exact hB d e
theorem po_blk {g : State} {P r L S n C1 C2 op : Nat} {f : Nat → Nat} (hn31 : n < 2 ^ 31) (ho : op ≤ 30) : BP g P r L S n f C1 C2 op 130 70 := by
  have := (po_BS (g := g) (P := P) (r := r) (L := L) (S := S) (n := n) (f := f) (C1 := C1) (C2 := C2) hn31 (30 - op) op (by omega)).1 (130 - (1 + 3 * (30 - op))) (70 - (2 + 2 * (30 - op)))
  rw [show 130 - (1 + 3 * (30 - op)) + 1 + 3 * (30 - op) = 130 by omega, show 70 - (2 + 2 * (30 - op)) + 2 + 2 * (30 - op) = 70 by omega] at this
  exact this
