/-! LEVEL B2: classes: the loop of parameters, both sides -/
set_option maxRecDepth 100000
theorem lp_bind {α β : Type} {body : α → Option (α ⊕ β)} {a : α} : ch_loop body a = (body a).bind fun r => match r with
    | .inl a' => ch_loop body a'
    | .inr b => some b := by
  cases h : body a with
  | none => rw [ch_loop, h]; rfl
  | some r =>
    cases r with
    | inl a' => exact ch_loop_inl h
    | inr b => exact ch_loop_inr h
def pB (m : Nat) : Int32 × ch_S → Option ((Int32 × ch_S) ⊕ ch_S) := fun s => m_X3_member_165 (Int32.ofNat m) s.1 s.2
/-- the model behind a parameter -/
def pmid (m : Nat) (σ : ch_S) : Option ch_S := (m_X3_isSign 44 σ).bind fun v8 => if v8 = 0 then ch_loop (pB m) (v8, σ) else (m_X3_next σ).bind fun p10 => ch_loop (pB m) (v8, p10)
section PL
variable {g : State} {P r L S n C1 C2 K op : Nat} {f : Nat → Nat} {w0 w w' : ch_W} {σ0 σ σ' : ch_S} {fr0 M Q b tc fr tt i m q j : Nat} {u : Int}
theorem ml_step {x : Int32} (hw : σ.1 fX3_wrong = -1) (hx : x ≠ 0) : ch_loop (pB m) (x, σ) = (m_X3_type σ).bind fun p1 => (ch_mw p1.2 fX3_parameterType (σ.1 fX3_parameters) p1.1).bind fun σ3 => (m_X3_name σ3).bind fun p4 => (ch_mw p4.2 fX3_parameterId (σ3.1 fX3_parameters) p4.1).bind fun σ6 => (ch_mI σ6 fX3_parameters ((σ6.1 fX3_parameters) + 1)).bind fun σ7 => pmid m σ7 := by
  rw [lp_bind]
  show (m_X3_member_165 (Int32.ofNat m) x σ).bind _ = _
  unfold m_X3_member_165
  rw [if_neg hx, hw, if_pos bn_m1]
  cases m_X3_type σ with
  | none => rfl
  | some p1 =>
    rw [Option.bind_some, Option.bind_some]
    cases ch_mw p1.2 fX3_parameterType (σ.1 fX3_parameters) p1.1 with
    | none => rfl
    | some σ3 =>
      rw [Option.bind_some, Option.bind_some]
      cases m_X3_name σ3 with
      | none => rfl
      | some p4 =>
        rw [Option.bind_some, Option.bind_some]
        cases ch_mw p4.2 fX3_parameterId (σ3.1 fX3_parameters) p4.1 with
        | none => rfl
        | some σ6 =>
          rw [Option.bind_some, Option.bind_some]
          cases ch_mI σ6 fX3_parameters ((σ6.1 fX3_parameters) + 1) with
          | none => rfl
          | some σ7 =>
            rw [Option.bind_some, Option.bind_some]
            unfold pmid
            cases m_X3_isSign 44 σ7 with
            | none => rfl
            | some v8 =>
              rw [Option.bind_some, Option.bind_some]
              by_cases hv : v8 = 0
              · rw [if_pos hv, if_pos hv]; rfl
              · rw [if_neg hv, if_neg hv]
                cases m_X3_next σ7 with
                | none => rfl
                | some p => rfl
theorem ml_zero : ch_loop (pB m) (0, σ) = m_X3_member_230 (Int32.ofNat m) σ := by
  rw [lp_bind]
  show (m_X3_member_165 (Int32.ofNat m) 0 σ).bind _ = _
  unfold m_X3_member_165
  rw [if_pos rfl]
  cases m_X3_member_230 (Int32.ofNat m) σ with
  | none => rfl
  | some p => rfl
/-- stuck behind a parameter -/
theorem dm_mid (h : dC n q j σ) (hm : m < 799) (hj : j ≤ 10) : ∃ σ', pmid m σ = some σ' ∧ dC n q (j + 1) σ' ∧ fc σ σ' := by
  obtain ⟨σ', a1, a2, a3⟩ := dm_165 (x := 0) h hm hj
  refine ⟨σ', ?_, a2, a3⟩
  unfold pmid
  rw [dm_sign h.1 h.lt, Option.bind_some, if_pos rfl]
  exact a1
/-- stuck at a parameter's name -/
theorem dm_nm {v : Int32} {Q' : Nat} (h : dC n q j σ) (hQ : σ.1 fX3_parameters = Int32.ofNat Q') (hQ2 : Q' < 900) (hm : m < 799) (hj : j ≤ 8) : ∃ σ', ((ch_mw σ fX3_parameterId (Int32.ofNat Q') v).bind fun σ6 => (ch_mI σ6 fX3_parameters ((σ6.1 fX3_parameters) + 1)).bind fun σ7 => pmid m σ7) = some σ' ∧ dC n q (j + 2) σ' ∧ fc σ σ' := by
  obtain ⟨c1, c2⟩ := h.sa (a := fX3_parameterId) (i := Q') (v := v) (by decide)
  obtain ⟨σ3, g1, g2, g3⟩ := c1.par
  obtain ⟨σ', a1, a2, a3⟩ := dm_mid (m := m) g2 hm (by omega)
  refine ⟨σ', ?_, a2, c2.trans (g3.trans a3)⟩
  rw [m_mw (show Q' < 900 by omega) (by decide), g1, Option.bind_some, a1]
/-- ONE PARAMETER -/
theorem po_117 (hA0 : pjA L n C1 C2 w0 σ0 fr0) (hKo : ow r L P w0 K) (hK : K < ch_nx w0) (hP0 : P ≤ ch_nx w0) (hcl : ∃ c, σ0.1 fX3_classes = Int32.ofNat c ∧ c ≤ 330) (hM : M ≤ 430) (h : pIv g P r L S n f C1 C2 K op w0 σ0 fr0 M Q b w σ tc fr tt u i i) (hu : (i : Int) + 4 ≤ u) :
    (∃ w' σ' tc' fr' tt', c_X4_member_117 g r (some b) w = some (.inl w') ∧ (∀ x : Int32, x ≠ 0 → ch_loop (pB M) (x, σ) = pmid M σ') ∧ pIv g P r L S n f C1 C2 K op w0 σ0 fr0 M Q b w' σ' tc' fr' tt' (u + 4) (i + 1) (i + 1) ∧ fr + 2 ≤ fr') ∨
    (∃ e w' σ' q, c_X4_member_117 g r (some b) w = some (.inr (.error e, w')) ∧ (∀ x : Int32, x ≠ 0 → ch_loop (pB M) (x, σ) = some σ') ∧ pe P C1 C2 w0 w' e q ∧ dC n q 3 σ' ∧ fc σ0 σ') := by
  have hj := h.1
  have hr := hj.1.2.2.2.2.2.2.1.1.1
  have hwr := hj.2.1.2.2.1
  have hn12 := hj.2.1.2.2.2.2.1
  have htk := hj.1.2.2.2.2.2.2.1.2.2.2
  have hf1 := htk.1
  have hf2 := htk.2.1
  have hcB := h.cB hcl hM
  have hpar := h.2.2.2.2.2.2.2.1
  have hQi := h.2.2.2.2.2.2.2.2.1
  have hfc0 := h.2.2.2.1
  have hcf0 := h.2.1
  obtain ⟨ty, nm, Rt, At, ct, Ft, Rn, An, kn, Fn, Rc, Ac, hb, -⟩ := h.2.2.2.2.2.2.2.2.2.2.2.2
  have hbow := (hb.2.2.2.2.2.2.2.2.2.2.2.2.2.1 b (by simp)).1
  unfold c_X4_member_117
  rw [d_gR hb.1, d_rc hr]
  rcases po_type hj with ⟨x, w1, y, σ1, e1, e2, htc, hty, ⟨tc1, fr1, tt1, j1, p1, l1⟩, hfr1⟩ | ⟨e, w1, y, σ1, q, e1, e2, e3, e4⟩
  · rw [tb_ok e1]
    have h1 := h.step hKo j1 p1.s0 (by omega) (by omega)
    have eT : ch_gr w1 b fX7_types = ch_gr w b fX7_types := (b_cell (p1.1.2.1 b hbow).1).2.2.2.1 _
    obtain ⟨Rt1, w2, t1, t2, t3, t4, h2⟩ := h1.addT hA0 hK hP0 (by omega) hty
    rw [← eT, t1, d_rc t3, t4, Option.bind_some]
    have hb2 := h2.1
    obtain ⟨ty2, nm2, Rt2, At2, ct2, Ft2, Rn2, An2, kn2, Fn2, Rc2, Ac2, hc2, -⟩ := h2.2.2.2.2.2.2.2.2.2.2.2.2
    have hbow2 := (hc2.2.2.2.2.2.2.2.2.2.2.2.2.2.1 b (by simp)).1
    have hr2 := hb2.1.2.2.2.2.2.2.1.1.1
    rw [d_gR hc2.1, d_rc hr2]
    have eM1 : ∀ z : Int32, z ≠ 0 → ch_loop (pB M) (z, σ) = (m_X3_name (md_sa σ1 fX3_parameterType (Q + i) y)).bind fun p4 => (ch_mw p4.2 fX3_parameterId (Int32.ofNat (Q + i)) p4.1).bind fun σ6 => (ch_mI σ6 fX3_parameters ((σ6.1 fX3_parameters) + 1)).bind fun σ7 => pmid M σ7 := fun z hz => by
      rw [ml_step hwr hz, e2, Option.bind_some, hpar, m_mw (show Q + i < 900 by omega) (by decide)]
      have e5 : (md_sa σ1 fX3_parameterType (Q + i) y).1 fX3_parameters = Int32.ofNat (Q + i) := h2.2.2.2.2.2.2.2.1
      rw [e5]
    rcases po_name hb2 with ⟨x2, w3, y2, σ3, k1, k2, htc2, ⟨ii, jj, k3, k4, k5, k6, k7, k8⟩, ⟨tc3, fr3, tt3, j3, p3, l3⟩, hfr3⟩ | ⟨e, w3, y2, σ3, q, k1, k2, k3, k4⟩
    · left
      rw [tb_ok k1]
      have h3 := h2.step hKo j3 p3.s0 (by omega) (by omega)
      have eN : ch_gr w3 b fX7_names = ch_gr w2 b fX7_names := (b_cell (p3.1.2.1 b hbow2).1).2.2.2.1 _
      obtain ⟨Rn3, w4, s1, s2, s3, s4, h4⟩ := h3.addN hA0 hK hP0 (by omega) (v := x2) (y := y2) ⟨ii, jj, _, k3, k4, k5, k6, k7, k8⟩ (by omega)
      rw [← eN, s1, d_rc s3, s4, Option.bind_some]
      refine ⟨w4, _, tc3, fr3, tt3, rfl, fun z hz => ?_, h4.weak (by omega), by omega⟩
      have e6 : (md_sa σ3 fX3_parameterId (Q + i) y2).1 fX3_parameters + 1 = Int32.ofNat (Q + (i + 1)) := by
        rw [md_gi, h3.2.2.2.2.2.2.2.1]
        exact bn_add (b := 1)
      rw [eM1 z hz, k2, Option.bind_some, m_mw (show Q + i < 900 by omega) (by decide), m_mI, e6]
    · right
      rw [tb_er k1]
      have hcB2 := h2.cB hcl hM
      obtain ⟨d1, d2⟩ := dC_pds k4.s hn12 hcB2
      have e7 : σ3.1 fX3_parameters = Int32.ofNat (Q + i) := (k4.s.1.1 _ (by decide)).trans h2.2.2.2.2.2.2.2.1
      obtain ⟨σ', f1, f2, f3⟩ := dm_nm (v := y2) (m := M) d1 e7 (by omega) (by omega) (by omega)
      refine ⟨e, w3, σ', q, rfl, fun z hz => ?_, k3.cf h2.2.1, f2.mono (by omega), h2.2.2.2.1.trans (d2.trans f3)⟩
      rw [eM1 z hz, k2, Option.bind_some, f1]
  · right
    rw [tb_er e1]
    obtain ⟨d1, d2⟩ := dC_pds e4.s hn12 hcB
    obtain ⟨c1, c2⟩ := d1.sa (a := fX3_parameterType) (i := Q + i) (v := y) (by decide)
    obtain ⟨σ2, k1, k2⟩ := dm_name c1.1 c1.lt
    obtain ⟨g1, g2⟩ := c1.rd k2
    have e7 : σ2.1 fX3_parameters = Int32.ofNat (Q + i) := by
      rw [k2.1.1 _ (by decide), md_gi, e4.s.1.1 _ (by decide)]
      exact hpar
    obtain ⟨σ', f1, f2, f3⟩ := dm_nm (v := -1) (m := M) g1 e7 (by omega) (by omega) (by omega)
    refine ⟨e, w1, σ', q, rfl, fun z hz => ?_, e3.cf hcf0, f2.mono (by omega), hfc0.trans (d2.trans (c2.trans (g2.trans f3)))⟩
    have e8 : (md_sa σ1 fX3_parameterType (Q + i) y).1 fX3_parameters = Int32.ofNat (Q + i) := by
      rw [md_gi, e4.s.1.1 _ (by decide)]
      exact hpar
    rw [ml_step hwr hz, e2, Option.bind_some, hpar, m_mw (show Q + i < 900 by omega) (by decide), e8, k1, Option.bind_some, f1]
/-- what a member leaves -/
def mQ (g : State) (P r L S n : Nat) (f : Nat → Nat) (C1 C2 K op : Nat) (w0 : ch_W) (σ0 : ch_S) (fr0 M Q b : Nat) (w' : ch_W) (σ' : ch_S) : Prop := ∃ tc' fr' tt' Q', pj g P r L S n f C1 C2 w' σ' tc' fr' tt' op op fr' ∧ cf g r L K P (ch_nx w0) w0 w' ∧ mfk (nn σ0 fX3_statements) M Q σ0 σ' ∧ fc σ0 σ' ∧ (∀ a ∈ ccA, σ'.2 a = σ0.2 a) ∧ σ'.1 fX3_classes = σ0.1 fX3_classes ∧ σ'.1 fX3_members = Int32.ofNat (M + 1) ∧ σ'.1 fX3_parameters = Int32.ofNat Q' ∧ Q ≤ Q' ∧ 2 * Q' ≤ fr' ∧ fr0 + 3 ≤ fr' ∧ σ'.2 fX3_parameterFrom (M + 1) = Int32.ofNat Q' ∧ nn σ0 fX3_statements ≤ nn σ' fX3_statements ∧ σ'.1 fX3_held = σ0.1 fX3_held ∧ bds L 2 0 0 w0 σ0 fr0 w' σ' fr' ∧ ch_nx w0 ≤ b ∧ mem g r L K P w' σ' (ch_nx w') (nn σ' fX3_statements) (M + 1) Q' b M
/-- both go on with a member, or both are stuck -/
def pom (g : State) (P r L S n : Nat) (f : Nat → Nat) (C1 C2 K op : Nat) (w0 : ch_W) (σ0 : ch_S) (fr0 M Q : Nat) (x : Option (Except Nat (Option Nat) × ch_W)) (y : Option ch_S) : Prop := (∃ b w' σ', x = some (.ok (some b), w') ∧ y = some σ' ∧ mQ g P r L S n f C1 C2 K op w0 σ0 fr0 M Q b w' σ') ∨ (∃ e w' σ' q, x = some (.error e, w') ∧ y = some σ' ∧ pe P C1 C2 w0 w' e q ∧ dC n q 4 σ' ∧ fc σ0 σ')
end PL
