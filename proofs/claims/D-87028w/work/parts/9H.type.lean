/-! LEVEL B2: types that are told; is a name ahead? -/
set_option maxRecDepth 100000
/-- a type told on both sides -/
def tyR (g : State) (w : ch_W) (L : Nat) (σ : ch_S) (x y : Int32) : Prop := (x = -1 ∧ y = 0) ∨ (x = -2 ∧ y = 1) ∨ (x = -3 ∧ y = 2) ∨ ∃ y', y = 10 + y' ∧ iota g w L σ x y'
theorem tyR.keep {g : State} {r L P : Nat} {w w' : ch_W} {σ σ' : ch_S} {x y : Int32} (h : tyR g w L σ x y) (hc : ∀ (i : Nat) (t : List Nat), cn g w L i t → cn g w' L i t) (hm : mg σ σ') : tyR g w' L σ' x y := by
  rcases h with h | h | h | ⟨y', h1, h2⟩
  · exact Or.inl h
  · exact Or.inr (Or.inl h)
  · exact Or.inr (Or.inr (Or.inl h))
  · exact Or.inr (Or.inr (Or.inr ⟨y', h1, h2.keep0 hc hm⟩))
section TY
variable {g : State} {P r L S n C1 C2 : Nat} {f : Nat → Nat} {w w' : ch_W} {σ : ch_S} {tc fr tt op om : Nat}
theorem lc_isType (h : pj g P r L S n f C1 C2 w σ tc fr tt op om fr) : c_X4_isType g r w = some (if tc = 2002 ∨ tc = 2003 ∨ tc = 2004 ∨ tc = 1 then 1 else 0) := by
  have hat := h.1.2.2.2.2.2.2.1
  have hr := hat.1.1
  have hkd := hat.2.2.1
  unfold c_X4_isType
  rw [d_rc hr, it_149 hat h.1.1, Option.bind_some]
  by_cases z1 : tc = 2002
  · rw [if_pos z1, if_neg (show ¬ (1 : Int32) = 0 by decide), if_pos (Or.inl z1)]
  rw [if_neg z1, if_pos rfl, d_rc hr, it_151 hat h.1.1, Option.bind_some]
  by_cases z2 : tc = 2003
  · rw [if_pos z2, if_neg (show ¬ (1 : Int32) = 0 by decide), if_pos (Or.inr (Or.inl z2))]
  rw [if_neg z2, if_pos rfl, d_rc hr, it_153 hat h.1.1, Option.bind_some]
  by_cases z3 : tc = 2004
  · rw [if_pos z3, if_neg (show ¬ (1 : Int32) = 0 by decide), if_pos (Or.inr (Or.inr (Or.inl z3)))]
  rw [if_neg z3, if_pos rfl, d_gI hr, hkd]
  by_cases z4 : tc = 1
  · rw [if_pos (show lx_kd tc = 1 by rw [z4]; rfl), if_pos (Or.inr (Or.inr (Or.inr z4)))]
  · have hk : ¬ lx_kd tc = 1 := by
      unfold lx_kd
      rw [if_neg z4]
      split
      · decide
      · split <;> decide
    rw [if_neg hk, if_neg (by omega)]
theorem ms_isType (h : pjM n f σ tc fr tt om) (ht : lx_tk f n tc fr tt) : m_X3_isType σ = some (if tc = 2002 ∨ tc = 2003 ∨ tc = 2004 then 1 else 0) := by
  have s1 : m_X3_isKey 2 σ = _ := ms_key (c := 2) h ht (by decide) (by decide)
  have s2 : m_X3_isKey 3 σ = _ := ms_key (c := 3) h ht (by decide) (by decide)
  have s3 : m_X3_isKey 4 σ = _ := ms_key (c := 4) h ht (by decide) (by decide)
  unfold m_X3_isType
  rw [s1, Option.bind_some]
  by_cases z1 : tc = 2002
  · rw [if_pos z1, if_neg (show ¬ (1 : Int32) = 0 by decide), if_pos (Or.inl z1)]
  rw [if_neg z1, if_pos rfl, s2, Option.bind_some]
  by_cases z2 : tc = 2003
  · rw [if_pos z2, if_neg (show ¬ (1 : Int32) = 0 by decide), if_pos (Or.inr (Or.inl z2))]
  rw [if_neg z2, if_pos rfl, s3, Option.bind_some]
  by_cases z3 : tc = 2004
  · rw [if_pos z3, if_neg (show ¬ (1 : Int32) = 0 by decide), if_pos (Or.inr (Or.inr z3))]
  · rw [if_neg z3, if_pos rfl, if_neg (by omega)]
theorem dm_isType {q : Nat} (h : dk σ q) (hq : q < 2 ^ 31) : m_X3_isType σ = some 0 := by
  unfold m_X3_isType
  rw [dm_key h hq, Option.bind_some, if_pos rfl, dm_key h hq, Option.bind_some, if_pos rfl, dm_key h hq, Option.bind_some, if_pos rfl]
theorem dm_type {q : Nat} (h : dk σ q) (hq : q < 2 ^ 31) : ∃ v σ', m_X3_type σ = some (v, σ') ∧ dr q σ σ' := by
  have key : ∀ y v : Int32, (σ.1 fX3_wrong = -1 → v = 0) → ∃ σ', m_X3_type_65 y v σ = some (y, σ') ∧ dr q σ σ' := by
    intro y v hv
    obtain ⟨σ', e1, e2⟩ := dm_passes (v := v) h hq hv
    refine ⟨σ', ?_, e2⟩
    unfold m_X3_type_65
    rw [e1]
    rfl
  unfold m_X3_type
  rw [dm_key h hq, Option.bind_some, if_pos rfl, dm_key h hq, Option.bind_some, if_pos rfl, dm_key h hq, Option.bind_some, if_pos rfl]
  unfold m_X3_type_43
  rw [dm_isType h hq, Option.bind_some, if_pos rfl]
  by_cases hw : σ.1 fX3_word = 2
  · rw [if_pos hw]
    unfold m_X3_type_60
    obtain ⟨σ', k1, k2⟩ := key (10 + σ.1 fX3_wordValue) 1 (fun z => by
      rcases h with h | ⟨h1, h2, h3⟩
      · exact absurd (h.symm.trans z) (bn_m1n hq)
      · rw [h2] at hw; exact absurd hw (by decide))
    exact ⟨_, σ', k1, k2⟩
  · rw [if_neg hw]
    obtain ⟨σ', k1, k2⟩ := key (10 + σ.1 fX3_wordValue) 0 (fun _ => rfl)
    exact ⟨_, σ', k1, k2⟩
/-- TYPE -/
theorem po_type (h : pj g P r L S n f C1 C2 w σ tc fr tt op om fr) : po P n C1 C2 0 w σ fr (c_X4_type g r w) (m_X3_type σ) (fun x w' y σ' => (tc = 2002 ∨ tc = 2003 ∨ tc = 2004 ∨ tc = 1) ∧ tyR g w' L σ' x y ∧ pq g P r L S n f C1 C2 3 1 op om w σ fr w' σ') := by
  have hat := h.1.2.2.2.2.2.2.1
  have hr := hat.1.1
  have htk := hat.2.2.2
  have hwr := h.2.1.2.2.1
  have hw := ms_word h.2.1 htk
  have s1 : m_X3_isKey 2 σ = _ := ms_key (c := 2) h.2.1 htk (by decide) (by decide)
  have s2 : m_X3_isKey 3 σ = _ := ms_key (c := 3) h.2.1 htk (by decide) (by decide)
  have s3 : m_X3_isKey 4 σ = _ := ms_key (c := 4) h.2.1 htk (by decide) (by decide)
  have key : ∀ (x y : Int32), (tc = 2002 ∨ tc = 2003 ∨ tc = 2004) → ((x = -1 ∧ y = 0) ∨ (x = -2 ∧ y = 1) ∨ (x = -3 ∧ y = 2)) → po P n C1 C2 0 w σ fr (c_X4_type_53 g r x w) (m_X3_type_60 y σ) (fun x w' y σ' => (tc = 2002 ∨ tc = 2003 ∨ tc = 2004 ∨ tc = 1) ∧ tyR g w' L σ' x y ∧ pq g P r L S n f C1 C2 3 1 op om w σ fr w' σ') := by
    intro x y hk hxy
    unfold c_X4_type_53 m_X3_type_60 m_X3_type_65
    rw [d_rc hr, ms_passes hwr, if_neg (show ¬ (1 : Int32) = 0 by decide)]
    have e : (((m_X3_next σ).bind fun p => some ((1 : Int32), p)).bind fun p1 => some (y, p1.2)) = (m_X3_next σ).bind fun p => some (y, p) := by
      cases m_X3_next σ <;> rfl
    rw [e]
    refine po.last (po_next h (by omega) (Nat.le_refl _) htk.1) (pr.refl (g := g) (r := r) (L := L)) (by decide) (fun _ w2 b σ2 q => ?_)
    obtain ⟨rfl, ⟨tc2, fr2, tt2, q1, q2, q3⟩, q4⟩ := q
    refine ⟨x, w2, rfl, by omega, ?_, ⟨tc2, fr2, tt2, q1, q2.weak (by decide) (by decide), q3⟩, q4⟩
    rcases hxy with q | q | q
    · exact Or.inl q
    · exact Or.inr (Or.inl q)
    · exact Or.inr (Or.inr (Or.inl q))
  unfold c_X4_type m_X3_type
  rw [d_rc hr, lc_isType h, Option.bind_some, d_rc hr, s1, Option.bind_some]
  by_cases z0 : tc = 2002 ∨ tc = 2003 ∨ tc = 2004 ∨ tc = 1
  · rw [if_pos z0, lc_must1, tb_ok rfl, d_rc hr, it_149 hat h.1.1, Option.bind_some]
    have sT : ∀ y : Int32, (tc = 2002 ∨ tc = 2003 ∨ tc = 2004) → m_X3_type_43 y σ = m_X3_type_60 y σ := by
      intro y hk
      unfold m_X3_type_43
      rw [ms_isType h.2.1 htk, Option.bind_some, if_pos hk, if_neg (show ¬ (1 : Int32) = 0 by decide)]
    by_cases z1 : tc = 2002
    · rw [if_pos z1, if_neg (show ¬ (1 : Int32) = 0 by decide), if_neg (show ¬ (1 : Int32) = 0 by decide), sT 0 (Or.inl z1)]
      exact key (-1) 0 (Or.inl z1) (Or.inl ⟨rfl, rfl⟩)
    rw [if_neg z1, if_pos rfl, if_pos rfl, d_rc hr, it_151 hat h.1.1, Option.bind_some, s2, Option.bind_some]
    by_cases z2 : tc = 2003
    · rw [if_pos z2, if_neg (show ¬ (1 : Int32) = 0 by decide), if_neg (show ¬ (1 : Int32) = 0 by decide), sT 1 (Or.inr (Or.inl z2))]
      exact key (-2) 1 (Or.inr (Or.inl z2)) (Or.inr (Or.inl ⟨rfl, rfl⟩))
    rw [if_neg z2, if_pos rfl, if_pos rfl, d_rc hr, it_153 hat h.1.1, Option.bind_some, s3, Option.bind_some]
    by_cases z3 : tc = 2004
    · rw [if_pos z3, if_neg (show ¬ (1 : Int32) = 0 by decide), if_neg (show ¬ (1 : Int32) = 0 by decide), sT 2 (Or.inr (Or.inr z3))]
      exact key (-3) 2 (Or.inr (Or.inr z3)) (Or.inr (Or.inr ⟨rfl, rfl⟩))
    rw [if_neg z3, if_pos rfl, if_pos rfl, d_rc hr]
    have z4 : tc = 1 := by omega
    have eC : (ch_tb (c_X4_name g r w) (fun a w => (Except.error a, w)) fun v17 w18 => c_X4_type_53 g r v17 w18) = c_X4_nextName g r w := by
      unfold c_X4_nextName c_X4_type_53
      rw [d_rc hr]
    have eM : m_X3_type_43 (10 + σ.1 fX3_wordValue) σ = (m_X3_name σ).bind fun p => some (10 + p.1, p.2) := by
      unfold m_X3_type_43 m_X3_name
      rw [ms_isType h.2.1 htk, Option.bind_some, if_neg (show ¬ (tc = 2002 ∨ tc = 2003 ∨ tc = 2004) by omega), if_pos rfl, if_pos (hw.1.mpr z4), if_pos (hw.1.mpr z4)]
      unfold m_X3_type_60 m_X3_type_65 m_X3_name_19
      rw [ms_passes hwr, if_neg (show ¬ (1 : Int32) = 0 by decide)]
      cases m_X3_next σ <;> rfl
    rw [eC, eM]
    rcases po_name1 h z4 with ⟨a, w', b, σ', k1, k2, k3⟩ | ⟨e, w', b, σ', q, k1, k2, k3, k4⟩
    · obtain ⟨-, ⟨i, j, rfl, y2, rfl, y3, y4, y5⟩, y6⟩ := k3
      refine Or.inl ⟨_, w', 10 + Int32.ofNat j, σ', k1, by rw [k2]; rfl, z0, Or.inr (Or.inr (Or.inr ⟨Int32.ofNat j, rfl, i, j, _, rfl, y2, rfl, y3, y4, y5⟩)), y6⟩
    · exact Or.inr ⟨e, w', 10 + b, σ', q, k1, by rw [k2]; rfl, k3, k4.weak (by decide)⟩
  · rw [if_neg z0]
    obtain ⟨w9, a1, a2⟩ := pj_must h htk.1
    rw [tb_er a1, if_neg (show ¬ tc = 2002 by omega), if_pos rfl, s2, Option.bind_some, if_neg (show ¬ tc = 2003 by omega), if_pos rfl, s3, Option.bind_some, if_neg (show ¬ tc = 2004 by omega), if_pos rfl]
    unfold m_X3_type_43
    rw [ms_isType h.2.1 htk, Option.bind_some, if_neg (show ¬ (tc = 2002 ∨ tc = 2003 ∨ tc = 2004) by omega), if_pos rfl, if_neg (fun z => absurd (hw.1.mp z) (by omega))]
    unfold m_X3_type_65
    rw [ms_passes hwr, if_pos rfl, ms_fails hwr h.2.1.2.1.1]
    exact Or.inr ⟨ch_nx w, w9, _, dz σ fr, fr, rfl, rfl, a2, dz_pd h.2.1 htk⟩
end TY
