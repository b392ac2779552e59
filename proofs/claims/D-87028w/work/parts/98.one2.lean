/-! LEVEL B2: expressions of both sides: one -/
set_option maxRecDepth 100000
section EX
variable {g : State} {P r L S n C1 C2 : Nat} {f : Nat → Nat} {w w' : ch_W} {σ : ch_S} {tc fr tt op om : Nat}
theorem pd_deep {sd : Int} {σ1 : ch_S} {q : Nat} {v : Int32} (h : pd n sd σ fr σ1 q) : pd n sd σ fr (md_si σ1 fX3_deep v) q := by
  obtain ⟨h1, h2, h3, h4, h5, h6, h7, h8, h9⟩ := h
  exact ⟨h1.si (by decide), h2, h3, h4, h5, h6, h7, h8, h9⟩
theorem ms_62 {rc : Nat → Int32 → Int32 → Int32 → ch_S → Option (Int32 × ch_S)} {v x : Int32} {σ : ch_S} : m_X3_single_62 rc v x σ = m_X3_node (if v = 0 then 14 else 13) x 0 0 σ := by
  unfold m_X3_single_62 m_X3_single_74
  simp only [pe_id]
  split <;> rfl
/-- - and ! -/
theorem po_unary {d e : Nat} (IH : ∀ d', VP g P r L S n f C1 C2 6 3 7 4 d d') (h : pj g P r L S n f C1 C2 w σ tc fr tt op op fr) (hd : 9 * (30 - op) ≤ d + 6) (hd' : 14 * (30 - op) ≤ e + 10) (he : 3 ≤ e) (hn31 : n < 2 ^ 31) (hq : tc = 1045 ∨ tc = 1033) : po P n C1 C2 0 w σ fr (c_X4_one_20 (cr_PA g d) g r w) (m_X3_single_23 (cr_ME e) σ) (vQ g P r L S n f C1 C2 op w σ fr) := by
  have hat := h.1.2.2.2.2.2.2.1
  have htk := hat.2.2.2
  have h0 : tc ≠ 0 := by omega
  have hlt := htk.lt h0
  obtain ⟨r1, r2⟩ := pjC_room h htk.1
  -- what is made
  obtain ⟨lit, kd, is, e1, e2, hk, hcd⟩ : ∃ (lit : Nat) (kd is : Int32), (c_X4_one_20 (cr_PA g d) g r w = (ch_nO w 11 6).bind fun w1 => (c_X10_init (ch_nx w) kd 0 w1).bind fun p1 => c_X4_one_66 (cr_PA g d) g r (some (ch_nx w)) lit r p1) ∧ (m_X3_single_23 (cr_ME e) σ = (m_X3_opens 1 σ).bind fun p3 => if p3.1 = 0 then some (-1, p3.2) else (cr_ME e 7 0 0 0 p3.2).bind fun p5 => if (p5.2.1 fX3_wrong) < 0 then m_X3_node is p5.1 0 0 (md_si p5.2 fX3_deep (p5.2.1 fX3_deep - 1)) else m_X3_node is p5.1 0 0 p5.2) ∧ ((kd = 8 ∧ is = 13) ∨ (kd = 9 ∧ is = 14)) ∧ (∀ w1 σ1 fr1 tt1 op1 om1 ps1, pj g P r L S n f C1 C2 w1 σ1 tc fr1 tt1 op1 om1 ps1 → c_X4_isThe g r (some lit) w1 = some (if tc = tc then 1 else 0)) := by
    have s1 : m_X3_isSign 45 σ = _ := ms_sign (c := 45) h.2.1 htk (by decide)
    have a1 := (pj_alloc (w' := ch_nw w (ch_new 11 6)) h h0 (fun a ha => b_oN ha) rfl (show 6 ≤ 256 by decide)).1
    have hi1 := it_308 a1.1.2.2.2.2.2.2.1 a1.1.1
    have key : ∀ (kd : Int32), ∀ p1, c_X10_init (ch_nx w) kd 0 (ch_nw w (ch_new 11 6)) = some p1 → pj g P r L S n f C1 C2 p1 σ tc fr tt op op tt := by
      intro kd p1 hp1
      obtain ⟨w2, x1, x2⟩ := lc_val (w := w) (k := kd) (x := 0) (F := fun p => some p) (by omega) (by omega)
      rw [d_nO (by omega) (by omega), hp1] at x1
      have : p1 = w2 := Option.some.inj x1
      rw [this]
      exact (pj_alloc h h0 x2.1 x2.2.1 (by decide)).1
    rcases hq with hq | hq
    · refine ⟨ch_sa g RX4 308, 8, 13, ?_, ?_, Or.inl ⟨rfl, rfl⟩, fun w1 σ1 fr1 tt1 op1 om1 ps1 hh => ?_⟩
      · unfold c_X4_one_20
        rw [d_nO (by omega) (by omega), d_nO (by omega) (by omega), d_rc a1.1.2.2.2.2.2.2.1.1.1, hi1, Option.bind_some, if_pos hq, if_neg (show ¬ (1 : Int32) = 0 by decide)]
        unfold c_X4_one_41
        cases hx : c_X10_init (ch_nx w) 8 0 (ch_nw w (ch_new 11 6)) with
        | none => rfl
        | some p1 =>
          have hp := key 8 p1 hx
          rw [Option.bind_some, Option.bind_some, d_rc hp.1.2.2.2.2.2.2.1.1.1, it_308 hp.1.2.2.2.2.2.2.1 hp.1.1, Option.bind_some, if_pos hq, if_neg (show ¬ (1 : Int32) = 0 by decide)]
      · unfold m_X3_single_23
        rw [s1, Option.bind_some, if_pos hq]
        simp only [ms_62, m_mI]
        rfl
      · rw [it_308 hh.1.2.2.2.2.2.2.1 hh.1.1, hq]
    · refine ⟨ch_sa g RX4 319, 9, 14, ?_, ?_, Or.inr ⟨rfl, rfl⟩, fun w1 σ1 fr1 tt1 op1 om1 ps1 hh => ?_⟩
      · unfold c_X4_one_20
        rw [d_nO (by omega) (by omega), d_nO (by omega) (by omega), d_rc a1.1.2.2.2.2.2.2.1.1.1, hi1, Option.bind_some, if_neg (show ¬ tc = 1045 by omega), if_pos rfl]
        unfold c_X4_one_41
        cases hx : c_X10_init (ch_nx w) 9 0 (ch_nw w (ch_new 11 6)) with
        | none => rfl
        | some p1 =>
          have hp := key 9 p1 hx
          rw [Option.bind_some, Option.bind_some, d_rc hp.1.2.2.2.2.2.2.1.1.1, it_308 hp.1.2.2.2.2.2.2.1 hp.1.1, Option.bind_some, if_neg (show ¬ tc = 1045 by omega), if_pos rfl]
      · unfold m_X3_single_23
        rw [s1, Option.bind_some, if_neg (show ¬ tc = 1045 by omega)]
        simp only [ms_62, m_mI]
        rfl
      · rw [it_319 hh.1.2.2.2.2.2.2.1 hh.1.1, hq]
  rw [e1, e2]
  obtain ⟨w4, x1, x2⟩ := lc_val (w := w) (k := kd) (x := 0) (F := fun p1 => c_X4_one_66 (cr_PA g d) g r (some (ch_nx w)) lit r p1) (by omega) (by omega)
  obtain ⟨v1, v2, v3, v4, v5, v6, v7, v8, v9⟩ := x2
  obtain ⟨a1, a2, a3, a4⟩ := pj_alloc h h0 v1 v2 (by decide)
  rw [x1]
  unfold c_X4_one_66
  rw [d_rc a1.1.2.2.2.2.2.2.1.1.1]
  by_cases hop30 : ¬ op < 30
  · obtain ⟨⟨w9, o1, o2⟩, o3⟩ := pj_op30 a1 (Nat.le_refl _) (hcd _ _ _ _ _ _ _ a1) hop30
    rw [tb_er o1, o3, Option.bind_some, if_pos rfl]
    exact Or.inr ⟨_, w9, -1, dz σ fr, fr, rfl, rfl, o2.base a2.1, dz_pd h.2.1 htk⟩
  have hop := po_opens1 a1 (Nat.le_of_lt hlt) (Nat.le_refl _) h0 (hcd _ _ _ _ _ _ _ a1) rfl (by omega)
  have hnd9 : nn σ fX3_nodes + (n - fr) ≤ 1400 := h.2.2.2.2.2.2.1
  have stuck : ∀ (b : Int32) (σ5 : ch_S) (q : Nat) (sd : Int), pd n sd σ fr σ5 q → 1 ≤ sd → ∃ p, (if (σ5.1 fX3_wrong) < 0 then m_X3_node is b 0 0 (md_si σ5 fX3_deep (σ5.1 fX3_deep - 1)) else m_X3_node is b 0 0 σ5) = some p ∧ pd n 0 σ fr p.2 q := by
    intro b σ5 q sd hq5 hsd
    by_cases hw : σ5.1 fX3_wrong < 0
    · rw [if_pos hw]
      exact pd_node (w := w) (w2 := w) (L := L) (pd_deep hq5) mf.refl bd.refl (by omega) hnd9
    · rw [if_neg hw]
      exact pd_node (w := w) (w2 := w) (L := L) hq5 mf.refl bd.refl (by omega) hnd9
  refine po.tb2 hop a2.1 (fun _ w5 b σ5 q => ?_) (fun b σ5 q hq2 => ?_)
  · obtain ⟨rfl, z0, hlt30, ⟨tc5, fr5, tt5, q1, q2, q3⟩, q4⟩ := q
    have hn5 : nn σ5 fX3_nodes = nn σ fX3_nodes := nn_fr q4 (by decide)
    rw [d_rc q1.1.2.2.2.2.2.2.1.1.1, if_neg (show ¬ (1 : Int32) = 0 by decide)]
    have hp5 := a2.trans q2
    refine po.tb2 (IH e w5 σ5 tc5 fr5 tt5 (op + 1) q1 (by omega) (by omega)) hp5.1 (fun x w6 y σ6 z => ?_) (fun b σ6 q hq2 => stuck b σ6 q _ (hq2.base hp5.2.1 hp5.2.2) (by decide))
    obtain ⟨a6, nd6, rfl, rfl, z1, z2, tc6, fr6, tt6, z3, z4, z5⟩ := z
    obtain ⟨k1, k2⟩ := (q2.trans z4).1.2.1 _ a3
    obtain ⟨f1, f2, f3, f4, f5⟩ := b_cell k1
    rw [d_pR (by rw [f1]; exact v3)]
    obtain ⟨y1, y2, y3, y4, y5⟩ := pj_right z3 k2 a4 (by rw [f1]; exact v3) (by rw [f3, v4]; rcases hk with q | q; exact Or.inr (Or.inl q.1); exact Or.inr (Or.inr q.1)) (by rw [f4]; exact v8) z2
    have hopv := y1.1.2.2.2.2.2.2.2.1
    have eo : Int32.ofNat (op + 1) - 1 = Int32.ofNat op := bn_sub (a := op + 1) (b := 1) (by omega)
    have hr7 := y1.1.2.2.2.2.2.2.1.1.1
    rw [d_gI hr7, hopv, eo, d_pI hr7]
    have h30 := h.1.2.2.2.2.2.2.2.2.1
    obtain ⟨p1, p2⟩ := pj_si (k := fX4_open) (v := Int32.ofNat op) (op' := op) y1 (by decide) (by decide) (by decide) (by decide) (by rw [b_II, if_pos ⟨rfl, rfl⟩]) (by omega)
    obtain ⟨p3, p4⟩ := pj_opM (om' := op) p1
    have hwr6 : σ6.1 fX3_wrong = -1 := z3.2.1.2.2.1
    have hdp6 : σ6.1 fX3_deep = Int32.ofNat (op + 1) := z3.2.1.2.2.2.1
    dsimp only
    rw [hwr6, if_pos bn_m1, hdp6, eo]
    have hp6 := hp5.trans z4
    have hp7 : pr g P r L (-1 + 4 + 2) (0 + 1 + 0) w σ fr (ch_sr w6 (ch_nx w) fX10_right (some a6)) σ6 fr6 := by
      refine ⟨y4 w hp6.1 (Nat.le_refl _), hp6.2.1, ?_⟩
      have hb := hp6.2.2
      unfold bd at *
      rw [y5]
      exact hb
    have hp8 := (hp7.trans p2).trans p4
    have hA8 := p3.2.2
    unfold pjA at hA8
    have hnn6 : nn (md_si σ6 fX3_deep (Int32.ofNat op)) fX3_nodes = nd6 + 1 := by
      have : nn (md_si σ6 fX3_deep (Int32.ofNat op)) fX3_nodes = nn σ6 fX3_nodes := rfl
      omega
    have hnd : (md_si σ6 fX3_deep (Int32.ofNat op)).1 fX3_nodes = Int32.ofNat (nd6 + 1) := by rw [← hnn6]; exact p3.2.1.2.2.2.2.2.2.1
    have hnode := ms_node (σ := md_si σ6 fX3_deep (Int32.ofNat op)) (k := is) (a := Int32.ofNat nd6) (b := 0) (c := 0) hnd (by omega)
    obtain ⟨g1, g2, g3, g4⟩ := md_node_at (σ := md_si σ6 fX3_deep (Int32.ofNat op)) (k := is) (a := Int32.ofNat nd6) (b := 0) (c := 0) (nd := nd6 + 1)
    have hm9 := mf_node (σ := md_si σ6 fX3_deep (Int32.ofNat op)) (k := is) (a := Int32.ofNat nd6) (b := 0) (c := 0) hnn6 (by omega)
    have hn9 : nn (md_node (md_si σ6 fX3_deep (Int32.ofNat op)) (nd6 + 1) is (Int32.ofNat nd6) 0 0) fX3_nodes = nd6 + 2 := nn_node (by omega)
    have hl9 : nn (md_node (md_si σ6 fX3_deep (Int32.ofNat op)) (nd6 + 1) is (Int32.ofNat nd6) 0 0) fX3_listed = nn (md_si σ6 fX3_deep (Int32.ofNat op)) fX3_listed := nn_fr md_node_fr (by decide)
    have hs9 : nn (md_node (md_si σ6 fX3_deep (Int32.ofNat op)) (nd6 + 1) is (Int32.ofNat nd6) 0 0) fX3_statements = nn (md_si σ6 fX3_deep (Int32.ofNat op)) fX3_statements := nn_fr md_node_fr (by decide)
    have hp9 : pr g P r L (-1 + 4 + 2 + 0 + 0) (0 + 1 + 0 + 0 + 0 - 1) w σ fr (ch_si (ch_sr w6 (ch_nx w) fX10_right (some a6)) r fX4_open (Int32.ofNat op)) (md_node (md_si σ6 fX3_deep (Int32.ofNat op)) (nd6 + 1) is (Int32.ofNat nd6) 0 0) fr6 := by
      refine ⟨hp8.1, hp8.2.1.trans hm9, ?_⟩
      have hb := hp8.2.2
      unfold bd at *
      rw [hn9, hl9, hs9]
      omega
    obtain ⟨k3, k4⟩ := p2.1.2.1 _ y3
    obtain ⟨t1, t2, t3, t4, t5⟩ := b_cell k3
    have hv8 : vt g r L P (ch_si (ch_sr w6 (ch_nx w) fX10_right (some a6)) r fX4_open (Int32.ofNat op)) (md_node (md_si σ6 fX3_deep (Int32.ofNat op)) (nd6 + 1) is (Int32.ofNat nd6) 0 0) a6 (nn σ fX3_nodes) nd6 := by
      rw [← hn5]
      exact vt.keep p2.1 (p4.2.1.trans hm9) (by omega) (by omega) (nd6 + 1) a6 _ _ (by omega) y2
    refine Or.inl ⟨some (ch_nx w), _, Int32.ofNat (nd6 + 1), _, rfl, hnode, ch_nx w, nd6 + 1, rfl, rfl, by omega, vt_un hv8 k4 a4 (by rw [t1, b_tR, f1]; exact v3) (by omega) (by omega) (by rw [t4, b_RR, if_pos ⟨rfl, rfl⟩]) g2 ?_, ?_⟩
    · rcases hk with ⟨q1, q2⟩ | ⟨q1, q2⟩
      · exact Or.inr (Or.inl ⟨by rw [t3, b_IR, f3, v4]; exact q1, by rw [g1]; exact q2⟩)
      · exact Or.inr (Or.inr ⟨by rw [t3, b_IR, f3, v4]; exact q1, by rw [g1]; exact q2⟩)
    · exact pg.mk h.2.2 p3.1 (pjM_node p3.2.1 hnn6 (by omega)) hp9 (by decide) (by decide) (by omega)
  · have hq3 := hq2.2.2.2.1
    dsimp only
    by_cases hb : b = 0
    · rw [if_pos hb]
      exact ⟨_, rfl, (hq2.base a2.2.1 a2.2.2).weak (by decide)⟩
    · rw [if_neg hb]
      obtain ⟨σ6, d1, d2⟩ := dm_7 (d := e - 3) hq2.2.1 (show q < 2 ^ 31 by omega)
      rw [show e - 3 + 3 = e by omega] at d1
      rw [d1, Option.bind_some]
      exact stuck (-1) σ6 q _ ((hq2.dr d2 (by omega)).base a2.2.1 a2.2.2) (by decide)
end EX
