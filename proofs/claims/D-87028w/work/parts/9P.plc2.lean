/-! LEVEL B2: statements of both sides: what is put, what is done, whole -/
set_option maxRecDepth 100000
section PL
variable {g : State} {P r L S n C1 C2 : Nat} {f : Nat → Nat} {w w' w0 : ch_W} {σ σ' σ0 : ch_S} {tc fr tt op om fr0 : Nat}
theorem s141 {x : Int32} {rc : Nat → ch_S → Option (Int32 × ch_S)} : m_X3_placed_141 x σ = m_X3_statement_78 rc x σ := rfl
/-- the model's row alone -/
theorem pj_begM {kM : Int32} (h : pj g P r L S n f C1 C2 w σ tc fr tt op op fr) (hR : rm1 L n C1 C2 w σ fr) : m_X3_begun kM σ = some (Int32.ofNat (nn σ fX3_statements), md_beg σ (nn σ fX3_statements) kM) ∧ pj g P r L S n f C1 C2 w (md_beg σ (nn σ fX3_statements) kM) tc fr tt op op fr ∧ prs g P r L 0 0 (-1) w σ fr w (md_beg σ (nn σ fX3_statements) kM) fr ∧ nn σ fX3_statements < 1400 := by
  obtain ⟨R1, R2, R3⟩ := hR
  have hA := h.2.2
  unfold pjA at hA
  have hb := ms_begun (kd := kM) h.2.1.2.2.2.2.2.2.2.2.2 (show nn σ fX3_statements < 1599 by omega)
  have hf := md_beg_fr (σ := σ) (s := nn σ fX3_statements) (kd := kM)
  have m1 : nn (md_beg σ (nn σ fX3_statements) kM) fX3_nodes = nn σ fX3_nodes := nn_fr hf (by decide)
  have m2 : nn (md_beg σ (nn σ fX3_statements) kM) fX3_listed = nn σ fX3_listed := nn_fr hf (by decide)
  have m3 : nn (md_beg σ (nn σ fX3_statements) kM) fX3_held = nn σ fX3_held := nn_fr hf (by decide)
  have m4 : nn (md_beg σ (nn σ fX3_statements) kM) fX3_statements = nn σ fX3_statements + 1 := nn_beg (by omega)
  have hM : pjM n f (md_beg σ (nn σ fX3_statements) kM) tc fr tt op := by
    obtain ⟨p1, p2, p3, p4, p5, ⟨kN, TM, p6, p7, p8⟩, p9⟩ := h.2.1
    exact ⟨p1.fr hf (by decide) (by decide), p2, p3, p4, p5, ⟨kN, TM, p6.fr hf (by decide) (by decide) (by decide) (by decide), p7, p8⟩, ⟨by rw [m1]; exact p9.1, by rw [m2]; exact p9.2.1, by rw [m3]; exact p9.2.2.1, by rw [m4]; rfl⟩⟩
  refine ⟨hb, ⟨h.1, hM, ?_⟩, ⟨pf.refl, mf_beg rfl (by omega), ?_⟩, by omega⟩
  · unfold pjA
    rw [m1, m2, m3, m4]
    omega
  · unfold bds
    rw [m1, m2, m4]
    omega
/-- PLACED -/
theorem po_placed {rcc : Nat → Nat → Int32 → ch_W → Option (Except Nat (Option Nat) × ch_W)} (h : pj g P r L S n f C1 C2 w σ tc fr tt op op fr) (hR : rm1 L n C1 C2 w σ fr) (hn31 : n < 2 ^ 31) : pos P n C1 C2 0 0 w σ fr (ch_tb (cr_PA g 300 0 r w) (fun a w => (Except.error a, w)) fun v20 w21 => (ch_nO w21 10 8).bind fun w22 => (ch_rc w22 (some r) 5).bind fun _ => (c_X4_isThe g r (some (ch_sa g RX4 240)) w22).bind fun v24 => if v24 = 0 then (c_X4_statement_221 rcc g r (Int32.ofNat fr) v20 2 (ch_nx w21) (ch_nx w21) w22) else (c_X4_statement_221 rcc g r (Int32.ofNat fr) v20 1 (ch_nx w21) (ch_nx w21) w22)) (m_X3_placed σ) (sQ g P r L S n f C1 C2 op w σ fr) := by
  have htk := h.1.2.2.2.2.2.2.1.2.2.2
  have hn12 := h.2.1.2.2.2.2.1
  have hff := htk.1
  have hfn := htk.2.1
  obtain ⟨hb, h1, hp1, hs14⟩ := pj_begM (kM := 7) h hR
  have hsd : nn σ fX3_statements = nn σ fX3_statements := rfl
  generalize hs0 : nn σ fX3_statements = s at *
  obtain ⟨b1, b2, b3, b4, b5, b6, b7, b8, b9⟩ := md_beg_at (σ := σ) (s := s) (kd := 7)
  have hst1 : nn (md_beg σ s 7) fX3_statements = s + 1 := nn_beg (by omega)
  have hno1 : nn (md_beg σ s 7) fX3_nodes = nn σ fX3_nodes := nn_fr md_beg_fr (by decide)
  have hnod : σ.1 fX3_nodes = Int32.ofNat (nn σ fX3_nodes) := h.2.1.2.2.2.2.2.2.1
  have hwf : σ.1 fX3_wordFrom = Int32.ofNat fr := h.2.1.2.1.1
  have hA9 := h.2.2
  unfold pjA at hA9
  unfold m_X3_placed
  rw [hb, Option.bind_some]
  dsimp only
  generalize hσ1 : md_beg σ s 7 = σ1 at *
  refine pos.tb2 ((po_expr h1).s) hp1.1 (fun x2 w2 y2 σ2 q => ?_) (fun b σ2 q hq2 => ?_)
  · obtain ⟨a2, nd2, rfl, rfl, g1, g2, tc2, fr2, tt2, g3, g4, g5⟩ := q
    have hat2 := g3.1.2.2.2.2.2.2.1
    have htk2 := hat2.2.2.2
    obtain ⟨r1, r2⟩ := pjC_room g3 htk2.1
    have row2 := mf_row g4.2.1 (show s < nn σ1 fX3_statements by omega)
    have hst2 : nn σ2 fX3_statements = s + 1 := by rw [nn_fr g4.2.1.1 (by decide)]; exact hst1
    have hp2 := hp1.trans (g4.s g5)
    have hA2 := g3.2.2
    unfold pjA at hA2
    have hwr2 : σ2.1 fX3_wrong = -1 := g3.2.1.2.2.1
    have hkd2 := vt_plc (vt_kd g2)
    have hta2 : ch_tg w2 a2 = 11 := by rw [vt] at g2; exact g2.2.2.1
    have hnlt : nd2 < nn σ2 fX3_nodes := by omega
    have hnx2 : ch_nx w ≤ ch_nx w2 := hp2.1.1
    rw [hno1] at g2
    -- the component's new statement
    have hraw := pj_alloc3 (w' := ch_nw w2 (ch_new 10 8)) h.2.2 g3 hp2 (by decide) (by decide) (by decide) (fun a ha => b_oN ha) rfl (show 8 ≤ 256 by decide)
    have iEq := it_240 hraw.1.1.2.2.2.2.2.2.1 hraw.1.1.1
    have h3M := fun (w3 : ch_W) (hw3 : pj g P r L S n f C1 C2 w3 σ2 tc2 fr2 tt2 op op fr2) => pj_sa (arr := fX3_value) (s := s) (v := Int32.ofNat nd2) hw3 (by decide)
    have s1 : m_X3_isSign 61 (md_sa σ2 fX3_value s (Int32.ofNat nd2)) = _ := ms_sign (c := 61) (h3M w2 g3).2.1 htk2 (by decide)
    have s2 : m_X3_isSign 59 (md_sa σ2 fX3_value s (Int32.ofNat nd2)) = _ := ms_sign (c := 59) (h3M w2 g3).2.1 htk2 (by decide)
    have lI : ch_ml fX3_is = 3200 := rfl
    have rdI : ∀ {β : Type} {F : Int32 → Option β}, (ch_ma (md_sa σ2 fX3_value s (Int32.ofNat nd2)) fX3_is (Int32.ofNat nd2)).bind F = F (σ2.2 fX3_is nd2) := by
      intro β F
      rw [d_ma (by rw [lI]; omega) (by rw [lI]; decide), md_an (by decide)]
    have hfail : ∀ (e' : Nat) (w9 : ch_W), pe P C1 C2 w2 w9 e' fr2 → pos P n C1 C2 0 0 w σ fr (some (Except.error e', w9)) (m_X3_placed_132 (md_sa σ2 fX3_value s (Int32.ofNat nd2))) (sQ g P r L S n f C1 C2 op w σ fr) := by
      intro e' w9 hpe
      unfold m_X3_placed_132
      have hM3 := (h3M w2 g3).2.1
      rw [ms_fails (q := fr2) hM3.2.2.1 hM3.2.1.1]
      refine Or.inr ⟨e', w9, -1, dz (md_sa σ2 fX3_value s (Int32.ofNat nd2)) fr2, fr2, rfl, rfl, hpe.base hp2.1, ?_⟩
      have hpr3 := pr_sa (arr := fX3_value) (s := s) (v := Int32.ofNat nd2) hp2 (by decide) (by omega)
      exact ((dz_pd hM3 htk2).s.base hpr3.2.1 hpr3.2.2).weak (by decide) (by decide)
    dsimp only
    rw [hwr2, if_pos bn_m1, ms_w (by decide) (by omega), s1, Option.bind_some, b_nO (show ch_cs w2 + 1 ≤ 601024 by omega) (show ch_sl w2 + 8 ≤ 7293034 by omega), Option.bind_some, d_rc hraw.1.1.2.2.2.2.2.2.1.1.1, iEq, Option.bind_some]
    by_cases zE : tc2 = 1061
    · -- a place becomes a value
      rw [if_pos zE, if_neg (show ¬ (1 : Int32) = 0 by decide), if_neg (show ¬ (1 : Int32) = 0 by decide)]
      obtain ⟨w4, o1, o2, hv⟩ := lc_stm1 (w := w2) (kd := 1) (pl := Int32.ofNat fr) (by omega) (by omega)
      obtain ⟨v1, v2, v3, v4, v5, v6, v7, v8, v9⟩ := hv
      obtain ⟨c1, c2, c3, c4, c5⟩ := pj_alloc3 h.2.2 g3 hp2 (by decide) (by decide) (by decide) v1 v2 (by decide)
      have hk4 : ch_gi w4 a2 fX10_kind = ch_gi w2 a2 fX10_kind ∧ ch_tg w4 a2 = 11 := by
        have hne : a2 ≠ ch_nx w2 := by
          have := g3.1.2.2.2.2.2.1 a2 (by rw [hta2]; decide)
          omega
        obtain ⟨y1, y2, y3, -, -⟩ := b_cell (v1 a2 hne)
        exact ⟨y3 _, by rw [y1]; exact hta2⟩
      unfold c_X4_statement_221
      rw [o2, Option.bind_some, d_gI v3, v4, if_pos rfl, d_rc hk4.2, lc_isPlace hk4.2, Option.bind_some, d_rc c1.1.2.2.2.2.2.2.1.1.1, hk4.1]
      rw [rdI, rdI, rdI]
      by_cases hpl : ch_gi w2 a2 fX10_kind = 4 ∨ ch_gi w2 a2 fX10_kind = 10 ∨ ch_gi w2 a2 fX10_kind = 12
      · have hmy := hkd2.1.mp hpl
        rw [if_pos hpl, lc_must1, tb_ok rfl, d_rc c1.1.2.2.2.2.2.2.1.1.1]
        have e69 : (if σ2.2 fX3_is nd2 = 4 then m_X3_placed_69 (Int32.ofNat s) (Int32.ofNat nd2) (md_sa σ2 fX3_value s (Int32.ofNat nd2)) else if σ2.2 fX3_is nd2 = 6 then m_X3_placed_69 (Int32.ofNat s) (Int32.ofNat nd2) (md_sa σ2 fX3_value s (Int32.ofNat nd2)) else if σ2.2 fX3_is nd2 = 7 then m_X3_placed_69 (Int32.ofNat s) (Int32.ofNat nd2) (md_sa σ2 fX3_value s (Int32.ofNat nd2)) else m_X3_placed_101 (Int32.ofNat s) (Int32.ofNat nd2) (md_sa σ2 fX3_value s (Int32.ofNat nd2))) = m_X3_placed_69 (Int32.ofNat s) (Int32.ofNat nd2) (md_sa σ2 fX3_value s (Int32.ofNat nd2)) := by
          by_cases q1 : σ2.2 fX3_is nd2 = 4
          · rw [if_pos q1]
          rw [if_neg q1]
          by_cases q2 : σ2.2 fX3_is nd2 = 6
          · rw [if_pos q2]
          rw [if_neg q2]
          by_cases q3 : σ2.2 fX3_is nd2 = 7
          · rw [if_pos q3]
          · rcases hmy with q | q | q
            · exact absurd q q1
            · exact absurd q q2
            · exact absurd q q3
        rw [e69]
        unfold m_X3_placed_69
        rw [o_split 0]
        have h3 := h3M w4 c1
        have hp3 := pr_sa (arr := fX3_value) (s := s) (v := Int32.ofNat nd2) c3 (by decide) (by omega)
        have hmg3 : mg σ2 (md_sa σ2 fX3_value s (Int32.ofNat nd2)) := mg_sa (by decide)
        have row3 : ∀ arr ∈ psa, arr ≠ fX3_value → (md_sa σ2 fX3_value s (Int32.ofNat nd2)).2 arr s = σ1.2 arr s := fun arr q1 q2 => by rw [md_an q2]; exact row2 arr q1
        have hv3 : vt g r L P w4 (md_sa σ2 fX3_value s (Int32.ofNat nd2)) a2 (nn σ fX3_nodes) nd2 := vt.keep0 (fun x hx _ => c2.2.1 x hx) c2.2.2 hmg3 (show nn σ2 fX3_nodes ≤ 1500 by omega) (show nn σ2 fX3_listed ≤ 1500 by omega) (nd2 + 1) a2 _ _ (by omega) g2
        have hst3 : nn (md_sa σ2 fX3_value s (Int32.ofNat nd2)) fX3_statements = s + 1 := hst2
        have hno3 : nn (md_sa σ2 fX3_value s (Int32.ofNat nd2)) fX3_nodes = nd2 + 1 := g1.symm
        have his3 : (md_sa σ2 fX3_value s (Int32.ofNat nd2)).2 fX3_is nd2 = σ2.2 fX3_is nd2 := by rw [md_an (by decide)]
        generalize hσ3 : md_sa σ2 fX3_value s (Int32.ofNat nd2) = σ3 at *
        generalize haa : ch_nx w2 = a at *
        refine pos.tb2 ((po_next h3 (by omega) (Nat.le_refl _) htk2.1).s) hp3.1 (fun _ w5 b5 σ5 z => ?_) (fun b σ5 q hq5 => ?_)
        · obtain ⟨rfl, ⟨tc5, fr5, tt5, e1, e2, e3⟩, e4⟩ := z
          obtain ⟨m1, m2⟩ := e2.1.2.1 _ c4
          obtain ⟨n1, n2, n3, n4, n5⟩ := b_cell m1
          have t5 : ch_tg w5 a = 10 := by rw [n1]; exact v3
          have row5 := mf_row e2.2.1 (show s < nn σ3 fX3_statements by omega)
          have hst5 : nn σ5 fX3_statements = s + 1 := by rw [nn_fr e4 (by decide)]; exact hst3
          have hno5 : nn σ5 fX3_nodes = nd2 + 1 := by rw [nn_fr e4 (by decide)]; exact hno3
          have hp5 := hp3.trans (e2.s e3)
          have hA5 := e1.2.2
          unfold pjA at hA5
          dsimp only
          rw [d_pR t5, ms_w (by decide) (by omega), ms_w (by decide) (by omega)]
          obtain ⟨d1, d2, d3, d4, d5⟩ := pj_fld10 (w' := ch_sr w5 a fX9_place0 (some a2)) e1 m2 c5 t5 (fun x hx => b_oR hx) rfl
          have h6 := pj_sa (arr := fX3_target) (s := s) (v := Int32.ofNat nd2) (pj_sa (arr := fX3_statementIs) (s := s) (v := 8) d1 (by decide)) (by decide)
          have hp6 := pr_sa (arr := fX3_target) (s := s) (v := Int32.ofNat nd2) (pr_sa (arr := fX3_statementIs) (s := s) (v := 8) (d5 _ _ _ _ _ _ hp5 (by omega)) (by decide) (by omega)) (by decide) (by omega)
          have hmg56 : mg σ5 (md_sa (md_sa σ5 fX3_statementIs s 8) fX3_target s (Int32.ofNat nd2)) := by
            have q1 : mg σ5 (md_sa σ5 fX3_statementIs s 8) := mg_sa (by decide)
            have q2 : mg (md_sa σ5 fX3_statementIs s 8) (md_sa (md_sa σ5 fX3_statementIs s 8) fX3_target s (Int32.ofNat nd2)) := mg_sa (by decide)
            exact ⟨Nat.le_refl _, Nat.le_refl _, fun a ha k hk => (q2.2.2.1 a ha k hk).trans (q1.2.2.1 a ha k hk), fun k hk => (q2.2.2.2.1 k hk).trans (q1.2.2.2.1 k hk), fun j t q => q2.2.2.2.2 j t (q1.2.2.2.2 j t q)⟩
          have hv5 := vt.keep e2.1 e2.2.1 (by omega) (by omega) (nd2 + 1) a2 _ _ (by omega) hv3
          have hv6 : vt g r L P (ch_sr w5 a fX9_place0 (some a2)) (md_sa (md_sa σ5 fX3_statementIs s 8) fX3_target s (Int32.ofNat nd2)) a2 (nn σ fX3_nodes) nd2 := vt.keep0 (fun x hx _ => ⟨rfl, hx⟩) (fun _ _ q => q) hmg56 (show nn σ5 fX3_nodes ≤ 1500 by omega) (show nn σ5 fX3_listed ≤ 1500 by omega) (nd2 + 1) a2 _ _ (by omega) (d2 a2 _ nd2 (by omega) (by omega) hv5)
          have his5 : σ5.2 fX3_is nd2 = σ2.2 fX3_is nd2 := by
            rw [e2.2.1.2.2.2.2.2.1 fX3_is (by decide) nd2 (by omega)]
            exact his3
          have row6 : ∀ arr ∈ psa, arr ≠ fX3_value → arr ≠ fX3_statementIs → arr ≠ fX3_target → (md_sa (md_sa σ5 fX3_statementIs s 8) fX3_target s (Int32.ofNat nd2)).2 arr s = σ1.2 arr s := fun arr q1 q2 q3 q4 => by rw [md_an q4, md_an q3, row5 arr q1]; exact row3 arr q1 q2
          have rI6 : (md_sa (md_sa σ5 fX3_statementIs s 8) fX3_target s (Int32.ofNat nd2)).2 fX3_statementIs s = 8 := by rw [md_an (by decide), md_ga, if_pos ⟨rfl, rfl⟩]
          have rT6 : (md_sa (md_sa σ5 fX3_statementIs s 8) fX3_target s (Int32.ofNat nd2)).2 fX3_target s = Int32.ofNat nd2 := by rw [md_ga, if_pos ⟨rfl, rfl⟩]
          have hst6 : nn (md_sa (md_sa σ5 fX3_statementIs s 8) fX3_target s (Int32.ofNat nd2)) fX3_statements = s + 1 := hst5
          have hno6 : nn (md_sa (md_sa σ5 fX3_statementIs s 8) fX3_target s (Int32.ofNat nd2)) fX3_nodes = nd2 + 1 := hno5
          have his6 : (md_sa (md_sa σ5 fX3_statementIs s 8) fX3_target s (Int32.ofNat nd2)).2 fX3_is nd2 = σ2.2 fX3_is nd2 := by rw [md_an (by decide), md_an (by decide)]; exact his5
          have k6 := d3 _ m2
          have t6 : ch_tg (ch_sr w5 a fX9_place0 (some a2)) a = 10 := by rw [b_tR]; exact t5
          have gi6 : ∀ k : Nat, ch_gi (ch_sr w5 a fX9_place0 (some a2)) a k = ch_gi w4 a k := fun k => by rw [b_IR, n3]
          have gp6 : ch_gr (ch_sr w5 a fX9_place0 (some a2)) a fX9_place0 = some a2 := by rw [b_RR, if_pos ⟨rfl, rfl⟩]
          rw [d_rc h6.1.2.2.2.2.2.2.1.1.1]
          generalize hσ6 : md_sa (md_sa σ5 fX3_statementIs s 8) fX3_target s (Int32.ofNat nd2) = σ6 at *
          generalize hw6 : ch_sr w5 a fX9_place0 (some a2) = w6 at *
          refine pos.tb2 ((po_expr h6).s) hp6.1 (fun x7 w7 y7 σ7 z => ?_) (fun b σ7 q hq7 => ?_)
          · obtain ⟨a7, nd7, rfl, rfl, j1, j2, tc7, fr7, tt7, j3, j4, j5⟩ := z
            obtain ⟨u1, u2⟩ := j4.1.2.1 _ k6
            obtain ⟨l1, l2, l3, l4, l5⟩ := b_cell u1
            have t7 : ch_tg w7 a = 10 := by rw [l1]; exact t6
            have row7 : ∀ arr ∈ psa, σ7.2 arr s = σ6.2 arr s := mf_row j4.2.1 (by omega)
            have hst7 : nn σ7 fX3_statements = s + 1 := by rw [nn_fr j4.2.1.1 (by decide)]; exact hst6
            have hA7 := j3.2.2
            unfold pjA at hA7
            dsimp only
            rw [d_pR t7, ms_w (by decide) (by omega), s141 (rc := fun _ _ => none)]
            obtain ⟨D1, D2, D3, D4, D5⟩ := pj_fld10 (w' := ch_sr w7 a fX9_value (some a7)) j3 u2 c5 t7 (fun x hx => b_oR hx) rfl
            have h8 := pj_sa (arr := fX3_value) (s := s) (v := Int32.ofNat nd7) D1 (by decide)
            have hp8 := pr_sa (arr := fX3_value) (s := s) (v := Int32.ofNat nd7) (D5 _ _ _ _ _ _ (hp6.trans (j4.s j5)) (by omega)) (by decide) (by omega)
            unfold c_X4_statement_292
            rw [d_rc h8.1.2.2.2.2.2.2.1.1.1]
            have hsa : ∀ b lo nd : Nat, vt g r L P w7 σ7 b lo nd → vt g r L P (ch_sr w7 a fX9_value (some a7)) (md_sa σ7 fX3_value s (Int32.ofNat nd7)) b lo nd := fun b lo nd hv => vt.keep0 (fun x hx _ => ⟨rfl, hx⟩) (fun _ _ q => q) (mg_sa (by decide)) (show nn σ7 fX3_nodes ≤ 1500 by omega) (show nn σ7 fX3_listed ≤ 1500 by omega) (nd + 1) b _ _ (by omega) (D2 b lo nd (by omega) (by omega) hv)
            have hv7 := hsa _ _ _ (vt.keep j4.1 j4.2.1 (by omega) (by omega) (nd2 + 1) a2 _ _ (by omega) hv6)
            rw [hno6] at j2
            have hv7' := hsa _ _ _ j2
            refine po_semi h.2.2 h8 hp8 (by omega) (by omega) (by omega) (a := a) (s := s) ?_ ?_ hs0.symm (by omega)
            · rw [st, sth]
              refine ⟨D3 _ u2, c5, by rw [b_tR]; exact t7, by show s < nn σ7 fX3_statements; omega, by show nn σ7 fX3_statements ≤ 1500; omega, ?_, ?_, nn σ fX3_nodes, ?_, by omega, Or.inr (Or.inl ⟨?_, ?_, a2, nd2, a7, nd7, ?_, ?_, by omega, ?_, hv7, ?_, ?_, by omega, hv7'⟩)⟩
              · rw [b_IR, l3, gi6, v5, md_an (by decide), row7 _ (by decide), row6 _ (by decide) (by decide) (by decide) (by decide), b2, hwf]
              · rw [md_an (by decide), row7 _ (by decide), row6 _ (by decide) (by decide) (by decide) (by decide), b2, hwf]
                exact ⟨fr, rfl, by omega⟩
              · rw [md_an (by decide), row7 _ (by decide), row6 _ (by decide) (by decide) (by decide) (by decide), b3, hnod]
              · rw [b_IR, l3, gi6]; exact v4
              · rw [md_an (by decide), row7 _ (by decide)]; exact rI6
              · rw [b_RR, if_neg (fun q => absurd q.2 (by decide)), l4]; exact gp6
              · rw [md_an (by decide), row7 _ (by decide)]; exact rT6
              · rw [md_an (by decide), j4.2.1.2.2.2.2.2.1 fX3_is (by decide) nd2 (by omega), his6]
                exact hmy
              · rw [b_RR, if_pos ⟨rfl, rfl⟩]
              · rw [md_ga, if_pos ⟨rfl, rfl⟩]
            · rw [md_an (by decide), row7 _ (by decide), row6 _ (by decide) (by decide) (by decide) (by decide)]; exact b9
          · have hpds := (hq7.base hp6.2.1 hp6.2.2).weak (show (0 : Int) ≤ _ by omega) (show (0 : Int) ≤ _ by omega)
            dsimp only
            rw [ms_w (by decide) (by omega), s141 (rc := fun _ _ => none)]
            exact dm_78 (pd_sa hpds (by decide)) hn31
        · have hpds := (hq5.base hp3.2.1 hp3.2.2).weak (show (0 : Int) ≤ _ by omega) (show (0 : Int) ≤ _ by omega)
          have hq9 := hpds.2.2.2.1
          have hpds2 := pd_sa (arr := fX3_target) (s := s) (v := Int32.ofNat nd2) (pd_sa (arr := fX3_statementIs) (s := s) (v := 8) hpds (by decide)) (by decide)
          obtain ⟨σ8, d1, d2⟩ := dm_0 (d := 441) hpds2.2.1 (show q < 2 ^ 31 by omega)
          dsimp only
          rw [ms_w (by decide) (by omega), ms_w (by decide) (by omega), d1, Option.bind_some, ms_w (by decide) (by omega), s141 (rc := fun _ _ => none)]
          exact dm_78 (pd_sa (hpds2.dr d2 (by omega)) (by decide)) hn31
      · have hmy : ¬ (σ2.2 fX3_is nd2 = 4 ∨ σ2.2 fX3_is nd2 = 6 ∨ σ2.2 fX3_is nd2 = 7) := fun z => hpl (hkd2.1.mpr z)
        simp only [not_or] at hmy
        obtain ⟨w9, p1, p2⟩ := pj_must c1 htk2.1
        rw [if_neg hpl, tb_er p1, if_neg hmy.1, if_neg hmy.2.1, if_neg hmy.2.2]
        unfold m_X3_placed_101
        rw [s2, Option.bind_some, if_neg (show ¬ tc2 = 1059 by omega), if_pos rfl]
        exact hfail _ w9 (p2.base c2)
    · rw [if_neg zE, if_pos rfl, if_pos rfl]
      obtain ⟨w4, o1, o2, hv⟩ := lc_stm1 (w := w2) (kd := 2) (pl := Int32.ofNat fr) (by omega) (by omega)
      obtain ⟨v1, v2, v3, v4, v5, v6, v7, v8, v9⟩ := hv
      obtain ⟨c1, c2, c3, c4, c5⟩ := pj_alloc3 h.2.2 g3 hp2 (by decide) (by decide) (by decide) v1 v2 (by decide)
      have hk4 : ch_gi w4 a2 fX10_kind = ch_gi w2 a2 fX10_kind ∧ ch_tg w4 a2 = 11 := by
        have hne : a2 ≠ ch_nx w2 := by
          have := g3.1.2.2.2.2.2.1 a2 (by rw [hta2]; decide)
          omega
        obtain ⟨y1, y2, y3, -, -⟩ := b_cell (v1 a2 hne)
        exact ⟨y3 _, by rw [y1]; exact hta2⟩
      have hat4 := c1.1.2.2.2.2.2.2.1
      unfold c_X4_statement_221 m_X3_placed_101
      rw [o2, Option.bind_some, d_gI v3, v4, if_neg (show ¬ (2 : Int32) = 1 by decide), d_rc hat4.1.1, it_164 hat4 c1.1.1, Option.bind_some, s2, Option.bind_some]
      by_cases zS : tc2 = 1059
      · rw [if_pos zS, if_neg (show ¬ (1 : Int32) = 0 by decide), if_neg (show ¬ (1 : Int32) = 0 by decide), d_rc hk4.2, lc_isCall hk4.2, Option.bind_some, hk4.1, rdI, rdI]
        by_cases hcl : ch_gi w2 a2 fX10_kind = 5 ∨ ch_gi w2 a2 fX10_kind = 11
        · have hmy := hkd2.2.mp hcl
          have e141 : (if σ2.2 fX3_is nd2 = 8 then m_X3_placed_141 (Int32.ofNat s) (md_sa σ2 fX3_value s (Int32.ofNat nd2)) else if σ2.2 fX3_is nd2 = 9 then m_X3_placed_141 (Int32.ofNat s) (md_sa σ2 fX3_value s (Int32.ofNat nd2)) else m_X3_placed_132 (md_sa σ2 fX3_value s (Int32.ofNat nd2))) = m_X3_placed_141 (Int32.ofNat s) (md_sa σ2 fX3_value s (Int32.ofNat nd2)) := by
            by_cases q1 : σ2.2 fX3_is nd2 = 8
            · rw [if_pos q1]
            rw [if_neg q1]
            by_cases q2 : σ2.2 fX3_is nd2 = 9
            · rw [if_pos q2]
            · rcases hmy with q | q
              · exact absurd q q1
              · exact absurd q q2
          rw [if_pos hcl, if_neg (show ¬ (1 : Int32) = 0 by decide), e141]
          unfold c_X4_statement_279 c_X4_statement_284
          rw [d_rc hat4.1.1, lc_must1, tb_ok rfl, d_pR v3, s141 (rc := fun _ _ => none)]
          obtain ⟨D1, D2, D3, D4, D5⟩ := pj_fld10 (w' := ch_sr w4 (ch_nx w2) fX9_value (some a2)) c1 c4 c5 v3 (fun x hx => b_oR hx) rfl
          have h8 := pj_sa (arr := fX3_value) (s := s) (v := Int32.ofNat nd2) D1 (by decide)
          have hp8 := pr_sa (arr := fX3_value) (s := s) (v := Int32.ofNat nd2) (D5 _ _ _ _ _ _ c3 (by omega)) (by decide) (by omega)
          unfold c_X4_statement_292
          rw [d_rc h8.1.2.2.2.2.2.2.1.1.1]
          have hv4 := vt.keep c2 (mf.refl (σ := σ2)) (by omega) (by omega) (nd2 + 1) a2 _ _ (by omega) g2
          have hv8 : vt g r L P (ch_sr w4 (ch_nx w2) fX9_value (some a2)) (md_sa σ2 fX3_value s (Int32.ofNat nd2)) a2 (nn σ fX3_nodes) nd2 := vt.keep0 (fun x hx _ => ⟨rfl, hx⟩) (fun _ _ q => q) (mg_sa (by decide)) (show nn σ2 fX3_nodes ≤ 1500 by omega) (show nn σ2 fX3_listed ≤ 1500 by omega) (nd2 + 1) a2 _ _ (by omega) (D2 a2 _ nd2 (by omega) (by omega) hv4)
          refine po_semi h.2.2 h8 hp8 (by omega) (by omega) (by omega) (a := ch_nx w2) (s := s) ?_ ?_ hs0.symm (by omega)
          · rw [st, sth]
            refine ⟨D3 _ c4, c5, by rw [b_tR]; exact v3, by show s < nn σ2 fX3_statements; omega, by show nn σ2 fX3_statements ≤ 1500; omega, ?_, ?_, nn σ fX3_nodes, ?_, by omega, Or.inr (Or.inr (Or.inl ⟨?_, ?_, a2, nd2, ?_, ?_, by omega, ?_, hv8⟩))⟩
            · rw [b_IR, v5, md_an (by decide), row2 _ (by decide), b2, hwf]
            · rw [md_an (by decide), row2 _ (by decide), b2, hwf]
              exact ⟨fr, rfl, by omega⟩
            · rw [md_an (by decide), row2 _ (by decide), b3, hnod]
            · rw [b_IR]; exact v4
            · rw [md_an (by decide), row2 _ (by decide)]; exact b1
            · rw [b_RR, if_pos ⟨rfl, rfl⟩]
            · rw [md_ga, if_pos ⟨rfl, rfl⟩]
            · rw [md_an (by decide)]; exact hmy
          · rw [md_an (by decide), row2 _ (by decide)]; exact b9
        · have hmy : ¬ (σ2.2 fX3_is nd2 = 8 ∨ σ2.2 fX3_is nd2 = 9) := fun z => hcl (hkd2.2.mpr z)
          simp only [not_or] at hmy
          obtain ⟨w9, p1, p2⟩ := pj_must c1 htk2.1
          rw [if_neg hcl, if_pos rfl, if_neg hmy.1, if_neg hmy.2]
          unfold c_X4_statement_284
          rw [d_rc hat4.1.1, tb_er p1]
          exact hfail _ w9 (p2.base c2)
      · rw [if_neg zS, if_pos rfl, if_pos rfl]
        unfold c_X4_statement_279 c_X4_statement_284
        rw [d_rc hat4.1.1, lc_must1, tb_ok rfl, d_pR v3]
        obtain ⟨D1, D2, D3, D4, D5⟩ := pj_fld10 (w' := ch_sr w4 (ch_nx w2) fX9_value (some a2)) c1 c4 c5 v3 (fun x hx => b_oR hx) rfl
        unfold c_X4_statement_292
        have hat8 := D1.1.2.2.2.2.2.2.1
        obtain ⟨w9, p1, p2⟩ := pj_must D1 htk2.1
        rw [d_rc hat8.1.1, lc_want hat8.1.1 (it_164 hat8 D1.1.1), if_neg zS, tb_tb, tb_er p1]
        refine hfail _ w9 ?_
        obtain ⟨y1, y2, y3, y4, y5, y6, y7⟩ := p2
        refine ⟨y1, y2, fun a ha => ?_, ?_, y5, y6, y7⟩
        · rw [y3 a ha, b_oR (by omega)]
          exact (c2.2.1 a (Or.inl ha)).1
        · have : ch_nx (ch_sr w4 (ch_nx w2) fX9_value (some a2)) = ch_nx w4 := rfl
          have := c2.1
          omega
  · have hpds := (hq2.base hp1.2.1 hp1.2.2).weak (show (0 : Int) ≤ _ by omega) (show (0 : Int) ≤ _ by omega)
    have hq9 := hpds.2.2.2.1
    have hq31 : q < 2 ^ 31 := by omega
    dsimp only
    by_cases hw : σ2.1 fX3_wrong < 0
    · rw [if_pos hw, ms_w (by decide) (by omega)]
      have hpd3 := pd_sa (arr := fX3_value) (s := s) (v := b) hpds (by decide)
      rw [dm_sign hpd3.2.1 hq31, Option.bind_some, if_pos rfl]
      unfold m_X3_placed_101
      rw [dm_sign hpd3.2.1 hq31, Option.bind_some, if_pos rfl]
      unfold m_X3_placed_132
      obtain ⟨σ8, d1, d2⟩ := dm_fails hpd3.2.1 hq31
      rw [d1]
      exact ⟨_, rfl, hpd3.dr d2 hq31⟩
    · rw [if_neg hw]
      exact ⟨_, rfl, hpds⟩
end PL
