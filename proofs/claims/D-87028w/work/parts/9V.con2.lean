/-! LEVEL B2: if, while, try -/
set_option maxRecDepth 100000
section CN
variable {g : State} {P r L S n C1 C2 : Nat} {f : Nat → Nat} {w w' w0 w1 w2 : ch_W} {σ σ' σ0 σ2 : ch_S} {tc fr tt op fr0 : Nat}
theorem cst_begin {kd kM : Int32} (h : pj g P r L S n f C1 C2 w σ tc fr tt op op fr) (hR : rm1 L n C1 C2 w σ fr) (hv : sn w w1 kd (Int32.ofNat fr)) : m_X3_begun kM σ = some (Int32.ofNat (nn σ fX3_statements), md_beg σ (nn σ fX3_statements) kM) ∧ cst g P r L S n f C1 C2 op w σ fr (ch_nx w) (nn σ fX3_statements) (-1) 0 (-1) w1 (md_beg σ (nn σ fX3_statements) kM) tc fr tt (fun k => ch_gi w1 (ch_nx w) k) (fun k => ch_gr w1 (ch_nx w) k) (fun arr => (md_beg σ (nn σ fX3_statements) kM).2 arr (nn σ fX3_statements)) := by
  obtain ⟨hb, h1, hp1, ha1, hPa, hs14⟩ := pj_begin (kM := kM) h hR hv
  have hst1 : nn (md_beg σ (nn σ fX3_statements) kM) fX3_statements = nn σ fX3_statements + 1 := nn_beg (by omega)
  exact ⟨hb, h1, hp1, ⟨ha1, hPa, hv.2.2.1, by omega, fun _ => rfl, fun _ => rfl, fun _ _ => rfl⟩, Nat.le_refl _, Nat.le_refl _, h.2.2⟩
section
variable {a s : Nat} {u z t : Int} {GI : Nat → Int32} {GR : Nat → Option Nat} {RW : Nat → Int32}
/-- the next word -/
theorem po_cnext {K : ch_W → Option (Except Nat (Option Nat) × ch_W)} {K2 : ch_S → Option (Int32 × ch_S)} {Q' : Option Nat → ch_W → Int32 → ch_S → Prop} (h : cst g P r L S n f C1 C2 op w0 σ0 fr0 a s u z t w σ tc fr tt GI GR RW) (h0 : tc ≠ 0) (hz : -1 ≤ z) (ht : -1 ≤ t)
    (ok : ∀ w2 σ2 tc2 fr2 tt2, cst g P r L S n f C1 C2 op w0 σ0 fr0 a s (u + 4) (z + 1) (t + 1) w2 σ2 tc2 fr2 tt2 GI GR RW → sk g r L P w σ w2 σ2 a s → nn σ2 fX3_nodes = nn σ fX3_nodes → fr < fr2 → pos P n C1 C2 0 0 w0 σ0 fr0 (K w2) (K2 σ2) Q')
    (er : ∀ σ2 q, pds n 0 0 σ0 fr0 σ2 q → ∃ p, K2 σ2 = some p ∧ pds n 0 0 σ0 fr0 p.2 q) : pos P n C1 C2 0 0 w0 σ0 fr0 (ch_tb (c_X4_next g r w) (fun a w => (.error a, w)) fun _ w8 => K w8) ((m_X3_next σ).bind fun σ9 => K2 σ9) Q' := by
  have htk := h.1.1.2.2.2.2.2.2.1.2.2.2
  rw [o_split 0]
  refine pos.tb2 ((po_next h.1 h0 (Nat.le_refl _) htk.1).s) h.2.1.1 (fun _ w2 b σ2 q => ?_) (fun b σ2 q hq2 => ?_)
  · obtain ⟨rfl, ⟨tc2, fr2, tt2, q1, q2, q3⟩, q4⟩ := q
    obtain ⟨e1, e2⟩ := h.step q1 (q2.s q3)
    exact ok _ _ _ _ _ e1 e2 (nn_fr q4 (by decide)) q3
  · exact er _ _ (h.stuck hq2 (by omega) (by omega))
/-- the statement stands -/
theorem sQ_if {a2 nd lo : Nat} (h : cst g P r L S n f C1 C2 op w0 σ0 fr0 a s u z t w σ tc fr tt GI GR RW) (hu : 2 ≤ u) (hz : 0 ≤ z) (ht : 0 ≤ t) (hs : s = nn σ0 fX3_statements) (hlt : fr0 < fr) (hnx : RW fX3_nextOf = -1) (hpl : GI fX9_place = Int32.ofNat fr0) (hpl2 : RW fX3_place = Int32.ofNat fr0) (hno : RW fX3_nodesFrom = Int32.ofNat lo) (hlo : lo ≤ 1500)
    (hkd : (GI fX9_kind = 3 ∧ RW fX3_statementIs = 1) ∨ (GI fX9_kind = 4 ∧ RW fX3_statementIs = 2)) (hv1 : GR fX9_value = some a2) (hv2 : RW fX3_value = Int32.ofNat nd) (hv3 : nd < 1500) (hv4 : vt g r L P w σ a2 lo nd) (hb : s_blk g r L P w σ (nn σ fX3_statements) a s (GR fX9_first) (RW fX3_inner))
    (h2 : (GR fX9_second = none ∧ RW fX3_other = -1 ∧ (GI fX9_kind = 3 → RW fX3_target = 0)) ∨ (GI fX9_kind = 3 ∧ RW fX3_target = 1 ∧ s_blk g r L P w σ (nn σ fX3_statements) a s (GR fX9_second) (RW fX3_other))) : sQ g P r L S n f C1 C2 op w0 σ0 fr0 (some a) w (Int32.ofNat s) σ := by
  have hnn := h.bnd
  obtain ⟨h1, hp, ⟨c1, c2, c3, c4, c5, c6, c7⟩, h4, h5, h6⟩ := h
  refine ⟨a, s, rfl, rfl, hs, h4, ?_, by rw [c7 _ (by decide)]; exact hnx, tc, fr, tt, h1, hp.weak hu hz ht, hlt⟩
  rw [st, sth, c5 fX9_place, c5 fX9_kind, c6 fX9_value, c6 fX9_first, c6 fX9_second, c7 fX3_place (by decide), c7 fX3_nodesFrom (by decide), c7 fX3_statementIs (by decide), c7 fX3_value (by decide), c7 fX3_inner (by decide), c7 fX3_other (by decide), c7 fX3_target (by decide)]
  exact ⟨c1, c2, c3, c4, by omega, by rw [hpl, hpl2], ⟨fr0, hpl2, by omega⟩, lo, hno, hlo, Or.inr (Or.inr (Or.inr (Or.inr (Or.inr (Or.inl ⟨hkd, ⟨a2, nd, hv1, hv2, hv3, hv4⟩, hb, h2⟩)))))⟩
theorem sQ_try {lo : Nat} {y : Int32} (h : cst g P r L S n f C1 C2 op w0 σ0 fr0 a s u z t w σ tc fr tt GI GR RW) (hu : 2 ≤ u) (hz : 0 ≤ z) (ht : 0 ≤ t) (hs : s = nn σ0 fX3_statements) (hlt : fr0 < fr) (hnx : RW fX3_nextOf = -1) (hpl : GI fX9_place = Int32.ofNat fr0) (hpl2 : RW fX3_place = Int32.ofNat fr0) (hno : RW fX3_nodesFrom = Int32.ofNat lo) (hlo : lo ≤ 1500)
    (hkd : GI fX9_kind = 7 ∧ RW fX3_statementIs = 5) (ht1 : RW fX3_toldType = 10 + y) (ht2 : iota g w L σ (GI fX9_type) y) (ht3 : iota g w L σ (GI fX9_name) (RW fX3_toldName)) (hv : RW fX3_value = -1) (hb : s_blk g r L P w σ (nn σ fX3_statements) a s (GR fX9_first) (RW fX3_inner)) (h2 : s_blk g r L P w σ (nn σ fX3_statements) a s (GR fX9_second) (RW fX3_other)) : sQ g P r L S n f C1 C2 op w0 σ0 fr0 (some a) w (Int32.ofNat s) σ := by
  have hnn := h.bnd
  obtain ⟨h1, hp, ⟨c1, c2, c3, c4, c5, c6, c7⟩, h4, h5, h6⟩ := h
  refine ⟨a, s, rfl, rfl, hs, h4, ?_, by rw [c7 _ (by decide)]; exact hnx, tc, fr, tt, h1, hp.weak hu hz ht, hlt⟩
  rw [st, sth, c5 fX9_place, c5 fX9_kind, c5 fX9_type, c5 fX9_name, c6 fX9_first, c6 fX9_second, c7 fX3_place (by decide), c7 fX3_nodesFrom (by decide), c7 fX3_statementIs (by decide), c7 fX3_value (by decide), c7 fX3_inner (by decide), c7 fX3_other (by decide), c7 fX3_toldType (by decide), c7 fX3_toldName (by decide)]
  exact ⟨c1, c2, c3, c4, by omega, by rw [hpl, hpl2], ⟨fr0, hpl2, by omega⟩, lo, hno, hlo, Or.inr (Or.inr (Or.inr (Or.inr (Or.inr (Or.inr ⟨hkd.1, hkd.2, ⟨y, ht1, ht2⟩, ht3, hv, hb, h2⟩)))))⟩
end
/-- the component's conditional, begun -/
theorem lc_cond {rc : Nat → Nat → Int32 → ch_W → Option (Except Nat (Option Nat) × ch_W)} {kd : Int32} {k : Nat} (h : pj g P r L S n f C1 C2 w σ tc fr tt op op fr) (hq : tc = 2000 + k) (hk : (k = 6 ∧ kd = 3) ∨ (k = 8 ∧ kd = 4)) : c_X4_conditional rc g r (Int32.ofNat fr) w = c_X4_conditional_18 rc g r (Int32.ofNat fr) kd (ch_nx w) (ch_nx w) (ch_nw w (ch_new 10 8)) := by
  have htk := h.1.2.2.2.2.2.2.1.2.2.2
  obtain ⟨r1, r2⟩ := pjC_room h htk.1
  obtain ⟨w1, o1, o2, hv⟩ := lc_stm1 (w := w) (kd := kd) (pl := Int32.ofNat fr) (by omega) (by omega)
  have hC := (pjC_new (w' := ch_nw w (ch_new 10 8)) h.1 (fun a ha => b_oN ha) rfl).1
  unfold c_X4_conditional
  rw [o1, Option.bind_some, d_rc hC.2.2.2.2.2.2.1.1.1, it_213 hC.2.2.2.2.2.2.1 hC.1, Option.bind_some]
  rcases hk with ⟨q1, q2⟩ | ⟨q1, q2⟩
  · rw [if_pos (show tc = 2006 by omega), if_neg (show ¬ (1 : Int32) = 0 by decide), q2]
  · rw [if_neg (show ¬ tc = 2006 by omega), if_pos rfl, q2]
/-- WHILE -/
theorem po_while {d e : Nat} (HB : BP g P r L S n f C1 C2 op d (e + 1)) (h : pj g P r L S n f C1 C2 w σ tc fr tt op op fr) (hR : rm1 L n C1 C2 w σ fr) (hn31 : n < 2 ^ 31) (hq : tc = 2008) : pos P n C1 C2 0 0 w σ fr (c_X4_conditional (cr_PS g d) g r (Int32.ofNat fr) w) (m_X3_statement_107 (cr_MB (e + 1)) 8 σ) (sQ g P r L S n f C1 C2 op w σ fr) := by
  have htk := h.1.2.2.2.2.2.2.1.2.2.2
  obtain ⟨r1, r2⟩ := pjC_room h htk.1
  obtain ⟨w1, o1, o2, hv⟩ := lc_stm1 (w := w) (kd := 4) (pl := Int32.ofNat fr) (by omega) (by omega)
  obtain ⟨hb, hc⟩ := cst_begin (kM := 2) h hR hv
  obtain ⟨v1, v2, v3, v4, v5, v6, v7, v8, v9⟩ := hv
  obtain ⟨b1, b2, b3, b4, b5, b6, b7, b8, b9⟩ := md_beg_at (σ := σ) (s := nn σ fX3_statements) (kd := 2)
  have hno1 : nn (md_beg σ (nn σ fX3_statements) 2) fX3_nodes = nn σ fX3_nodes := nn_fr md_beg_fr (by decide)
  have hnod : σ.1 fX3_nodes = Int32.ofNat (nn σ fX3_nodes) := h.2.1.2.2.2.2.2.2.1
  have hwf : σ.1 fX3_wordFrom = Int32.ofNat fr := h.2.1.2.1.1
  have hbd := hc.bnd
  rw [lc_cond (kd := 4) (k := 8) h hq (Or.inr ⟨rfl, rfl⟩)]
  unfold c_X4_conditional_18 m_X3_statement_107
  rw [o2, Option.bind_some, d_rc hc.1.1.2.2.2.2.2.2.1.1.1, if_neg (show ¬ (8 : Int32) = 6 by decide), if_neg (show ¬ (8 : Int32) = 7 by decide), if_pos rfl, hb, Option.bind_some]
  dsimp only
  refine po_cnext hc (by omega) (by omega) (by omega) (fun w2 σ2 tc2 fr2 tt2 c2 k2 n2 l2 => ?_) (fun σ2 q hq2 => ?_)
  · rw [d_rc c2.1.1.2.2.2.2.2.2.1.1.1]
    refine po_cval c2 (by omega) (by omega) (by omega) hn31 (fun w3 σ3 a3 nd3 tc3 fr3 tt3 c3 k3 t3 l3 => ?_) (fun σ3 q hq3 => ?_)
    · rw [d_rc c3.1.1.2.2.2.2.2.2.1.1.1]
      refine po_cblk (fd := fX9_first) (arr := fX3_inner) HB c3 (by omega) (by omega) (by decide) (fun w4 σ4 x4 y4 tc4 fr4 tt4 c4 k4 t4 l4 => ?_) (fun σ4 q hq4 => ?_)
      · have hk4 : ch_gi w4 (ch_nx w) fX9_kind = 4 := (c4.2.2.1.2.2.2.2.1 fX9_kind).trans v4
        have hsq : sQ g P r L S n f C1 C2 op w σ fr (some (ch_nx w)) w4 (Int32.ofNat (nn σ fX3_statements)) σ4 := by
          refine sQ_if (lo := nn σ fX3_nodes) (a2 := a3) (nd := nd3) c4 (by omega) (by omega) (by omega) rfl (by have := c4.2.1.2.2.1; have := c3.2.1.2.2.1; omega) b9 v5 (b2.trans hwf) (b3.trans hnod) (by omega) (Or.inr ⟨v4, b1⟩) rfl rfl l3 ?_ t4 (Or.inl ⟨v9, b8, fun q => ?_⟩)
          · rw [n2, hno1] at t3
            exact k4.1 _ _ _ t3
          · have : (4 : Int32) = 3 := v4.symm.trans q
            exact absurd this (by decide)
        rw [d_gI c4.2.2.1.2.2.1, hk4, if_neg (show ¬ (4 : Int32) = 3 by decide)]
        exact Or.inl ⟨_, _, _, _, rfl, rfl, hsq⟩
      · exact ⟨_, rfl, hq4⟩
    · have := hq3.2.2.2.1
      obtain ⟨p, p1, p2⟩ := dm_block (e := e) hq3 (show q < 2 ^ 31 by omega)
      rw [p1, Option.bind_some, ms_w (by decide) (by omega)]
      exact ⟨_, rfl, pd_sa p2 (by decide)⟩
  · have := hq2.2.2.2.1
    obtain ⟨p, p1, p2⟩ := dm_paren hq2 (show q < 2 ^ 31 by omega)
    obtain ⟨p3, p4, p5⟩ := dm_block (e := e) (pd_sa (arr := fX3_value) (s := nn σ fX3_statements) (v := p.1) p2 (by decide)) (show q < 2 ^ 31 by omega)
    rw [p1, Option.bind_some, ms_w (by decide) (by omega), p4, Option.bind_some, ms_w (by decide) (by omega)]
    exact ⟨_, rfl, pd_sa p5 (by decide)⟩
/-- the model's else when it is stuck -/
theorem dm_205 {e q s : Nat} {y x : Int32} (h : pds n 0 0 σ0 fr0 σ q) (hq : q < 2 ^ 31) (hs : s < 1600) : ∃ p, m_X3_statement_205 (cr_MB e) x y (Int32.ofNat s) σ = some p ∧ pds n 0 0 σ0 fr0 p.2 q := by
  have h1 := pd_sa (arr := fX3_target) (s := s) (v := y) h (by decide)
  unfold m_X3_statement_205
  rw [ms_w (by decide) hs, dm_key h1.2.1 hq, Option.bind_some, if_pos rfl]
  exact ⟨_, rfl, h1⟩
/-- IF -/
theorem po_if {d e : Nat} (HB : BP g P r L S n f C1 C2 op d (e + 1)) (h : pj g P r L S n f C1 C2 w σ tc fr tt op op fr) (hR : rm1 L n C1 C2 w σ fr) (hn31 : n < 2 ^ 31) (hq : tc = 2006) : pos P n C1 C2 0 0 w σ fr (c_X4_conditional (cr_PS g d) g r (Int32.ofNat fr) w) (m_X3_statement_107 (cr_MB (e + 1)) 6 σ) (sQ g P r L S n f C1 C2 op w σ fr) := by
  have htk := h.1.2.2.2.2.2.2.1.2.2.2
  obtain ⟨r1, r2⟩ := pjC_room h htk.1
  obtain ⟨w1, o1, o2, hv⟩ := lc_stm1 (w := w) (kd := 3) (pl := Int32.ofNat fr) (by omega) (by omega)
  obtain ⟨hb, hc⟩ := cst_begin (kM := 1) h hR hv
  obtain ⟨v1, v2, v3, v4, v5, v6, v7, v8, v9⟩ := hv
  obtain ⟨b1, b2, b3, b4, b5, b6, b7, b8, b9⟩ := md_beg_at (σ := σ) (s := nn σ fX3_statements) (kd := 1)
  have hno1 : nn (md_beg σ (nn σ fX3_statements) 1) fX3_nodes = nn σ fX3_nodes := nn_fr md_beg_fr (by decide)
  have hnod : σ.1 fX3_nodes = Int32.ofNat (nn σ fX3_nodes) := h.2.1.2.2.2.2.2.2.1
  have hwf : σ.1 fX3_wordFrom = Int32.ofNat fr := h.2.1.2.1.1
  have hbd := hc.bnd
  rw [lc_cond (kd := 3) (k := 6) h hq (Or.inl ⟨rfl, rfl⟩)]
  unfold c_X4_conditional_18 m_X3_statement_107
  rw [o2, Option.bind_some, d_rc hc.1.1.2.2.2.2.2.2.1.1.1, if_pos rfl, hb, Option.bind_some]
  dsimp only
  have hs16 : nn σ fX3_statements < 1600 := by omega
  have htail : ∀ (σ4 : ch_S) (q : Nat), pds n 0 0 σ fr σ4 q → ∃ p, ((m_X3_isKey 7 σ4).bind fun v13 => if v13 = 0 then m_X3_statement_205 (cr_MB (e + 1)) (Int32.ofNat (nn σ fX3_statements)) 0 (Int32.ofNat (nn σ fX3_statements)) σ4 else m_X3_statement_205 (cr_MB (e + 1)) (Int32.ofNat (nn σ fX3_statements)) 1 (Int32.ofNat (nn σ fX3_statements)) σ4) = some p ∧ pds n 0 0 σ fr p.2 q := by
    intro σ4 q hq4
    have := hq4.2.2.2.1
    rw [dm_key hq4.2.1 (show q < 2 ^ 31 by omega), Option.bind_some, if_pos rfl]
    exact dm_205 hq4 (by omega) hs16
  refine po_cnext hc (by omega) (by omega) (by omega) (fun w2 σ2 tc2 fr2 tt2 c2 k2 n2 l2 => ?_) (fun σ2 q hq2 => ?_)
  · rw [d_rc c2.1.1.2.2.2.2.2.2.1.1.1]
    refine po_cval c2 (by omega) (by omega) (by omega) hn31 (fun w3 σ3 a3 nd3 tc3 fr3 tt3 c3 k3 t3 l3 => ?_) (fun σ3 q hq3 => ?_)
    · rw [d_rc c3.1.1.2.2.2.2.2.2.1.1.1]
      refine po_cblk (fd := fX9_first) (arr := fX3_inner) HB c3 (by omega) (by omega) (by decide) (fun w4 σ4 x4 y4 tc4 fr4 tt4 c4 k4 t4 l4 => ?_) htail
      have hk4 : ch_gi w4 (ch_nx w) fX9_kind = 3 := (c4.2.2.1.2.2.2.2.1 fX9_kind).trans v4
      have hat4 := c4.1.1.2.2.2.2.2.2.1
      have hkey : m_X3_isKey 7 σ4 = some (if tc4 = 2000 + 7 then 1 else 0) := ms_key (c := 7) c4.1.2.1 hat4.2.2.2 (by decide) (by decide)
      rw [n2, hno1] at t3
      have hv4 := k4.1 _ _ _ t3
      have hfr4 : fr < fr4 := by have := c4.2.1.2.2.1; have := c3.2.1.2.2.1; omega
      rw [d_gI c4.2.2.1.2.2.1, hk4, if_pos rfl, d_rc hat4.1.1, it_260 hat4 c4.1.1.1, Option.bind_some, hkey, Option.bind_some]
      by_cases hel : tc4 = 2007
      · obtain ⟨c5, k5⟩ := c4.setM (arr := fX3_target) (v := 1) (by decide)
        have hkey5 : m_X3_isKey 7 (md_sa σ4 fX3_target (nn σ fX3_statements) 1) = some (if tc4 = 2000 + 7 then 1 else 0) := ms_key (c := 7) c5.1.2.1 hat4.2.2.2 (by decide) (by decide)
        rw [if_pos hel, if_neg (show ¬ (1 : Int32) = 0 by decide), if_neg (show ¬ (1 : Int32) = 0 by decide), d_rc hat4.1.1]
        unfold m_X3_statement_205
        rw [ms_w (by decide) hs16, hkey5, Option.bind_some, if_pos (show tc4 = 2000 + 7 by omega), if_neg (show ¬ (1 : Int32) = 0 by decide)]
        refine po_cnext c5 (by omega) (by omega) (by omega) (fun w6 σ6 tc6 fr6 tt6 c6 k6 n6 l6 => ?_) (fun σ6 q hq6 => ?_)
        · rw [d_rc c6.1.1.2.2.2.2.2.2.1.1.1]
          refine po_cblk (fd := fX9_second) (arr := fX3_other) HB c6 (by omega) (by omega) (by decide) (fun w7 σ7 x7 y7 tc7 fr7 tt7 c7 k7 t7 l7 => ?_) (fun σ7 q hq7 => ⟨_, rfl, hq7⟩)
          have hkk := (k5.trans k6).trans k7
          have hsq : sQ g P r L S n f C1 C2 op w σ fr (some (ch_nx w)) w7 (Int32.ofNat (nn σ fX3_statements)) σ7 := by
            exact sQ_if (lo := nn σ fX3_nodes) (a2 := a3) (nd := nd3) c7 (by omega) (by omega) (by omega) rfl (by omega) b9 v5 (b2.trans hwf) (b3.trans hnod) (by omega) (Or.inl ⟨v4, b1⟩) rfl rfl l3 (hkk.1 _ _ _ hv4) (hkk.2.1 _ _ t4) (Or.inr ⟨v4, rfl, t7⟩)
          exact Or.inl ⟨_, _, _, _, rfl, rfl, hsq⟩
        · have := hq6.2.2.2.1
          obtain ⟨p, p1, p2⟩ := dm_block (e := e) hq6 (show q < 2 ^ 31 by omega)
          rw [p1, Option.bind_some, ms_w (by decide) hs16]
          exact ⟨_, rfl, pd_sa p2 (by decide)⟩
      · obtain ⟨c5, k5⟩ := c4.setM (arr := fX3_target) (v := 0) (by decide)
        have hkey5 : m_X3_isKey 7 (md_sa σ4 fX3_target (nn σ fX3_statements) 0) = some (if tc4 = 2000 + 7 then 1 else 0) := ms_key (c := 7) c5.1.2.1 hat4.2.2.2 (by decide) (by decide)
        rw [if_neg hel, if_pos rfl, if_pos rfl]
        unfold m_X3_statement_205
        rw [ms_w (by decide) hs16, hkey5, Option.bind_some, if_neg (show ¬ tc4 = 2000 + 7 by omega), if_pos rfl]
        have hsq : sQ g P r L S n f C1 C2 op w σ fr (some (ch_nx w)) w4 (Int32.ofNat (nn σ fX3_statements)) (md_sa σ4 fX3_target (nn σ fX3_statements) 0) := by
          exact sQ_if (lo := nn σ fX3_nodes) (a2 := a3) (nd := nd3) c5 (by omega) (by omega) (by omega) rfl (by omega) b9 v5 (b2.trans hwf) (b3.trans hnod) (by omega) (Or.inl ⟨v4, b1⟩) rfl rfl l3 (k5.1 _ _ _ hv4) (k5.2.1 _ _ t4) (Or.inl ⟨v9, b8, fun _ => rfl⟩)
        exact Or.inl ⟨_, _, _, _, rfl, rfl, hsq⟩
    · have := hq3.2.2.2.1
      obtain ⟨p, p1, p2⟩ := dm_block (e := e) hq3 (show q < 2 ^ 31 by omega)
      rw [p1, Option.bind_some, ms_w (by decide) hs16]
      exact htail _ _ (pd_sa p2 (by decide))
  · have := hq2.2.2.2.1
    obtain ⟨p, p1, p2⟩ := dm_paren hq2 (show q < 2 ^ 31 by omega)
    obtain ⟨p3, p4, p5⟩ := dm_block (e := e) (pd_sa (arr := fX3_value) (s := nn σ fX3_statements) (v := p.1) p2 (by decide)) (show q < 2 ^ 31 by omega)
    rw [p1, Option.bind_some, ms_w (by decide) hs16, p4, Option.bind_some, ms_w (by decide) hs16]
    exact htail _ _ (pd_sa p5 (by decide))
end CN
