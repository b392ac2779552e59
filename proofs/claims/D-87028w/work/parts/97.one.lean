/-! LEVEL B2: expressions of both sides: what stands behind -/
set_option maxRecDepth 100000
section EX
variable {g : State} {P r L S n C1 C2 : Nat} {f : Nat → Nat} {w w' : ch_W} {σ : ch_S} {tc fr tt op om : Nat}
/-- [ ] -/
theorem po_index {d d' : Nat} (IH : ∀ d', VP g P r L S n f C1 C2 0 9 0 14 d d') {w1 : ch_W} {σ1 : ch_S} {tc1 fr1 tt1 a1 nd1 : Nat} (hA : pjA L n C1 C2 w σ fr) (h : pj g P r L S n f C1 C2 w1 σ1 tc1 fr1 tt1 op op fr1) (hq : tc1 = 1091) (hpr : pr g P r L 2 0 w σ fr w1 σ1 fr1) (hlt : fr < fr1) (ht : vt g r L P w1 σ1 a1 (nn σ fX3_nodes) nd1) (hn : nd1 + 1 = nn σ1 fX3_nodes) (hd : 9 * (30 - op) ≤ d) (hd' : 14 * (30 - op) ≤ d') (hn31 : n < 2 ^ 31) :
    po P n C1 C2 0 w σ fr (ch_tb (c_X4_opens g r (some (ch_sa g RX4 335)) w1) (fun a w => (Except.error a, w)) fun _ w20 => (ch_rc w20 (some r) 5).bind fun _ => ch_tb (cr_PA g d 0 r w20) (fun a w => (Except.error a, w)) fun v22 w23 => (c_X4_joined 12 0 (some a1) v22 w23).bind fun p24 => (ch_rc p24.2 (some r) 5).bind fun _ => ch_tb (c_X4_closes g r (some (ch_sa g RX4 337)) p24.2) (fun a w => (Except.error a, w)) fun _ w28 => some (Except.ok p24.1, w28))
      ((m_X3_opens 1 σ1).bind fun p11 => if p11.1 = 0 then ((m_X3_closes 93 p11.2).bind fun p1 => m_X3_node 7 (Int32.ofNat nd1) (-1) 0 p1) else (cr_ME d' 0 0 0 0 p11.2).bind fun p13 => (m_X3_closes 93 p13.2).bind fun p1 => m_X3_node 7 (Int32.ofNat nd1) p13.1 0 p1) (fun x w' y σ' => vQ g P r L S n f C1 C2 op w σ fr x w' y σ' ∧ nd1 + 2 < nn σ' fX3_nodes) := by
  have htk := h.1.2.2.2.2.2.2.1.2.2.2
  have hnd9 : nn σ fX3_nodes + (n - fr) ≤ 1400 := hA.2.2.2.2.1
  have stuck : ∀ (b : Int32) (σ5 : ch_S) (q : Nat) (sd : Int), pd n sd σ1 fr1 σ5 q → 1 ≤ sd → ∃ p, ((m_X3_closes 93 σ5).bind fun p1 => m_X3_node 7 (Int32.ofNat nd1) b 0 p1) = some p ∧ pd n 0 σ fr p.2 q := by
    intro b σ5 q sd hq hsd
    have hq3 := hq.2.2.2.1
    obtain ⟨σ4, d1, d2⟩ := dm_closes (c := 93) hq.2.1 (show q < 2 ^ 31 by omega)
    rw [d1, Option.bind_some]
    exact pd_node (hq.dr d2 (by omega)) hpr.2.1 hpr.2.2 (by omega) hnd9
  by_cases hop30 : ¬ op < 30
  · obtain ⟨⟨w9, o1, o2⟩, o3⟩ := pj_op30 h htk.1 (it_335 h.1.2.2.2.2.2.2.1 h.1.1) hop30
    have hdz : dr fr1 σ1 (dz σ1 fr1) := ⟨dz_fr, rfl⟩
    have hfr : fr1 < 2 ^ 31 := by have := htk.1; have := htk.2.1; omega
    obtain ⟨σ4, d1, d2⟩ := dm_closes (c := 93) hdz.dk hfr
    obtain ⟨p, p1, p2⟩ := pd_node1 (k := 7) (a := Int32.ofNat nd1) (b := -1) (c := 0) hfr h.2.1.2.2.2.2.2.2 (hdz.trans d2) hpr.2.1 hpr.2.2 (by decide) hnd9 (by have := htk.1; have := htk.2.1; omega)
    rw [tb_er o1, o3, Option.bind_some, if_pos rfl]
    dsimp only
    rw [d1, Option.bind_some]
    exact Or.inr ⟨_, w9, p.1, p.2, fr1, rfl, p1, o2.base hpr.1, p2⟩
  have hd9 : 9 ≤ d' := by omega
  have hop := po_opens1 h (Nat.le_refl _) htk.1 (by decide) (it_335 h.1.2.2.2.2.2.2.1 h.1.1) hq (by omega)
  refine po.tb2 hop hpr.1 (fun _ w2 b σ2 q => ?_) (fun b σ2 q hq2 => ?_)
  · obtain ⟨rfl, z0, hlt30, ⟨tc2, fr2, tt2, q1, q2, q3⟩, q4⟩ := q
    have hn2 : nn σ2 fX3_nodes = nn σ1 fX3_nodes := nn_fr q4 (by decide)
    rw [d_rc q1.1.2.2.2.2.2.2.1.1.1, if_neg (show ¬ (1 : Int32) = 0 by decide)]
    have hp2 := hpr.trans q2
    refine po.tb2 (IH d' w2 σ2 tc2 fr2 tt2 (op + 1) q1 (by omega) (by omega)) hp2.1 (fun x w3 y σ3 z => ?_) (fun b σ3 q hq2 => stuck b σ3 q _ (hq2.base q2.2.1 q2.2.2) (by decide))
    obtain ⟨a3, nd3, rfl, rfl, z1, z2, tc3, fr3, tt3, z3, z4, z5⟩ := z
    have htk3 := z3.1.2.2.2.2.2.2.1.2.2.2
    obtain ⟨r1, r2⟩ := pjC_room z3 htk3.1
    obtain ⟨w4, j1, j2⟩ := lc_joined (k := 12) (x := 0) (lf := some a1) (rt := some a3) (w := w3) (by omega) (by omega)
    obtain ⟨v1, v2, v3, v4, v5, v6, v7, v8, v9⟩ := j2
    have hp3 := hp2.trans z4
    obtain ⟨b1, b2, b3, b4, b5⟩ := pj_alloc2 hA z3 hp3 (by decide) (by decide) v1 v2 (by decide)
    rw [j1, Option.bind_some]
    dsimp only
    rw [d_rc b1.1.2.2.2.2.2.2.1.1.1, o_split (X := m_X3_closes 93 σ3) (Int32.ofNat nd3)]
    refine po.tb2 (po_closes (c := 93) (v := Int32.ofNat nd3) b1 (by decide) (it_337 b1.1.2.2.2.2.2.2.1 b1.1.1)) b3.1 (fun _ w8 b8 σ8 x => ?_) (fun b8 σ8 q hq8 => pd_node hq8 b3.2.1 b3.2.2 (by decide) hnd9)
    obtain ⟨rfl, x1, ⟨tc8, fr8, tt8, x2, x3, x4⟩, x5⟩ := x
    have hn8 : nn σ8 fX3_nodes = nn σ3 fX3_nodes := nn_fr x5 (by decide)
    have hA8 := x2.2.2
    unfold pjA at hA8
    have hnn : nn σ8 fX3_nodes = nd3 + 1 := by omega
    have hnd : σ8.1 fX3_nodes = Int32.ofNat (nd3 + 1) := by rw [← hnn]; exact x2.2.1.2.2.2.2.2.2.1
    have hnode := ms_node (σ := σ8) (k := 7) (a := Int32.ofNat nd1) (b := Int32.ofNat nd3) (c := 0) hnd (by omega)
    obtain ⟨g1, g2, g3, g4⟩ := md_node_at (σ := σ8) (k := 7) (a := Int32.ofNat nd1) (b := Int32.ofNat nd3) (c := 0) (nd := nd3 + 1)
    have hm9 := mf_node (σ := σ8) (k := 7) (a := Int32.ofNat nd1) (b := Int32.ofNat nd3) (c := 0) hnn (by omega)
    have hn9 : nn (md_node σ8 (nd3 + 1) 7 (Int32.ofNat nd1) (Int32.ofNat nd3) 0) fX3_nodes = nd3 + 2 := nn_node (by omega)
    have hl9 : nn (md_node σ8 (nd3 + 1) 7 (Int32.ofNat nd1) (Int32.ofNat nd3) 0) fX3_listed = nn σ8 fX3_listed := nn_fr md_node_fr (by decide)
    have hs9 : nn (md_node σ8 (nd3 + 1) 7 (Int32.ofNat nd1) (Int32.ofNat nd3) 0) fX3_statements = nn σ8 fX3_statements := nn_fr md_node_fr (by decide)
    have hp8 := b3.trans x3
    have hp9 : pr g P r L (2 + 4 + 2 - 1 + 4) (0 + 1 + 0 + 1 - 1) w σ fr w8 (md_node σ8 (nd3 + 1) 7 (Int32.ofNat nd1) (Int32.ofNat nd3) 0) fr8 := by
      refine ⟨hp8.1, hp8.2.1.trans hm9, ?_⟩
      have hb := hp8.2.2
      unfold bd at *
      rw [hn9, hl9, hs9]
      omega
    obtain ⟨k3, k4⟩ := x3.1.2.1 _ b4
    obtain ⟨t1, t2, t3, t4, t5⟩ := b_cell k3
    have hv1 := vt.keep ((q2.1.trans z4.1).trans (b2.1.trans x3.1)) ((q2.2.1.trans z4.2.1).trans ((b2.2.1.trans x3.2.1).trans hm9)) (by omega) (by omega) (nd1 + 1) a1 _ _ (by omega) ht
    have hv3 : vt g r L P w8 (md_node σ8 (nd3 + 1) 7 (Int32.ofNat nd1) (Int32.ofNat nd3) 0) a3 (nd1 + 1) nd3 := by
      rw [hn, ← hn2]
      exact vt.keep (b2.1.trans x3.1) ((b2.2.1.trans x3.2.1).trans hm9) (by omega) (by omega) (nd3 + 1) a3 _ _ (by omega) z2
    have hk2 : nd1 + 1 ≤ nd3 := by rw [vt] at hv3; exact hv3.2.2.2.1
    refine Or.inl ⟨some (ch_nx w3), w8, Int32.ofNat (nd3 + 1), _, rfl, hnode, ⟨ch_nx w3, nd3 + 1, rfl, rfl, by omega, vt_bi hv1 hv3 k4 b5 (by rw [t1]; exact v3) (by omega) (by omega) (by rw [t4]; exact v7) (by rw [t4]; exact v8) g2 g3 (Or.inl ⟨by rw [t3]; exact v4, g1⟩), ?_⟩, by omega⟩
    exact pg.mk hA x2.1 (pjM_node x2.2.1 hnn (by omega)) hp9 (by decide) (by decide) (by omega)
  · have hq3 := hq2.2.2.2.1
    dsimp only
    by_cases hb : b = 0
    · rw [if_pos hb]
      exact stuck (-1) σ2 q 1 hq2 (by decide)
    · rw [if_neg hb]
      obtain ⟨σ6, d1, d2⟩ := dm_0 (d := d' - 9) hq2.2.1 (show q < 2 ^ 31 by omega)
      rw [show d' - 9 + 9 = d' by omega] at d1
      rw [d1, Option.bind_some]
      exact stuck (-1) σ6 q 1 (hq2.dr d2 (by omega)) (by decide)
/-- . name, . name ( ) -/
theorem po_member {d d' : Nat} (IA : ∀ d', VA g P r L S n f C1 C2 d d') {w1 : ch_W} {σ1 : ch_S} {tc1 fr1 tt1 a1 nd1 : Nat} (hA : pjA L n C1 C2 w σ fr) (h : pj g P r L S n f C1 C2 w1 σ1 tc1 fr1 tt1 op op fr1) (h0 : tc1 ≠ 0) (hpr : pr g P r L 2 0 w σ fr w1 σ1 fr1) (hlt : fr < fr1) (ht : vt g r L P w1 σ1 a1 (nn σ fX3_nodes) nd1) (hn : nd1 + 1 = nn σ1 fX3_nodes) (hd : 9 * (30 - op) + 1 ≤ d) (hd' : 14 * (30 - op) + 1 ≤ d') (hn31 : n < 2 ^ 31) :
    po P n C1 C2 0 w σ fr (ch_tb (c_X4_next g r w1) (fun a w => (Except.error a, w)) fun _ w31 => (ch_rc w31 (some r) 5).bind fun _ => ch_tb (c_X4_nextName g r w31) (fun a w => (Except.error a, w)) fun v33 w34 => (c_X4_joined 10 v33 (some a1) none w34).bind fun p35 => (ch_rc p35.2 (some r) 5).bind fun _ => (c_X4_isThe g r (some (ch_sa g RX4 171)) p35.2).bind fun v38 => if v38 = 0 then some (Except.ok p35.1, p35.2) else ((ch_gI p35.2 p35.1 11 fX10_what).bind fun v40 => (ch_gR p35.2 p35.1 11 fX10_left).bind fun v41 => (c_X4_joined 11 v40 v41 none p35.2).bind fun p42 => (ch_rc p42.2 (some r) 5).bind fun _ => ch_tb (cr_PA g d 8 r p42.2) (fun a w => (Except.error a, w)) fun v45 w46 => (ch_pR w46 p42.1 11 fX10_arguments v45).bind fun w47 => some (Except.ok p42.1, w47)))
      ((m_X3_next σ1).bind fun p15 => (m_X3_name p15).bind fun p17 => (m_X3_isSign 40 p17.2).bind fun v19 => if v19 = 0 then m_X3_node 6 (Int32.ofNat nd1) 0 p17.1 p17.2 else cr_ME d' 9 8 (Int32.ofNat nd1) p17.1 p17.2) (fun x w' y σ' => vQ g P r L S n f C1 C2 op w σ fr x w' y σ' ∧ nd1 + 1 < nn σ' fX3_nodes) := by
  have htk := h.1.2.2.2.2.2.2.1.2.2.2
  have hnd9 : nn σ fX3_nodes + (n - fr) ≤ 1400 := hA.2.2.2.2.1
  rw [o_split 0]
  refine po.tb2 (po_next h h0 (Nat.le_refl _) htk.1) hpr.1 (fun _ w2 b σ2 q => ?_) (fun b σ2 q hq2 => ?_)
  · obtain ⟨rfl, ⟨tc2, fr2, tt2, q1, q2, q3⟩, q4⟩ := q
    rw [d_rc q1.1.2.2.2.2.2.2.1.1.1]
    have hnn : nn σ2 fX3_nodes = nn σ1 fX3_nodes := nn_fr q4 (by decide)
    have hp2 := hpr.trans q2
    refine po.tb2 (po_name q1) hp2.1 (fun x w3 y σ3 z => ?_) (fun b σ3 q hq2 => ?_)
    · obtain ⟨y1, ⟨i, j, rfl, y2, rfl, y3, y4, y5⟩, ⟨tc3, fr3, tt3, y6, y7, y8⟩, y9⟩ := z
      have hn3 : nn σ3 fX3_nodes = nn σ2 fX3_nodes := nn_fr y9 (by decide)
      have hll : nn σ3 fX3_listed ≤ 1500 := by have := y6.2.2.2.2.2.2.2.1; omega
      have hnb : nn σ3 fX3_nodes ≤ 1500 := by have := y6.2.2.2.2.2.2.1; omega
      have ht3 := vt.keep (q2.1.trans y7.1) (q2.2.1.trans y7.2.1) hnb hll (nd1 + 1) a1 _ _ (by omega) ht
      have hp3 := hp2.trans y7
      have htk3 := y6.1.2.2.2.2.2.2.1.2.2.2
      obtain ⟨w4, σ4, x1, x2, x3, x4, x5, x6⟩ := pj_nmv (kd := 10) (is := 6) hA y6 hp3 (by decide) (by decide) (by omega) ht3 (by omega) y2 y3 y4 y5 (Or.inl ⟨rfl, rfl⟩)
      have s1 : m_X3_isSign 40 σ3 = _ := ms_sign (c := 40) y6.2.1 htk3 (by decide)
      have hat4 := x5.1.2.2.2.2.2.2.1
      rw [x1, Option.bind_some]
      dsimp only
      rw [d_rc hat4.1.1, it_171 hat4 x5.1.1, Option.bind_some, s1, Option.bind_some]
      by_cases hz : tc3 = 1040
      · rw [if_pos hz, if_neg (show ¬ (1 : Int32) = 0 by decide), if_neg (show ¬ (1 : Int32) = 0 by decide)]
        obtain ⟨r1, r2⟩ := pjC_room y6 htk3.1
        obtain ⟨w4', j1, j2⟩ := lc_joined (k := 10) (x := Int32.ofNat i) (lf := some a1) (rt := none) (w := w3) (by omega) (by omega)
        have hw4 : w4' = w4 := by
          rw [x1] at j1
          exact (congrArg Prod.snd (Option.some.inj j1)).symm
        rw [hw4] at j2
        obtain ⟨v1, v2, v3, v4, v5, v6, v7, v8, v9⟩ := j2
        obtain ⟨c1, c2, c3, c4, c5⟩ := pj_alloc2 hA y6 hp3 (by decide) (by decide) v1 v2 (by decide)
        rw [d_gI v3, v5, d_gR v3, v7]
        obtain ⟨r3, r4⟩ := pjC_room c1 htk3.1
        obtain ⟨w5, k1, k2⟩ := lc_joined (k := 11) (x := Int32.ofNat i) (lf := some a1) (rt := none) (w := w4) (by omega) (by omega)
        obtain ⟨u1, u2, u3, u4, u5, u6, u7, u8, u9⟩ := k2
        obtain ⟨e1, e2, e3, e4, e5⟩ := pj_alloc2 hA c1 c3 (by decide) (by decide) u1 u2 (by decide)
        rw [k1, Option.bind_some]
        dsimp only
        rw [d_rc e1.1.2.2.2.2.2.2.1.1.1]
        have hx43 : ch_nx w ≤ ch_nx w4 := c3.1.1
        rw [hz] at e1
        refine po.last (IA d' w5 σ3 fr3 tt3 op 8 (Int32.ofNat nd1) (Int32.ofNat j) e1 hd hd') e3 (by decide) (fun x6' w6 b6 σ6 z => ?_)
        obtain ⟨v, m, B, Y, nd, rfl, rfl, z1, z2, z3, z4, z5, z6, z7, z8, z9, z10, z11, z12, z13, z14, z15, tc6, fr6, tt6, z16, z17, z18⟩ := z
        obtain ⟨t1, t2⟩ := z17.1.2.1 _ e4
        obtain ⟨f1, f2, f3, f4, f5⟩ := b_cell t1
        have hb6 := z16.2.2
        unfold pjA at hb6
        have hv6 := vt.keep ((c2.1.trans e2.1).trans z17.1) ((c2.2.1.trans e2.2.1).trans z17.2.1) (by omega) (by omega) (nd1 + 1) a1 _ _ (by omega) ht3
        have hlo1 : nn σ fX3_nodes ≤ nd1 := by rw [vt] at ht; exact ht.2.2.2.1
        have h9 : ∀ k : Nat, k ≤ m → Y 0 ≤ Y k := by
          intro k
          induction k with
          | zero => intro _; exact Nat.le_refl _
          | succ k ihk =>
            intro hk
            have := (z15 k (by omega)).1
            have := ihk (by omega)
            omega
        have hYm := h9 m (Nat.le_refl _)
        have hY0 : Y 0 = nd1 + 1 := by rw [z13, hn3, hnn, hn]
        refine ⟨some (ch_nx w4), ch_sr w6 (ch_nx w4) fX10_arguments (some v), ?_, ?_, by omega⟩
        · show (ch_pR w6 (some (ch_nx w4)) 11 fX10_arguments (some v)).bind _ = _
          rw [d_pR (by rw [f1]; exact u3)]
        · exact pj_call (σ4 := σ6) hA z16 (e3.trans z17) (by decide) (by decide) (by omega) hx43 t2 e5 (by rw [f1]; exact u3) (Or.inr ⟨by rw [f3]; exact u4, z6, a1, nd1, by rw [f4]; exact u7, by omega, z7, hv6, hY0⟩) (by rw [f4]; exact u9) (by rw [f3]; exact u5) y2 y3 (((c2.trans e2).trans z17).1.2.2 i _ y4) (((c2.trans e2).trans z17).2.1.2.2.2.2.2.2.2.2.2 j _ y5) rfl z1 z2 z3 z4 z5 z8 z9 z10 z11 z12 z14 z15 (by omega)
      · rw [if_neg hz, if_pos rfl, if_pos rfl]
        exact Or.inl ⟨_, w4, _, σ4, rfl, x2, x3, x4⟩
    · have hq3 := hq2.2.2.2.1
      dsimp only
      rw [dm_sign hq2.2.1 (show q < 2 ^ 31 by omega), Option.bind_some, if_pos rfl]
      exact pd_node hq2 hp2.2.1 hp2.2.2 (by decide) hnd9
  · have hq3 := hq2.2.2.2.1
    obtain ⟨σ3, d1, d2⟩ := dm_name hq2.2.1 (show q < 2 ^ 31 by omega)
    dsimp only
    rw [d1, Option.bind_some]
    dsimp only
    rw [dm_sign d2.dk (show q < 2 ^ 31 by omega), Option.bind_some, if_pos rfl]
    exact pd_node (hq2.dr d2 (by omega)) hpr.2.1 hpr.2.2 (by decide) hnd9
end EX
