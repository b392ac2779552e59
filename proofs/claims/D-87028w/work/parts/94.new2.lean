/-! LEVEL B2: expressions of both sides: new, names, calls -/
set_option maxRecDepth 100000
/-- what arguments leave -/
def aQ (g : State) (P r L S n : Nat) (f : Nat → Nat) (C1 C2 op : Nat) (w : ch_W) (σ : ch_S) (fr : Nat) (kind x id : Int32) (xv : Option Nat) (w' : ch_W) (y : Int32) (σ' : ch_S) : Prop := ∃ (v m B : Nat) (Y : Nat → Nat) (nd : Nat), xv = some v ∧ y = Int32.ofNat nd ∧ nd + 1 = nn σ' fX3_nodes ∧ ow r L P w' v ∧ P ≤ v ∧ ch_tg w' v = 27 ∧ ch_ln w' v = m ∧ σ'.2 fX3_is nd = kind ∧ σ'.2 fX3_one nd = x ∧ σ'.2 fX3_of nd = id ∧ σ'.2 fX3_two nd = Int32.ofNat B ∧ σ'.2 fX3_typeOf nd = Int32.ofNat m ∧ B + m ≤ nn σ' fX3_listed ∧ m ≤ 1400 ∧ Y 0 = nn σ fX3_nodes ∧ Y m = nd ∧ (∀ i : Nat, i < m → Y i < Y (i + 1) ∧ Y (i + 1) ≤ nd ∧ σ'.2 fX3_list (B + i) = Int32.ofNat (Y (i + 1) - 1) ∧ ∃ b, ch_gr w' v i = some b ∧ vt g r L P w' σ' b (Y i) (Y (i + 1) - 1)) ∧ pg g P r L S n f C1 C2 2 0 op op w σ fr w' σ'
def VA (g : State) (P r L S n : Nat) (f : Nat → Nat) (C1 C2 d d' : Nat) : Prop := ∀ (w : ch_W) (σ : ch_S) (fr tt op : Nat) (kind x id : Int32), pj g P r L S n f C1 C2 w σ 1040 fr tt op op fr → 9 * (30 - op) + 1 ≤ d → 14 * (30 - op) + 1 ≤ d' → po P n C1 C2 0 w σ fr (cr_PA g d 8 r w) (cr_ME d' 9 kind x id σ) (aQ g P r L S n f C1 C2 op w σ fr kind x id)
section EX
variable {g : State} {P r L S n C1 C2 : Nat} {f : Nat → Nat} {w w' : ch_W} {σ : ch_S} {tc fr tt op om : Nat}
/-- a field of a value that is in no tree yet -/
theorem pj_fld {w5 w6 : ch_W} {σ5 : ch_S} {tc5 fr5 tt5 a : Nat} (h : pj g P r L S n f C1 C2 w5 σ5 tc5 fr5 tt5 op om fr5) (ha : ow r L P w5 a) (hP : P ≤ a) (ht : ch_tg w5 a = 11) (hno : ∀ lo n : Nat, ¬ vt g r L P w5 σ5 a lo n) (ho : ∀ x : Nat, x ≠ a → w6.1 x = w5.1 x) (h2 : w6.2 = w5.2) : pj g P r L S n f C1 C2 w6 σ5 tc5 fr5 tt5 op om fr5 ∧ (∀ b lo nd : Nat, vt g r L P w5 σ5 b lo nd → vt g r L P w6 σ5 b lo nd) ∧ (∀ x : Nat, ow r L P w5 x → ow r L P w6 x) ∧ (∀ w0, pf g r L P w0 w5 → ch_nx w0 ≤ a → pf g r L P w0 w6) ∧ cpN w6 L = cpN w5 L ∧ ch_cs w6 = ch_cs w5 ∧ ch_sl w6 = ch_sl w5 ∧ ∀ (i : Nat) (t : List Nat), cn g w5 L i t → cn g w6 L i t := by
  have hx : ch_nx w6 = ch_nx w5 := by unfold ch_nx; rw [h2]
  have hc : ch_cs w6 = ch_cs w5 := by unfold ch_cs; rw [h2]
  have hs : ch_sl w6 = ch_sl w5 := by unfold ch_sl; rw [h2]
  obtain ⟨c1, c2, c3, c4⟩ := pjC_set (w' := w6) h.1 ha hP (by rw [ht]; decide) ho hx
  have hA : pjA L n C1 C2 w6 σ5 fr5 := by
    have := h.2.2
    unfold pjA at *
    rw [c2, hc, hs]
    exact this
  have hb := h.2.2
  unfold pjA at hb
  have hcn : ∀ (i : Nat) (t : List Nat), cn g w5 L i t → cn g w6 L i t := by
    intro i t hc
    obtain ⟨A0, k1, cap1, E0, T0, h1, h2, h3⟩ := hc
    have hx : a ≠ L ∧ ch_gr w5 L fJ5_elementData ≠ some a := by
      rcases ha with q | q
      · omega
      · exact ⟨q.2.2.1, q.2.2.2⟩
    exact ⟨A0, k1, cap1, E0, T0, h1.keep (ho _ (fun q => hx.1 q.symm)) (ho _ (fun q => hx.2 (by rw [← q]; exact h1.1.2.1))) (fun i hi => ho _ (fun q => by
      have := (h1.2.1 i hi).1
      rw [q, ht] at this
      cases this)), h2, h3⟩
  refine ⟨⟨c1, h.2.1, hA⟩, fun b lo nd hv => ?_, c3, c4, c2, hc, hs, hcn⟩
  refine vt.keep0 (fun x hx hor => ?_) hcn mf.refl.mg (by omega) (by omega) (nd + 1) b lo nd (by omega) hv
  have hxa : x ≠ a := by
    intro q
    rw [q] at hor
    rcases hor with ⟨lo', n', q2⟩ | q2
    · exact hno lo' n' q2
    · rw [ht] at q2; cases q2
  exact ⟨ho x hxa, c3 x hx⟩
theorem vt_noA {g : State} {r L P : Nat} {w : ch_W} {σ : ch_S} {a : Nat} (hk : ch_gi w a fX10_kind = 5 ∨ ch_gi w a fX10_kind = 11) (hr : ch_gr w a fX10_arguments = none) : ∀ lo n : Nat, ¬ vt g r L P w σ a lo n := by
  intro lo n h
  rw [vt] at h
  obtain ⟨-, -, -, -, -, -, h7⟩ := h
  rcases h7 with ⟨-, p2⟩ | ⟨p1, -⟩ | ⟨p1, -⟩ | ⟨p1, -⟩ | ⟨-, -, -, v, m, B, Y, p1, -⟩ | ⟨-, -, -, c, x, -, -, -, -, v, m, B, Y, p1, -⟩
  · unfold v_leaf at p2
    rcases hk with hk | hk <;> rw [hk] at p2 <;> rcases p2 with q | q | q | q | q | q | q <;> exact absurd q.1 (by decide)
  · unfold v_un at p1
    rcases hk with hk | hk <;> rw [hk] at p1 <;> rcases p1 with q | q | q <;> exact absurd q.1 (by decide)
  · unfold v_nm at p1
    rcases hk with hk | hk <;> rw [hk] at p1 <;> rcases p1.1 with q | q | q <;> exact absurd q.1 (by decide)
  · unfold v_bi at p1
    rcases hk with hk | hk <;> rw [hk] at p1 <;> rcases p1 with q | q | q | q <;> exact absurd q.1 (by decide)
  · have := p1.1
    rw [hr] at this; cases this
  · have := p1.1
    rw [hr] at this; cases this
/-- a value without parts, and its node -/
theorem pj_leafv {u s : Int} {w3 w4 : ch_W} {σ3 : ch_S} {tc3 fr3 tt3 : Nat} {kd wh is of : Int32} (hA : pjA L n C1 C2 w σ fr) (h : pj g P r L S n f C1 C2 w3 σ3 tc3 fr3 tt3 op op fr3) (hp : pr g P r L u s w σ fr w3 σ3 fr3) (hu : 3 ≤ u) (hs : 1 ≤ s) (hlt : fr < fr3) (hn : nn σ3 fX3_nodes = nn σ fX3_nodes) (hv : vn w3 w4 kd wh (-1) none none none) (hl : ∀ (w' : ch_W) (σ' : ch_S) (a m : Nat), pf g r L P w3 w' → mf σ3 σ' → ch_gi w' a fX10_kind = kd → ch_gi w' a fX10_what = wh → σ'.2 fX3_is m = is → σ'.2 fX3_of m = of → v_leaf g L w' σ' a m) :
    ∃ σ4, m_X3_node is 0 0 of σ3 = some (Int32.ofNat (nn σ fX3_nodes), σ4) ∧ vQ g P r L S n f C1 C2 op w σ fr (some (ch_nx w3)) w4 (Int32.ofNat (nn σ fX3_nodes)) σ4 := by
  obtain ⟨v1, v2, v3, v4, v5, v6, v7, v8, v9⟩ := hv
  obtain ⟨a1, a2, a3, a4, a5⟩ := pj_alloc2 hA h hp (by omega) (by omega) v1 v2 (by decide)
  exact pj_leafn hA a1 a3 (by omega) (by omega) hlt hn a4 a5 v3 (fun σ' m x0 x1 x2 => hl _ _ _ _ a2.1 x0 v4 v5 x1 x2)
/-- new ints [ ] -/
theorem po_ints {d d' : Nat} (IH : ∀ d', VP g P r L S n f C1 C2 0 9 0 14 d d') {w3 : ch_W} {σ3 : ch_S} {tc3 fr3 tt3 : Nat} (hA : pjA L n C1 C2 w σ fr) (h : pj g P r L S n f C1 C2 w3 σ3 tc3 fr3 tt3 op op fr3) (hp : pr g P r L 8 2 w σ fr w3 σ3 fr3) (hlt : fr < fr3) (hn : nn σ3 fX3_nodes = nn σ fX3_nodes) (hd : 9 * (30 - op) ≤ d) (hd' : 14 * (30 - op) ≤ d') (hn31 : n < 2 ^ 31) :
    po P n C1 C2 0 w σ fr ((ch_nO w3 11 6).bind fun w42 => (c_X10_init (ch_nx w3) 7 0 w42).bind fun p43 => (ch_rc p43 (some r) 5).bind fun _ => ch_tb (c_X4_opens g r (some (ch_sa g RX4 335)) p43) (fun a w => (Except.error a, w)) fun _ w47 => (ch_rc w47 (some r) 5).bind fun _ => ch_tb (cr_PA g d 0 r w47) (fun a w => (Except.error a, w)) fun v49 w50 => (ch_pR w50 (some (ch_nx w3)) 11 fX10_right v49).bind fun w51 => (ch_rc w51 (some r) 5).bind fun _ => ch_tb (c_X4_closes g r (some (ch_sa g RX4 337)) w51) (fun a w => (Except.error a, w)) fun _ w54 => some (Except.ok (some (ch_nx w3)), w54))
      ((m_X3_isSign 91 σ3).bind fun v17 => (m_X3_opens v17 σ3).bind fun p19 => if p19.1 = 0 then m_X3_first_205 (cr_ME d') (-1) p19.2 else (cr_ME d' 0 0 0 0 p19.2).bind fun p21 => m_X3_first_205 (cr_ME d') p21.1 p21.2) (vQ g P r L S n f C1 C2 op w σ fr) := by
  have htk := h.1.2.2.2.2.2.2.1.2.2.2
  obtain ⟨r1, r2⟩ := pjC_room h htk.1
  obtain ⟨w4, e1, e2⟩ := lc_val (w := w3) (k := 7) (x := 0) (F := fun p43 => (ch_rc p43 (some r) 5).bind fun _ => ch_tb (c_X4_opens g r (some (ch_sa g RX4 335)) p43) (fun a w => (Except.error a, w)) fun _ w47 => (ch_rc w47 (some r) 5).bind fun _ => ch_tb (cr_PA g d 0 r w47) (fun a w => (Except.error a, w)) fun v49 w50 => (ch_pR w50 (some (ch_nx w3)) 11 fX10_right v49).bind fun w51 => (ch_rc w51 (some r) 5).bind fun _ => ch_tb (c_X4_closes g r (some (ch_sa g RX4 337)) w51) (fun a w => (Except.error a, w)) fun _ w54 => some (Except.ok (some (ch_nx w3)), w54)) (by omega) (by omega)
  obtain ⟨v1, v2, v3, v4, v5, v6, v7, v8, v9⟩ := e2
  obtain ⟨a1, a2, a3, a4, a5⟩ := pj_alloc2 hA h hp (by decide) (by decide) v1 v2 (by decide)
  have hxn := hp.1.1
  have s1 : m_X3_isSign 91 σ3 = _ := ms_sign (c := 91) h.2.1 htk (by decide)
  rw [e1, d_rc a1.1.2.2.2.2.2.2.1.1.1, s1, Option.bind_some]
  have stuck : ∀ (b : Int32) (σ1 : ch_S) (q : Nat) (sd : Int), pd n sd σ3 fr3 σ1 q → 0 ≤ sd → ∃ p, m_X3_first_205 (cr_ME d') b σ1 = some p ∧ pd n 0 σ fr p.2 q := by
    intro b σ1 q sd hq hsd
    have hq3 := hq.2.2.2.1
    obtain ⟨σ4, d1, d2⟩ := dm_closes (c := 93) hq.2.1 (show q < 2 ^ 31 by omega)
    unfold m_X3_first_205
    simp only [pe_id]
    rw [d1, Option.bind_some]
    exact pd_node (hq.dr d2 (by omega)) hp.2.1 hp.2.2 (by omega) hA.2.2.2.2.1
  by_cases hop30 : ¬ op < 30
  · obtain ⟨⟨w9, o1, o2⟩, o3⟩ := pj_op30 a1 htk.1 (it_335 a1.1.2.2.2.2.2.2.1 a1.1.1) hop30
    obtain ⟨p, p1, p2⟩ := stuck (-1) (dz σ3 fr3) fr3 0 (dz_pd h.2.1 htk) (by decide)
    rw [tb_er o1, o3, Option.bind_some, if_pos rfl]
    exact Or.inr ⟨_, w9, p.1, p.2, fr3, rfl, p1, o2.base a3.1, p2⟩
  have hd9 : 9 ≤ d' := by omega
  refine po.tb2 (po_opens a1 (Nat.le_refl _) htk.1 (by decide) (it_335 a1.1.2.2.2.2.2.2.1 a1.1.1)) a3.1 (fun _ w5 b σ5 q => ?_) (fun b σ5 q hq2 => ?_)
  · obtain ⟨rfl, z0, hlt30, ⟨tc5, fr5, tt5, q1, q2, q3⟩, q4⟩ := q
    have hn5 : nn σ5 fX3_nodes = nn σ3 fX3_nodes := nn_fr q4 (by decide)
    rw [d_rc q1.1.2.2.2.2.2.2.1.1.1, if_neg (show ¬ (1 : Int32) = 0 by decide)]
    have hp5 := a3.trans q2
    refine po.tb2 (IH d' w5 σ5 tc5 fr5 tt5 (op + 1) q1 (by omega) (by omega)) hp5.1 (fun x w6 y σ6 z => ?_) (fun b σ6 q hq2 => ?_)
    · obtain ⟨a6, nd6, rfl, rfl, z1, z2, tc6, fr6, tt6, z3, z4, z5⟩ := z
      have hkeep := (q2.trans z4).1
      obtain ⟨k1, k2⟩ := hkeep.2.1 _ a4
      obtain ⟨f1, f2, f3, f4, f5⟩ := b_cell k1
      rw [d_pR (by rw [f1]; exact v3)]
      obtain ⟨y1, y2, y3, y4, y5⟩ := pj_right z3 k2 a5 (by rw [f1]; exact v3) (Or.inl (by rw [f3]; exact v4)) (by rw [f4]; exact v8) z2
      rw [d_rc y1.1.2.2.2.2.2.2.1.1.1]
      have hp6 := hp5.trans z4
      have hp7 : pr g P r L (8 - 1 + 4 + 2) (2 + 1 + 0) w σ fr (ch_sr w6 (ch_nx w3) fX10_right (some a6)) σ6 fr6 := by
        refine ⟨y4 w hp6.1 hxn, hp6.2.1, ?_⟩
        have hb := hp6.2.2
        unfold bd at *
        rw [y5]
        exact hb
      unfold m_X3_first_205
      simp only [pe_id]
      rw [o_split (X := m_X3_closes 93 σ6) (Int32.ofNat nd6)]
      refine po.tb2 (po_closes (c := 93) (v := Int32.ofNat nd6) y1 (by decide) (it_337 y1.1.2.2.2.2.2.2.1 y1.1.1)) hp7.1 (fun _ w8 b8 σ8 x => ?_) (fun b8 σ8 q hq8 => ?_)
      · obtain ⟨rfl, x1, ⟨tc8, fr8, tt8, x2, x3, x4⟩, x5⟩ := x
        have hn8 : nn σ8 fX3_nodes = nn σ6 fX3_nodes := nn_fr x5 (by decide)
        have hA8 := x2.2.2
        unfold pjA at hA8
        have hnn : nn σ8 fX3_nodes = nd6 + 1 := by omega
        have hnd : σ8.1 fX3_nodes = Int32.ofNat (nd6 + 1) := by rw [← hnn]; exact x2.2.1.2.2.2.2.2.2.1
        have hnode := ms_node (σ := σ8) (k := 12) (a := Int32.ofNat nd6) (b := 0) (c := 0) hnd (by omega)
        obtain ⟨g1, g2, g3, g4⟩ := md_node_at (σ := σ8) (k := 12) (a := Int32.ofNat nd6) (b := 0) (c := 0) (nd := nd6 + 1)
        have hm9 := mf_node (σ := σ8) (k := 12) (a := Int32.ofNat nd6) (b := 0) (c := 0) hnn (by omega)
        have hn9 : nn (md_node σ8 (nd6 + 1) 12 (Int32.ofNat nd6) 0 0) fX3_nodes = nd6 + 2 := nn_node (by omega)
        have hl9 : nn (md_node σ8 (nd6 + 1) 12 (Int32.ofNat nd6) 0 0) fX3_listed = nn σ8 fX3_listed := nn_fr md_node_fr (by decide)
        have hs9 : nn (md_node σ8 (nd6 + 1) 12 (Int32.ofNat nd6) 0 0) fX3_statements = nn σ8 fX3_statements := nn_fr md_node_fr (by decide)
        have hp8 := hp7.trans x3
        have hp9 : pr g P r L (8 - 1 + 4 + 2 + 4) (2 + 1 + 0 + 1 - 1) w σ fr w8 (md_node σ8 (nd6 + 1) 12 (Int32.ofNat nd6) 0 0) fr8 := by
          refine ⟨hp8.1, hp8.2.1.trans hm9, ?_⟩
          have hb := hp8.2.2
          unfold bd at *
          rw [hn9, hl9, hs9]
          omega
        obtain ⟨k3, k4⟩ := x3.1.2.1 _ y3
        obtain ⟨t1, t2, t3, t4, t5⟩ := b_cell k3
        have hv8 : vt g r L P w8 (md_node σ8 (nd6 + 1) 12 (Int32.ofNat nd6) 0 0) a6 (nn σ fX3_nodes) nd6 := by
          rw [← hn, ← hn5]
          exact vt.keep x3.1 (x3.2.1.trans hm9) (by omega) (by omega) (nd6 + 1) a6 _ _ (by omega) y2
        refine Or.inl ⟨some (ch_nx w3), w8, Int32.ofNat (nd6 + 1), _, rfl, hnode, ch_nx w3, nd6 + 1, rfl, rfl, by omega, vt_un hv8 k4 a5 (by rw [t1, b_tR, f1]; exact v3) (by omega) (by omega) (by rw [t4, b_RR, if_pos ⟨rfl, rfl⟩]) g2 (Or.inl ⟨by rw [t3, b_IR, f3]; exact v4, g1⟩), ?_⟩
        exact pg.mk hA x2.1 (pjM_node x2.2.1 hnn (by omega)) hp9 (by decide) (by decide) (by omega)
      · exact pd_node hq8 hp7.2.1 hp7.2.2 (by decide) hA.2.2.2.2.1
    · exact stuck b σ6 q _ (hq2.base q2.2.1 q2.2.2) (by decide)
  · have hq3 := hq2.2.2.2.1
    by_cases hb : b = 0
    · show ∃ p, (if b = 0 then _ else _) = some p ∧ _
      rw [if_pos hb]
      exact stuck (-1) σ5 q 0 hq2 (by decide)
    · show ∃ p, (if b = 0 then _ else _) = some p ∧ _
      rw [if_neg hb]
      obtain ⟨σ6, d1, d2⟩ := dm_0 (d := d' - 9) hq2.2.1 (show q < 2 ^ 31 by omega)
      rw [show d' - 9 + 9 = d' by omega] at d1
      rw [d1, Option.bind_some]
      exact stuck (-1) σ6 q 0 (hq2.dr d2 (by omega)) (by decide)
end EX
