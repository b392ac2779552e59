/-! LEVEL B2: expressions of both sides: leaves -/
set_option maxRecDepth 100000
section EX
variable {g : State} {P r L S n C1 C2 : Nat} {f : Nat → Nat} {w w' : ch_W} {σ : ch_S} {tc fr tt op om : Nat}
/-- a cell is made at a word that is not passed yet -/
theorem pj_alloc {m : Nat} (h : pj g P r L S n f C1 C2 w σ tc fr tt op om fr) (h0 : tc ≠ 0) (ho : ∀ a : Nat, a ≠ ch_nx w → w'.1 a = w.1 a) (h2 : w'.2 = (ch_nx w + 1, ch_cs w + 1, ch_sl w + m)) (hm : m ≤ 256) : pj g P r L S n f C1 C2 w' σ tc fr tt op om tt ∧ pr g P r L (-1) 0 w σ fr w' σ fr ∧ ow r L P w' (ch_nx w) ∧ P ≤ ch_nx w := by
  have hx : ch_nx w' = ch_nx w + 1 := by unfold ch_nx; rw [h2]; rfl
  have hc : ch_cs w' = ch_cs w + 1 := by unfold ch_cs; rw [h2]; rfl
  have hs : ch_sl w' = ch_sl w + m := by unfold ch_sl; rw [h2]; rfl
  have hlt := h.1.2.2.2.2.2.2.1.2.2.2.lt h0
  have htn := h.1.2.2.2.2.2.2.1.2.2.2.2.1
  obtain ⟨⟨c1, c2, c3, c4, c5, c6, c7, c8, c9, c10, A, k0, cap, E, T, c11, c12, c13⟩, d2, d3, d4, d5⟩ := pjC_new h.1 ho hx
  refine ⟨⟨⟨c1, c2, c3, c4, c5, c6, c7, c8, c9, c10, A, k0, cap, E, T, c11, by omega, c13⟩, h.2.1, ?_⟩, ⟨d2, mf.refl, ?_⟩, d4, d5⟩
  · have hA := h.2.2
    unfold pjA at *
    rw [d3, hc, hs]
    omega
  · unfold bd
    rw [d3, hc, hs]
    omega
theorem vt_leaf {g : State} {r L P : Nat} {w : ch_W} {σ : ch_S} {a nd : Nat} (q1 : ow r L P w a) (q2 : P ≤ a) (q3 : ch_tg w a = 11) (q4 : nd < nn σ fX3_nodes) (q5 : nn σ fX3_nodes ≤ 1500) (q10 : v_leaf g L w σ a nd) : vt g r L P w σ a nd nd := by
  rw [vt]
  exact ⟨q1, q2, q3, Nat.le_refl _, q4, q5, Or.inl ⟨rfl, q10⟩⟩
theorem pjC_room {ps : Nat} (h : pj g P r L S n f C1 C2 w σ tc fr tt op om ps) (hps : ps ≤ tt) : ch_cs w + 20 ≤ 601024 ∧ ch_sl w + 20000 ≤ 7293034 := by
  obtain ⟨z1, z2, z3, z4, z5, z6, z7, z8⟩ := id h.2.2
  obtain ⟨-, -, -, -, -, -, -, -, -, -, A, k0, cap, E, T, c11, c12, c13⟩ := id h.1
  have hcap : cpN w L = cap := by unfold cpN; rw [c11.1.2.1]; exact c11.1.2.2.2.1
  have hcapb : cap ≤ 2 * k0 + 10 := c11.1.2.2.2.2.2.1
  have hn3 := h.2.1.2.2.2.2.1
  have htn := h.1.2.2.2.2.2.2.1.2.2.2.2.1
  omega
/-- the node of a leaf, its value being there -/
theorem pj_leafn {u s : Int} {w3 : ch_W} {σ3 : ch_S} {tc3 fr3 tt3 a : Nat} {is of : Int32} (hA : pjA L n C1 C2 w σ fr) (h : pj g P r L S n f C1 C2 w3 σ3 tc3 fr3 tt3 op op fr3) (hp : pr g P r L u s w σ fr w3 σ3 fr3) (hu : 2 ≤ u) (hs : 1 ≤ s) (hlt : fr < fr3) (hn : nn σ3 fX3_nodes = nn σ fX3_nodes) (q1 : ow r L P w3 a) (q2 : P ≤ a) (q3 : ch_tg w3 a = 11) (hl : ∀ (σ' : ch_S) (m : Nat), mf σ3 σ' → σ'.2 fX3_is m = is → σ'.2 fX3_of m = of → v_leaf g L w3 σ' a m) :
    ∃ σ4, m_X3_node is 0 0 of σ3 = some (Int32.ofNat (nn σ fX3_nodes), σ4) ∧ vQ g P r L S n f C1 C2 op w σ fr (some a) w3 (Int32.ofNat (nn σ fX3_nodes)) σ4 := by
  obtain ⟨z1, z2, z3, z4, z5, z6, z7, z8⟩ := id h.2.2
  have hnd : σ3.1 fX3_nodes = Int32.ofNat (nn σ fX3_nodes) := by rw [← hn]; exact h.2.1.2.2.2.2.2.2.1
  have hnode := ms_node (σ := σ3) (k := is) (a := 0) (b := 0) (c := of) hnd (by omega)
  obtain ⟨f1, f2, f3, f4⟩ := md_node_at (σ := σ3) (k := is) (a := 0) (b := 0) (c := of) (nd := nn σ fX3_nodes)
  have hn4 : nn (md_node σ3 (nn σ fX3_nodes) is 0 0 of) fX3_nodes = nn σ fX3_nodes + 1 := nn_node (by omega)
  have hl4 : nn (md_node σ3 (nn σ fX3_nodes) is 0 0 of) fX3_listed = nn σ3 fX3_listed := nn_fr md_node_fr (by decide)
  have hs4 : nn (md_node σ3 (nn σ fX3_nodes) is 0 0 of) fX3_statements = nn σ3 fX3_statements := nn_fr md_node_fr (by decide)
  have hm4 := mf_node (σ := σ3) (k := is) (a := 0) (b := 0) (c := of) hn (by omega)
  have hp4 : pr g P r L u (s - 1) w σ fr w3 (md_node σ3 (nn σ fX3_nodes) is 0 0 of) fr3 := by
    refine ⟨hp.1, hp.2.1.trans hm4, ?_⟩
    have hb := hp.2.2
    unfold bd at *
    rw [hn4, hl4, hs4]
    omega
  refine ⟨_, hnode, a, nn σ fX3_nodes, rfl, rfl, by omega, vt_leaf q1 q2 q3 (by omega) (by omega) (hl _ _ hm4 f1 f4), ?_⟩
  exact pg.mk hA h.1 (pjM_node h.2.1 hn (by omega)) hp4 hu (by omega) hlt
/-- a leaf: the value is made, then the word is passed -/
theorem po_leaf {kd wh ty is of : Int32} (h : pj g P r L S n f C1 C2 w σ tc fr tt op op fr) (h0 : tc ≠ 0) (hv : vn w w' kd wh ty none none none) (hn31 : n < 2 ^ 31) (hl : ∀ (w' : ch_W) (σ' : ch_S) (a m : Nat), ch_gi w' a fX10_kind = kd → ch_gi w' a fX10_what = wh → ch_gi w' a fX10_type = ty → σ'.2 fX3_is m = is → σ'.2 fX3_of m = of → v_leaf g L w' σ' a m) :
    po P n C1 C2 0 w σ fr (ch_tb (c_X4_next g r w') (fun a w => (Except.error a, w)) (fun _ w3 => some (Except.ok (some (ch_nx w)), w3))) ((m_X3_next σ).bind fun p5 => m_X3_node is 0 0 of p5) (vQ g P r L S n f C1 C2 op w σ fr) := by
  obtain ⟨v1, v2, v3, v4, v5, v6, -⟩ := hv
  obtain ⟨a1, a2, a3, a4⟩ := pj_alloc h h0 v1 v2 (by decide)
  have htk := h.1.2.2.2.2.2.2.1.2.2.2
  have hlt := htk.lt h0
  rw [o_split 0]
  refine po.tb2 (po_next a1 h0 (Nat.le_of_lt hlt) (Nat.le_refl _)) a2.1 (fun _ w2 b σ2 q => ?_) (fun b σ2 q hq2 => ?_)
  · obtain ⟨rfl, ⟨tc2, fr2, tt2, q1, q2, q3⟩, q4⟩ := q
    have hnn : nn σ2 fX3_nodes = nn σ fX3_nodes := nn_fr q4 (by decide)
    obtain ⟨z1, z2⟩ := q2.1.2.1 _ a3
    obtain ⟨e1, e2, e3, e4, e5⟩ := b_cell z1
    obtain ⟨σ4, y1, y2⟩ := pj_leafn (is := is) (of := of) h.2.2 q1 (a2.trans q2) (by decide) (by decide) q3 hnn z2 a4 (by rw [e1]; exact v3) (fun σ' m _ x1 x2 => hl _ _ _ _ (by rw [e3]; exact v4) (by rw [e3]; exact v5) (by rw [e3]; exact v6) x1 x2)
    exact Or.inl ⟨_, w2, _, σ4, rfl, y1, y2⟩
  · exact pd_node hq2 a2.2.1 a2.2.2 (by decide) h.2.2.2.2.2.2.1
end EX
