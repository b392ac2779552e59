/-! LEVEL B2: expressions of both sides: operands joined -/
set_option maxRecDepth 100000
section EX
variable {g : State} {P r L S n C1 C2 : Nat} {f : Nat → Nat} {w w' : ch_W} {σ : ch_S} {tc fr tt op om ps : Nat}
/-- what an expression leaves -/
def vQ (g : State) (P r L S n : Nat) (f : Nat → Nat) (C1 C2 op : Nat) (w : ch_W) (σ : ch_S) (fr : Nat) (x : Option Nat) (w' : ch_W) (y : Int32) (σ' : ch_S) : Prop := ∃ a nd, x = some a ∧ y = Int32.ofNat nd ∧ nd + 1 = nn σ' fX3_nodes ∧ vt g r L P w' σ' a (nn σ fX3_nodes) nd ∧ pg g P r L S n f C1 C2 2 0 op op w σ fr w' σ'
/-- one of the component's, one of the model's -/
def VP (g : State) (P r L S n : Nat) (f : Nat → Nat) (C1 C2 kc ck km cm d d' : Nat) : Prop := ∀ (w : ch_W) (σ : ch_S) (tc fr tt op : Nat), pj g P r L S n f C1 C2 w σ tc fr tt op op fr → 9 * (30 - op) + ck ≤ d → 14 * (30 - op) + cm ≤ d' → po P n C1 C2 0 w σ fr (cr_PA g d kc r w) (cr_ME d' km 0 0 0 σ) (vQ g P r L S n f C1 C2 op w σ fr)
theorem pjM_node {k a b c : Int32} {nd : Nat} (h : pjM n f σ tc fr tt om) (hn : nn σ fX3_nodes = nd) (hd : nd < 3000) : pjM n f (md_node σ nd k a b c) tc fr tt om := by
  obtain ⟨m1, m2, m3, m4, m5, ⟨kM, TM, m6, m7, m8⟩, m9⟩ := h
  have hf := md_node_fr (σ := σ) (k := k) (a := a) (b := b) (c := c) (nd := nd)
  refine ⟨m1.fr hf (by decide) (by decide), m2, m3, m4, m5, ⟨kM, TM, m6.fr hf (by decide) (by decide) (by decide) (by decide), m7, m8⟩, ?_⟩
  obtain ⟨n1, n2, n3, n4⟩ := m9
  refine ⟨by rw [nn_node hd]; rfl, ?_, ?_, ?_⟩
  · rw [nn_fr hf (by decide)]; exact n2
  · rw [nn_fr hf (by decide)]; exact n3
  · rw [nn_fr hf (by decide)]; exact n4
/-- a value and a node -/
theorem pj_vn {kd wh ty : Int32} {lf rt ar : Option Nat} {k a b c : Int32} {nd : Nat} (h : pj g P r L S n f C1 C2 w σ tc fr tt op om fr) (hv : vn w w' kd wh ty lf rt ar) (hn : nn σ fX3_nodes = nd) (hd : nd < 3000) : pjC g P r L S n f w' tc fr tt op fr ∧ pjM n f (md_node σ nd k a b c) tc fr tt om ∧ pr g P r L (-1) (-1) w σ fr w' (md_node σ nd k a b c) fr ∧ ow r L P w' (ch_nx w) ∧ P ≤ ch_nx w := by
  obtain ⟨v1, v2, v3, -⟩ := hv
  have hx : ch_nx w' = ch_nx w + 1 := by unfold ch_nx; rw [v2]; rfl
  have hc : ch_cs w' = ch_cs w + 1 := by unfold ch_cs; rw [v2]; rfl
  have hs : ch_sl w' = ch_sl w + 6 := by unfold ch_sl; rw [v2]; rfl
  obtain ⟨c1, c2, c3, c4, c5⟩ := pjC_new h.1 v1 hx
  have hf := md_node_fr (σ := σ) (k := k) (a := a) (b := b) (c := c) (nd := nd)
  refine ⟨c1, pjM_node h.2.1 hn hd, ⟨c2, mf_node hn hd, ?_⟩, c4, c5⟩
  unfold bd
  rw [c3, hc, hs, nn_node hd, nn_fr hf (by decide), nn_fr hf (by decide)]
  omega
theorem vt_bi {g : State} {r L P : Nat} {w : ch_W} {σ : ch_S} {a a1 a2 lo nd1 nd2 : Nat} (h1 : vt g r L P w σ a1 lo nd1) (h2 : vt g r L P w σ a2 (nd1 + 1) nd2) (q1 : ow r L P w a) (q2 : P ≤ a) (q3 : ch_tg w a = 11) (q4 : nd2 + 1 < nn σ fX3_nodes) (q5 : nn σ fX3_nodes ≤ 1500) (q6 : ch_gr w a fX10_left = some a1) (q7 : ch_gr w a fX10_right = some a2) (q8 : σ.2 fX3_one (nd2 + 1) = Int32.ofNat nd1) (q9 : σ.2 fX3_two (nd2 + 1) = Int32.ofNat nd2) (q10 : v_bi w σ a (nd2 + 1)) : vt g r L P w σ a lo (nd2 + 1) := by
  have e1 : lo ≤ nd1 := by rw [vt] at h1; exact h1.2.2.2.1
  have e2 : nd1 + 1 ≤ nd2 := by rw [vt] at h2; exact h2.2.2.2.1
  rw [vt]
  exact ⟨q1, q2, q3, by omega, q4, q5, Or.inr (Or.inr (Or.inr (Or.inl ⟨q10, a1, a2, nd1, q6, q7, by omega, q8, by rw [Nat.add_sub_cancel]; exact q9, h1, by rw [Nat.add_sub_cancel]; exact h2⟩)))⟩
/-- the model's node when it is stuck -/
theorem pd_node {L : Nat} {u s : Int} {w2 : ch_W} {σ2 σ1 : ch_S} {fr2 q : Nat} {sd : Int} {k a b c : Int32} (h : pd n sd σ2 fr2 σ1 q) (hm : mf σ σ2) (hb : bd L u s w σ fr w2 σ2 fr2) (hs : 1 ≤ sd + s) (hN : nn σ fX3_nodes + (n - fr) ≤ 1400) : ∃ p, m_X3_node k a b c σ1 = some p ∧ pd n 0 σ fr p.2 q := by
  obtain ⟨h1, h2, h3, h4, h5, h6, h7, h8, h9⟩ := h
  obtain ⟨b1, b2, b3, b4, b5, b6⟩ := hb
  have hz : (if σ1.1 fX3_wrong = -1 then (0 : Int) else 1) ≤ 1 ∧ 0 ≤ (if σ1.1 fX3_wrong = -1 then (0 : Int) else 1) := by split <;> omega
  have hd : nn σ1 fX3_nodes < 3000 := by
    generalize (if σ1.1 fX3_wrong = -1 then (0 : Int) else 1) = z at *
    omega
  have hf := md_node_fr (σ := σ1) (k := k) (a := a) (b := b) (c := c) (nd := nn σ1 fX3_nodes)
  refine ⟨_, ms_node h5.1 hd, (hm.1.trans h1).trans (hf.mono (by decide) (by decide)), h2, by omega, h4, ⟨by rw [nn_node hd]; rfl, by rw [nn_fr hf (by decide)]; exact h5.2.1, by rw [nn_fr hf (by decide)]; exact h5.2.2.1, by rw [nn_fr hf (by decide)]; exact h5.2.2.2⟩, h6.trans hm.2.2.2.2.1, ?_, by rw [nn_fr hf (by decide)]; omega, ?_⟩
  · rw [nn_node hd]
    show ((nn σ1 fX3_nodes + 1 : Nat) : Int) + 0 ≤ _ + _ + (if σ1.1 fX3_wrong = -1 then 0 else 1)
    generalize (if σ1.1 fX3_wrong = -1 then (0 : Int) else 1) = z at *
    omega
  · rw [nn_fr hf (by decide)]
    show (nn σ1 fX3_statements : Int) + 0 ≤ _ + _ + (if σ1.1 fX3_wrong = -1 then 0 else 1)
    generalize (if σ1.1 fX3_wrong = -1 then (0 : Int) else 1) = z at *
    omega
/-- the one node that nothing pays -/
theorem pd_node1 {L : Nat} {u s : Int} {w2 : ch_W} {σ2 σ1 : ch_S} {fr2 : Nat} {k a b c : Int32} (hq : fr2 < 2 ^ 31) (hn : pjN σ2) (hf2 : dr fr2 σ2 σ1) (hm : mf σ σ2) (hb : bd L u s w σ fr w2 σ2 fr2) (hs : 0 ≤ s) (hN : nn σ fX3_nodes + (n - fr) ≤ 1400) (hqn : fr2 ≤ n) : ∃ p, m_X3_node k a b c σ1 = some p ∧ pd n 0 σ fr p.2 fr2 := by
  obtain ⟨b1, b2, b3, b4, b5, b6⟩ := hb
  have e1 : nn σ1 fX3_nodes = nn σ2 fX3_nodes := nn_fr hf2.1 (by decide)
  have e2 : nn σ1 fX3_listed = nn σ2 fX3_listed := nn_fr hf2.1 (by decide)
  have e3 : nn σ1 fX3_statements = nn σ2 fX3_statements := nn_fr hf2.1 (by decide)
  have hN1 := pjN_fr hn hf2.1 (by decide) (by decide) (by decide) (by decide)
  have hd : nn σ1 fX3_nodes < 3000 := by omega
  have hf := md_node_fr (σ := σ1) (k := k) (a := a) (b := b) (c := c) (nd := nn σ1 fX3_nodes)
  have hz : (if (md_node σ1 (nn σ1 fX3_nodes) k a b c).1 fX3_wrong = -1 then (0 : Int) else 1) = 1 := by
    show (if σ1.1 fX3_wrong = -1 then (0 : Int) else 1) = 1
    rw [hf2.2, if_neg (bn_m1n hq)]
  refine ⟨_, ms_node hN1.1 hd, (hm.1.trans (hf2.1.mono (by decide) (by decide))).trans (hf.mono (by decide) (by decide)), Or.inl hf2.2, b1, hqn, ⟨by rw [nn_node hd]; rfl, by rw [nn_fr hf (by decide)]; exact hN1.2.1, by rw [nn_fr hf (by decide)]; exact hN1.2.2.1, by rw [nn_fr hf (by decide)]; exact hN1.2.2.2⟩, (hf2.1.1 _ (by decide)).trans hm.2.2.2.2.1, ?_, by rw [nn_fr hf (by decide)]; omega, ?_⟩
  · rw [nn_node hd, hz]; omega
  · rw [nn_fr hf (by decide), hz]; omega
theorem pg.mk {u s : Int} {w2 : ch_W} {σ2 : ch_S} {tc2 fr2 tt2 : Nat} (hA : pjA L n C1 C2 w σ fr) (hC : pjC g P r L S n f w2 tc2 fr2 tt2 op fr2) (hM : pjM n f σ2 tc2 fr2 tt2 om) (hp : pr g P r L u s w σ fr w2 σ2 fr2) (hu : 2 ≤ u) (hs : 0 ≤ s) (hlt : fr < fr2) : pg g P r L S n f C1 C2 2 0 op om w σ fr w2 σ2 := by
  have hn : fr2 ≤ n := by
    have := hC.2.2.2.2.2.2.1.2.2.2.1
    have := hC.2.2.2.2.2.2.1.2.2.2.2.1
    omega
  exact ⟨tc2, fr2, tt2, ⟨hC, hM, hA.step hp.2.2 (by omega) hs hn hp.2.1.2.2.2.2.1⟩, hp.weak hu hs, hlt⟩
/-- an operand behind a sign -/
theorem po_bin {kc ck km cm d d' : Nat} (IH : VP g P r L S n f C1 C2 kc ck km cm d d') {u s : Int} {w2 : ch_W} {σ2 : ch_S} {tc2 fr2 tt2 a1 nd1 : Nat} {kd wh is of : Int32} (hA : pjA L n C1 C2 w σ fr) (h : pj g P r L S n f C1 C2 w2 σ2 tc2 fr2 tt2 op op fr2) (hpr : pr g P r L u s w σ fr w2 σ2 fr2) (hu : 1 ≤ u) (hs : 1 ≤ s) (hlt : fr < fr2) (ht : vt g r L P w2 σ2 a1 (nn σ fX3_nodes) nd1) (hn : nd1 + 1 = nn σ2 fX3_nodes) (hd : 9 * (30 - op) + ck ≤ d) (hd' : 14 * (30 - op) + cm ≤ d')
    (hvb : ∀ (w' : ch_W) (σ' : ch_S) (a m : Nat), ch_gi w' a fX10_kind = kd → ch_gi w' a fX10_what = wh → σ'.2 fX3_is m = is → σ'.2 fX3_of m = of → v_bi w' σ' a m) :
    po P n C1 C2 0 w σ fr (ch_tb (cr_PA g d kc r w2) (fun a w => (Except.error a, w)) (fun v8 w9 => (c_X4_joined kd wh (some a1) v8 w9).bind fun p10 => some (Except.ok p10.1, p10.2))) ((cr_ME d' km 0 0 0 σ2).bind fun p5 => m_X3_node is (Int32.ofNat nd1) p5.1 of p5.2) (fun x w' y σ' => vQ g P r L S n f C1 C2 op w σ fr x w' y σ' ∧ nd1 + 2 < nn σ' fX3_nodes) := by
  refine po.tb2 (IH w2 σ2 tc2 fr2 tt2 op h hd hd') hpr.1 (fun x w3 y σ3 q => ?_) (fun b σ1 q hq => pd_node hq hpr.2.1 hpr.2.2 (by omega) hA.2.2.2.2.1)
  obtain ⟨a2, nd2, rfl, rfl, e1, e2, tc3, fr3, tt3, e3, e4, e5⟩ := q
  have hA3 := e3.2.2
  obtain ⟨z1, z2, z3, z4, z5, z6, z7, z8⟩ := id hA3
  obtain ⟨-, -, -, -, -, -, -, -, -, -, A, k0, cap, E, T, c11, c12, c13⟩ := id e3.1
  have hcap : cpN w3 L = cap := by unfold cpN; rw [c11.1.2.1]; exact c11.1.2.2.2.1
  have hcapb : cap ≤ 2 * k0 + 10 := c11.1.2.2.2.2.2.1
  have hn3 := e3.2.1.2.2.2.2.1
  have hfn := e3.1.2.2.2.2.2.2.1.2.2.2.2.1
  have hff := e3.1.2.2.2.2.2.2.1.2.2.2.1
  obtain ⟨w4, j1, j2⟩ := lc_joined (k := kd) (x := wh) (lf := some a1) (rt := some a2) (w := w3) (by omega) (by omega)
  have hnn : nn σ3 fX3_nodes = nd2 + 1 := e1.symm
  have hnd : σ3.1 fX3_nodes = Int32.ofNat (nd2 + 1) := by rw [← hnn]; exact e3.2.1.2.2.2.2.2.2.1
  obtain ⟨c1, c2, c3, c4, c5⟩ := pj_vn (k := is) (a := Int32.ofNat nd1) (b := Int32.ofNat nd2) (c := of) e3 j2 hnn (by omega)
  have hnode := ms_node (σ := σ3) (k := is) (a := Int32.ofNat nd1) (b := Int32.ofNat nd2) (c := of) hnd (by omega)
  obtain ⟨v1, v2, v3, v4, v5, v6, v7, v8, v9⟩ := j2
  obtain ⟨f1, f2, f3, f4⟩ := md_node_at (σ := σ3) (k := is) (a := Int32.ofNat nd1) (b := Int32.ofNat nd2) (c := of) (nd := nd2 + 1)
  have hn4 : nn (md_node σ3 (nd2 + 1) is (Int32.ofNat nd1) (Int32.ofNat nd2) of) fX3_nodes = nd2 + 2 := nn_node (by omega)
  have hl4 : nn (md_node σ3 (nd2 + 1) is (Int32.ofNat nd1) (Int32.ofNat nd2) of) fX3_listed = nn σ3 fX3_listed := nn_fr md_node_fr (by decide)
  have k1 : vt g r L P w4 (md_node σ3 (nd2 + 1) is (Int32.ofNat nd1) (Int32.ofNat nd2) of) a1 (nn σ fX3_nodes) nd1 := vt.keep (e4.1.trans c3.1) (e4.2.1.trans c3.2.1) (by omega) (by omega) (nd1 + 1) a1 _ _ (by omega) ht
  have k2 : vt g r L P w4 (md_node σ3 (nd2 + 1) is (Int32.ofNat nd1) (Int32.ofNat nd2) of) a2 (nd1 + 1) nd2 := by
    rw [hn]
    exact vt.keep c3.1 c3.2.1 (by omega) (by omega) (nd2 + 1) a2 _ _ (by omega) e2
  refine Or.inl ⟨some (ch_nx w3), w4, Int32.ofNat (nd2 + 1), md_node σ3 (nd2 + 1) is (Int32.ofNat nd1) (Int32.ofNat nd2) of, ?_, hnode, ⟨ch_nx w3, nd2 + 1, rfl, rfl, by omega, vt_bi k1 k2 c4 c5 v3 (by omega) (by omega) v7 v8 f2 f3 (hvb _ _ _ _ v4 v5 f1 f4), ?_⟩, ?_⟩
  · rw [j1]; rfl
  · have hp2 := (hpr.trans e4).trans c3
    exact pg.mk hA c1 c2 hp2 (by omega) (by omega) (by omega)
  · have hk2 : nd1 + 1 ≤ nd2 := by rw [vt] at k2; exact k2.2.2.2.1
    omega
end EX
