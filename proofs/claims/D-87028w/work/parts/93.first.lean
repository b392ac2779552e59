/-! LEVEL B2: expressions of both sides: first ones -/
set_option maxRecDepth 100000
section EX
variable {g : State} {P r L S n C1 C2 : Nat} {f : Nat → Nat} {w w' : ch_W} {σ : ch_S} {tc fr tt op om : Nat}
/-- a cell is made, paid by what was passed -/
theorem pj_alloc2 {u s : Int} {w3 w4 : ch_W} {σ3 : ch_S} {tc3 fr3 tt3 m : Nat} (hA : pjA L n C1 C2 w σ fr) (h : pj g P r L S n f C1 C2 w3 σ3 tc3 fr3 tt3 op om fr3) (hp : pr g P r L u s w σ fr w3 σ3 fr3) (hu : 1 ≤ u) (hs : 0 ≤ s) (ho : ∀ a : Nat, a ≠ ch_nx w3 → w4.1 a = w3.1 a) (h2 : w4.2 = (ch_nx w3 + 1, ch_cs w3 + 1, ch_sl w3 + m)) (hm : m ≤ 256) : pj g P r L S n f C1 C2 w4 σ3 tc3 fr3 tt3 op om fr3 ∧ pr g P r L (-1) 0 w3 σ3 fr3 w4 σ3 fr3 ∧ pr g P r L (u - 1) s w σ fr w4 σ3 fr3 ∧ ow r L P w4 (ch_nx w3) ∧ P ≤ ch_nx w3 := by
  have hx : ch_nx w4 = ch_nx w3 + 1 := by unfold ch_nx; rw [h2]; rfl
  have hc : ch_cs w4 = ch_cs w3 + 1 := by unfold ch_cs; rw [h2]; rfl
  have hs2 : ch_sl w4 = ch_sl w3 + m := by unfold ch_sl; rw [h2]; rfl
  have htn := h.1.2.2.2.2.2.2.1.2.2.2.2.1
  have hff := h.1.2.2.2.2.2.2.1.2.2.2.1
  obtain ⟨d1, d2, d3, d4, d5⟩ := pjC_new h.1 ho hx
  have hb1 : bd L (-1) 0 w3 σ3 fr3 w4 σ3 fr3 := by
    unfold bd
    rw [d3, hc, hs2]
    omega
  have hp1 : pr g P r L (-1) 0 w3 σ3 fr3 w4 σ3 fr3 := ⟨d2, mf.refl, hb1⟩
  have hp2 : pr g P r L (u - 1) s w σ fr w4 σ3 fr3 := by
    have := hp.trans hp1
    rw [Int.add_zero] at this
    exact this
  exact ⟨⟨d1, h.2.1, hA.step hp2.2.2 (by omega) hs (by omega) hp2.2.1.2.2.2.2.1⟩, hp1, hp2, d4, d5⟩
theorem vt_un {g : State} {r L P : Nat} {w : ch_W} {σ : ch_S} {a a1 lo nd1 : Nat} (h1 : vt g r L P w σ a1 lo nd1) (q1 : ow r L P w a) (q2 : P ≤ a) (q3 : ch_tg w a = 11) (q4 : nd1 + 1 < nn σ fX3_nodes) (q5 : nn σ fX3_nodes ≤ 1500) (q6 : ch_gr w a fX10_right = some a1) (q8 : σ.2 fX3_one (nd1 + 1) = Int32.ofNat nd1) (q10 : v_un w σ a (nd1 + 1)) : vt g r L P w σ a lo (nd1 + 1) := by
  have e1 : lo ≤ nd1 := by rw [vt] at h1; exact h1.2.2.2.1
  rw [vt]
  exact ⟨q1, q2, q3, by omega, q4, q5, Or.inr (Or.inl ⟨q10, a1, q6, by omega, by rw [Nat.add_sub_cancel]; exact q8, by rw [Nat.add_sub_cancel]; exact h1⟩)⟩
/-- no tree has a value whose right side is missing -/
theorem vt_no {g : State} {r L P : Nat} {w : ch_W} {σ : ch_S} {a : Nat} (hk : ch_gi w a fX10_kind = 7 ∨ ch_gi w a fX10_kind = 8 ∨ ch_gi w a fX10_kind = 9) (hr : ch_gr w a fX10_right = none) : ∀ lo n : Nat, ¬ vt g r L P w σ a lo n := by
  intro lo n h
  rw [vt] at h
  obtain ⟨-, -, -, -, -, -, h7⟩ := h
  rcases h7 with ⟨-, p2⟩ | ⟨-, b, p2, -⟩ | ⟨p1, -⟩ | ⟨p1, -⟩ | ⟨p1, -⟩ | ⟨p1, -⟩
  · unfold v_leaf at p2
    rcases hk with hk | hk | hk <;> rw [hk] at p2 <;> rcases p2 with q | q | q | q | q | q | q <;> exact absurd q.1 (by decide)
  · rw [hr] at p2; cases p2
  · unfold v_nm at p1
    rcases hk with hk | hk | hk <;> rw [hk] at p1 <;> rcases p1.1 with q | q | q <;> exact absurd q.1 (by decide)
  · unfold v_bi at p1
    rcases hk with hk | hk | hk <;> rw [hk] at p1 <;> rcases p1 with q | q | q | q <;> exact absurd q.1 (by decide)
  · rcases hk with hk | hk | hk <;> rw [hk] at p1 <;> exact absurd p1 (by decide)
  · rcases hk with hk | hk | hk <;> rw [hk] at p1 <;> exact absurd p1 (by decide)
/-- the right side is set -/
theorem pj_right {w5 : ch_W} {σ5 : ch_S} {tc5 fr5 tt5 a b lo nd : Nat} (h : pj g P r L S n f C1 C2 w5 σ5 tc5 fr5 tt5 op om fr5) (ha : ow r L P w5 a) (hP : P ≤ a) (ht : ch_tg w5 a = 11) (hk : ch_gi w5 a fX10_kind = 7 ∨ ch_gi w5 a fX10_kind = 8 ∨ ch_gi w5 a fX10_kind = 9) (hr : ch_gr w5 a fX10_right = none) (hv : vt g r L P w5 σ5 b lo nd) : pj g P r L S n f C1 C2 (ch_sr w5 a fX10_right (some b)) σ5 tc5 fr5 tt5 op om fr5 ∧ vt g r L P (ch_sr w5 a fX10_right (some b)) σ5 b lo nd ∧ ow r L P (ch_sr w5 a fX10_right (some b)) a ∧ (∀ w0, pf g r L P w0 w5 → ch_nx w0 ≤ a → pf g r L P w0 (ch_sr w5 a fX10_right (some b))) ∧ cpN (ch_sr w5 a fX10_right (some b)) L = cpN w5 L := by
  obtain ⟨c1, c2, c3, c4⟩ := pjC_set (w' := ch_sr w5 a fX10_right (some b)) h.1 ha hP (by rw [ht]; decide) (fun x hx => b_oR hx) rfl
  have hA : pjA L n C1 C2 (ch_sr w5 a fX10_right (some b)) σ5 fr5 := by
    have := h.2.2
    unfold pjA at *
    rw [c2]
    exact this
  have hb := h.2.2
  unfold pjA at hb
  refine ⟨⟨c1, h.2.1, hA⟩, ?_, c3 a ha, c4, c2⟩
  have hcn : ∀ (i : Nat) (t : List Nat), cn g w5 L i t → cn g (ch_sr w5 a fX10_right (some b)) L i t := by
    intro i t hc
    obtain ⟨A0, k1, cap1, E0, T0, h1, h2, h3⟩ := hc
    have hx : a ≠ L ∧ ch_gr w5 L fJ5_elementData ≠ some a := by
      rcases ha with q | q
      · omega
      · exact ⟨q.2.2.1, q.2.2.2⟩
    exact ⟨A0, k1, cap1, E0, T0, h1.keep (b_oR (fun q => hx.1 q.symm)) (b_oR (fun q => hx.2 (by rw [← q]; exact h1.1.2.1))) (fun i hi => b_oR (fun q => by
      have := (h1.2.1 i hi).1
      rw [q, ht] at this
      cases this)), h2, h3⟩
  refine vt.keep0 (fun x hx hor => ?_) hcn mf.refl.mg (by omega) (by omega) (nd + 1) b lo nd (by omega) hv
  have hxa : x ≠ a := by
    intro q
    rw [q] at hor
    rcases hor with ⟨lo', n', q2⟩ | q2
    · exact vt_no hk hr lo' n' q2
    · rw [ht] at q2; cases q2
  exact ⟨b_oR hxa, c3 x hx⟩
/-- ( ) -/
theorem po_paren {d d' : Nat} (IH : ∀ d', VP g P r L S n f C1 C2 0 9 0 14 d d') (h : pj g P r L S n f C1 C2 w σ tc fr tt op op fr) (hq : tc = 1040) (hd : 9 * (30 - op) ≤ d) (hd' : 14 * (30 - op) ≤ d') (hd9 : 9 ≤ d') (hn31 : n < 2 ^ 31) :
    po P n C1 C2 0 w σ fr (ch_tb (c_X4_opens g r (some (ch_sa g RX4 171)) w) (fun a w => (Except.error a, w)) fun _ w57 => (ch_rc w57 (some r) 5).bind fun _ => ch_tb (cr_PA g d 0 r w57) (fun a w => (Except.error a, w)) fun v59 w60 => (ch_rc w60 (some r) 5).bind fun _ => ch_tb (c_X4_closes g r (some (ch_sa g RX4 173)) w60) (fun a w => (Except.error a, w)) fun _ w63 => some (Except.ok v59, w63)) ((m_X3_opens 1 σ).bind fun p27 => if p27.1 = 0 then some (-1, p27.2) else ((cr_ME d' 0 0 0 0 p27.2).bind fun p29 => (m_X3_closes 41 p29.2).bind fun p31 => some (p29.1, p31))) (vQ g P r L S n f C1 C2 op w σ fr) := by
  have htk := h.1.2.2.2.2.2.2.1.2.2.2
  have hop := po_opens h (Nat.le_refl _) htk.1 (by decide) (it_171 h.1.2.2.2.2.2.2.1 h.1.1)
  rw [if_pos hq] at hop
  refine po.tb hop (fun _ w2 b σ2 q => ?_) (fun b σ2 q hq2 => ?_)
  · obtain ⟨rfl, z0, hlt30, ⟨tc2, fr2, tt2, q1, q2, q3⟩, q4⟩ := q
    have hn2 : nn σ2 fX3_nodes = nn σ fX3_nodes := nn_fr q4 (by decide)
    rw [d_rc q1.1.2.2.2.2.2.2.1.1.1, if_neg (show ¬ (1 : Int32) = 0 by decide)]
    refine po.tb2 (IH d' w2 σ2 tc2 fr2 tt2 (op + 1) q1 (by omega) (by omega)) q2.1 (fun x w3 y σ3 z => ?_) (fun b σ3 q hq2 => ?_)
    · obtain ⟨a3, nd3, rfl, rfl, z1, z2, tc3, fr3, tt3, z3, z4, z5⟩ := z
      rw [d_rc z3.1.2.2.2.2.2.2.1.1.1]
      refine po.last (po_closes (c := 41) (v := Int32.ofNat nd3) z3 (by decide) (it_173 z3.1.2.2.2.2.2.2.1 z3.1.1)) (q2.trans z4) (by decide) (fun _ w4 b4 σ4 y => ?_)
      obtain ⟨rfl, y1, ⟨tc4, fr4, tt4, y2, y3, y4⟩, y5⟩ := y
      have hp := (q2.trans z4).trans y3
      have hll : nn σ4 fX3_listed ≤ 1500 := by have := y2.2.2.2.2.2.2.2.1; omega
      have hnb : nn σ4 fX3_nodes ≤ 1500 := by have := y2.2.2.2.2.2.2.1; omega
      have hn4 : nn σ4 fX3_nodes = nn σ3 fX3_nodes := nn_fr y5 (by decide)
      refine ⟨some a3, w4, rfl, a3, nd3, rfl, rfl, by omega, ?_, ⟨tc4, fr4, tt4, y2, hp.weak (by decide) (by decide), by omega⟩⟩
      rw [← hn2]
      exact vt.keep y3.1 y3.2.1 hnb hll (nd3 + 1) a3 _ _ (by omega) z2
    · have hq3 := hq2.2.2.2.1
      obtain ⟨σ4, d1, d2⟩ := dm_closes (c := 41) hq2.2.1 (show q < 2 ^ 31 by omega)
      refine ⟨(b, σ4), ?_, ((hq2.dr d2 (by omega)).base q2.2.1 q2.2.2).weak (by decide)⟩
      show (m_X3_closes 41 σ3).bind _ = _
      rw [d1]
      rfl
  · have hq3 := hq2.2.2.2.1
    by_cases hb : b = 0
    · exact ⟨(-1, σ2), by rw [if_pos hb], hq2⟩
    · obtain ⟨σ3, d1, d2⟩ := dm_0 (d := d' - 9) hq2.2.1 (show q < 2 ^ 31 by omega)
      rw [show d' - 9 + 9 = d' by omega] at d1
      obtain ⟨σ4, d3, d4⟩ := dm_closes (c := 41) d2.dk (show q < 2 ^ 31 by omega)
      refine ⟨(-1, σ4), ?_, (hq2.dr d2 (by omega)).dr d4 (by omega)⟩
      rw [if_neg hb]
      show (cr_ME d' 0 0 0 0 σ2).bind _ = _
      rw [d1, Option.bind_some, d3]
      rfl
end EX
