/-! LEVEL B2: expressions of both sides: new of a class, names, own calls -/
set_option maxRecDepth 100000
theorem vt_no0 {g : State} {r L P : Nat} {w : ch_W} {σ : ch_S} {a : Nat} (hk : ch_gi w a fX10_kind = 0) (ht : ch_gi w a fX10_type = 0) : ∀ lo n : Nat, ¬ vt g r L P w σ a lo n := by
  intro lo n h
  rw [vt] at h
  obtain ⟨-, -, -, -, -, -, h7⟩ := h
  rcases h7 with ⟨-, p2⟩ | ⟨p1, -⟩ | ⟨p1, -⟩ | ⟨p1, -⟩ | ⟨p1, -⟩ | ⟨p1, -⟩
  · unfold v_leaf at p2
    rw [hk, ht] at p2
    rcases p2 with q | q | q | q | q | q | q
    · exact absurd q.2.2.1 (by decide)
    · exact absurd q.2.2.1 (by decide)
    all_goals exact absurd q.1 (by decide)
  · unfold v_un at p1
    rw [hk] at p1
    rcases p1 with q | q | q <;> exact absurd q.1 (by decide)
  · unfold v_nm at p1
    rw [hk] at p1
    rcases p1.1 with q | q | q <;> exact absurd q.1 (by decide)
  · unfold v_bi at p1
    rw [hk] at p1
    rcases p1 with q | q | q | q <;> exact absurd q.1 (by decide)
  · rw [hk] at p1; exact absurd p1 (by decide)
  · rw [hk] at p1; exact absurd p1 (by decide)
section EX
variable {g : State} {P r L S n C1 C2 : Nat} {f : Nat → Nat} {w w' : ch_W} {σ : ch_S} {tc fr tt op om : Nat}
/-- new Name -/
theorem po_newn {w2 : ch_W} {σ2 : ch_S} {tc2 fr2 tt2 : Nat} (hA : pjA L n C1 C2 w σ fr) (h : pj g P r L S n f C1 C2 w2 σ2 tc2 fr2 tt2 op op fr2) (hp : pr g P r L 4 1 w σ fr w2 σ2 fr2) (hlt : fr < fr2) (hn : nn σ2 fX3_nodes = nn σ fX3_nodes) (hn31 : n < 2 ^ 31) :
    po P n C1 C2 0 w σ fr ((ch_nO w2 11 6).bind fun w33 => (ch_rc w33 (some r) 5).bind fun _ => ch_tb (c_X4_nextName g r w33) (fun a w => (Except.error a, w)) fun v35 w36 => (c_X10_init (ch_nx w2) 6 v35 w36).bind fun p37 => some (Except.ok (some (ch_nx w2)), p37)) ((m_X3_name σ2).bind fun p23 => m_X3_node 5 0 0 p23.1 p23.2) (vQ g P r L S n f C1 C2 op w σ fr) := by
  have htk := h.1.2.2.2.2.2.2.1.2.2.2
  obtain ⟨r1, r2⟩ := pjC_room h htk.1
  obtain ⟨a1, a2, a3, a4, a5⟩ := pj_alloc2 (w4 := ch_nw w2 (ch_new 11 6)) hA h hp (by decide) (by decide) (fun a ha => b_oN ha) rfl (show 6 ≤ 256 by decide)
  rw [d_nO (by omega) (by omega), d_rc a1.1.2.2.2.2.2.2.1.1.1]
  refine po.tb2 (po_name a1) a3.1 (fun x w3 y σ3 z => ?_) (fun b σ3 q hq2 => pd_node hq2 a3.2.1 a3.2.2 (by decide) hA.2.2.2.2.1)
  obtain ⟨y1, ⟨i, j, rfl, y2, rfl, y3, y4, y5⟩, ⟨tc3, fr3, tt3, y6, y7, y8⟩, y9⟩ := z
  have hn3 : nn σ3 fX3_nodes = nn σ2 fX3_nodes := nn_fr y9 (by decide)
  obtain ⟨k1, k2⟩ := y7.1.2.1 _ a4
  obtain ⟨f1, f2, f3, f4, f5⟩ := b_cell k1
  have t1 : ch_tg w3 (ch_nx w2) = 11 := by rw [f1, b_tN, if_pos rfl]; rfl
  have i0 : ch_gi w3 (ch_nx w2) fX10_kind = 0 := by rw [f3, b_IN, if_pos rfl]; rfl
  have i1 : ch_gi w3 (ch_nx w2) fX10_type = 0 := by rw [f3, b_IN, if_pos rfl]; rfl
  have hp3 := a3.trans y7
  obtain ⟨g1, g2, g3, g4, g5, g6, g7, g8⟩ := pj_fld (w6 := ch_si (ch_si (ch_si w3 (ch_nx w2) fX10_type (-1)) (ch_nx w2) fX10_kind 6) (ch_nx w2) fX10_what (Int32.ofNat i)) y6 k2 a5 t1 (vt_no0 i0 i1) (fun x hx => by rw [b_oI hx, b_oI hx, b_oI hx]) rfl
  have hp4 : pr g P r L (4 - 1 + 3) (1 + 1) w σ fr (ch_si (ch_si (ch_si w3 (ch_nx w2) fX10_type (-1)) (ch_nx w2) fX10_kind 6) (ch_nx w2) fX10_what (Int32.ofNat i)) σ3 fr3 := by
    refine ⟨g4 w hp3.1 hp.1.1, hp3.2.1, ?_⟩
    have hb := hp3.2.2
    unfold bd at *
    rw [g5, g6, g7]
    exact hb
  obtain ⟨σ4, x1, x2⟩ := pj_leafn (is := 5) (of := Int32.ofNat j) hA g1 hp4 (by decide) (by decide) (by omega) (hn3.trans hn) (g3 _ k2) a5 (by rw [b_tI, b_tI, b_tI]; exact t1) (fun σ' m z0 z1 z2 => by
    refine Or.inr (Or.inr (Or.inr (Or.inr (Or.inr (Or.inr ⟨?_, z1, ?_⟩)))))
    · rw [b_II, if_neg (fun q => absurd q.2 (by decide)), b_II, if_pos ⟨rfl, rfl⟩]
    · rw [b_II, if_pos ⟨rfl, rfl⟩, z2]
      exact ⟨i, j, _, rfl, y2, rfl, y3, g8 i _ y4, z0.2.2.2.2.2.2.2.2.2 j _ y5⟩)
  refine Or.inl ⟨_, _, _, σ4, ?_, x1, x2⟩
  unfold c_X10_init
  rw [d_pI t1, d_pI (by rw [b_tI]; exact t1), d_pI (by rw [b_tI, b_tI]; exact t1)]
  rfl
/-- the arguments of a call are set: the tree -/
theorem pj_call {u s : Int} {w5 : ch_W} {σ5 σ4 : ch_S} {tc5 fr5 tt5 a lo v m B nd i j : Nat} {Y : Nat → Nat} {t : List Nat} (hA : pjA L n C1 C2 w σ fr) (h : pj g P r L S n f C1 C2 w5 σ5 tc5 fr5 tt5 op op fr5) (hp : pr g P r L u s w σ fr w5 σ5 fr5) (hu : 2 ≤ u) (hs : 0 ≤ s) (hlt : fr < fr5) (hxn : ch_nx w ≤ a)
    (ha : ow r L P w5 a) (hP : P ≤ a) (ht : ch_tg w5 a = 11) (hk : (ch_gi w5 a fX10_kind = 5 ∧ σ5.2 fX3_is nd = 9 ∧ Y 0 = lo) ∨ (ch_gi w5 a fX10_kind = 11 ∧ σ5.2 fX3_is nd = 8 ∧ ∃ c x, ch_gr w5 a fX10_left = some c ∧ x < nd ∧ σ5.2 fX3_one nd = Int32.ofNat x ∧ vt g r L P w5 σ5 c lo x ∧ Y 0 = x + 1)) (hr : ch_gr w5 a fX10_arguments = none) (hw : ch_gi w5 a fX10_what = Int32.ofNat i) (hi : i < 3000) (hj : j < 1600) (hci : cn g w5 L i t) (hmj : mn σ5 j t) (hlo : lo = nn σ fX3_nodes)
    (b1 : nd + 1 = nn σ5 fX3_nodes) (b2 : ow r L P w5 v) (b3 : P ≤ v) (b4 : ch_tg w5 v = 27) (b5 : ch_ln w5 v = m) (b6 : σ5.2 fX3_of nd = Int32.ofNat j) (b7 : σ5.2 fX3_two nd = Int32.ofNat B) (b8 : σ5.2 fX3_typeOf nd = Int32.ofNat m) (b9 : B + m ≤ nn σ5 fX3_listed) (b10 : m ≤ 1400) (b11 : Y m = nd) (b12 : ∀ i : Nat, i < m → Y i < Y (i + 1) ∧ Y (i + 1) ≤ nd ∧ σ5.2 fX3_list (B + i) = Int32.ofNat (Y (i + 1) - 1) ∧ ∃ b, ch_gr w5 v i = some b ∧ vt g r L P w5 σ5 b (Y i) (Y (i + 1) - 1)) (hY : lo ≤ nd) :
    vQ g P r L S n f C1 C2 op w σ fr (some a) (ch_sr w5 a fX10_arguments (some v)) (Int32.ofNat nd) σ5 := by
  have hno : ∀ lo n : Nat, ¬ vt g r L P w5 σ5 a lo n := vt_noA (by rcases hk with q | q; exact Or.inl q.1; exact Or.inr q.1) hr
  obtain ⟨g1, g2, g3, g4, g5, g6, g7, g8⟩ := pj_fld (w6 := ch_sr w5 a fX10_arguments (some v)) h ha hP ht hno (fun x hx => b_oR hx) rfl
  have hb := h.2.2
  unfold pjA at hb
  have hva : v ≠ a := fun q => by rw [q, ht] at b4; cases b4
  have hrow : ∀ y0 : Nat, Y 0 = y0 → v_row r L P (ch_sr w5 a fX10_arguments (some v)) σ5 a nd y0 v m B Y := fun y0 hy => ⟨by rw [b_RR, if_pos ⟨rfl, rfl⟩], g3 v b2, b3, by rw [b_tR]; exact b4, by rw [b_nR]; exact b5, b7, b8, b9, b10, by omega, hy, b11, fun i hi => ⟨(b12 i hi).1, (b12 i hi).2.1, (b12 i hi).2.2.1⟩⟩
  have hargs : ∀ (i : Nat) (_ : i < m ∧ Y i < Y (i + 1) ∧ Y (i + 1) ≤ nd), ∃ b, ch_gr (ch_sr w5 a fX10_arguments (some v)) v i = some b ∧ vt g r L P (ch_sr w5 a fX10_arguments (some v)) σ5 b (Y i) (Y (i + 1) - 1) := by
    intro i hi
    obtain ⟨-, -, -, b, q1, q2⟩ := b12 i hi.1
    exact ⟨b, by rw [b_RR, if_neg (fun q => hva q.1)]; exact q1, g2 b _ _ q2⟩
  have hio : iota g (ch_sr w5 a fX10_arguments (some v)) L σ5 (ch_gi (ch_sr w5 a fX10_arguments (some v)) a fX10_what) (σ5.2 fX3_of nd) := ⟨i, j, t, by rw [b_IR]; exact hw, hi, b6, hj, g8 i t hci, hmj⟩
  have hp2 : pr g P r L u s w σ fr (ch_sr w5 a fX10_arguments (some v)) σ5 fr5 := by
    refine ⟨g4 w hp.1 hxn, hp.2.1, ?_⟩
    have hb := hp.2.2
    unfold bd at *
    rw [g5, g6, g7]
    exact hb
  refine ⟨a, nd, rfl, rfl, b1, ?_, pg.mk hA g1.1 g1.2.1 hp2 hu hs hlt⟩
  rw [← hlo, vt]
  refine ⟨g3 a ha, hP, by rw [b_tR]; exact ht, hY, by omega, by omega, ?_⟩
  rcases hk with ⟨q1, q2, q3⟩ | ⟨q1, q2, c, x, q3, q4, q5, q6, q7⟩
  · exact Or.inr (Or.inr (Or.inr (Or.inr (Or.inl ⟨by rw [b_IR]; exact q1, q2, hio, v, m, B, Y, hrow lo q3, hargs⟩))))
  · exact Or.inr (Or.inr (Or.inr (Or.inr (Or.inr ⟨by rw [b_IR]; exact q1, q2, hio, c, x, by rw [b_RR, if_neg (fun q => absurd q.2 (by decide))]; exact q3, q4, q5, g2 c _ _ q6, v, m, B, Y, hrow (x + 1) q7, hargs⟩))))
/-- a name: a variable, a field, or an own call -/
theorem po_nam {d d' : Nat} (IA : ∀ d', VA g P r L S n f C1 C2 d d') (h : pj g P r L S n f C1 C2 w σ tc fr tt op op fr) (hq : tc = 1) (hd : 9 * (30 - op) + 1 ≤ d) (hd' : 14 * (30 - op) + 1 ≤ d') (hn31 : n < 2 ^ 31) :
    po P n C1 C2 0 w σ fr (ch_tb (c_X4_nextName g r w) (fun a w => (Except.error a, w)) fun v12 w13 => (ch_rc w13 (some r) 5).bind fun _ => (c_X4_isThe g r (some (ch_sa g RX4 171)) w13).bind fun v15 => if v15 = 0 then ((ch_nO w13 11 6).bind fun w24 => (c_X10_init (ch_nx w13) 4 v12 w24).bind fun p25 => some (Except.ok (some (ch_nx w13)), p25)) else ((ch_nO w13 11 6).bind fun w17 => (c_X10_init (ch_nx w13) 5 v12 w17).bind fun p18 => (ch_rc p18 (some r) 5).bind fun _ => ch_tb (cr_PA g d 8 r p18) (fun a w => (Except.error a, w)) fun v21 w22 => (ch_pR w22 (some (ch_nx w13)) 11 fX10_arguments v21).bind fun w23 => some (Except.ok (some (ch_nx w13)), w23)))
      ((m_X3_name σ).bind fun p33 => (m_X3_isSign 40 p33.2).bind fun v35 => if v35 = 0 then m_X3_node 4 0 0 p33.1 p33.2 else cr_ME d' 9 9 (-1) p33.1 p33.2) (vQ g P r L S n f C1 C2 op w σ fr) := by
  refine po.tb (po_name1 h hq) (fun x w3 y σ3 z => ?_) (fun b σ3 q hq2 => ?_)
  · obtain ⟨y1, ⟨i, j, rfl, y2, rfl, y3, y4, y5⟩, ⟨tc3, fr3, tt3, y6, y7, y8⟩, y9⟩ := z
    have hn3 : nn σ3 fX3_nodes = nn σ fX3_nodes := nn_fr y9 (by decide)
    have htk := y6.1.2.2.2.2.2.2.1.2.2.2
    obtain ⟨r1, r2⟩ := pjC_room y6 htk.1
    have s1 : m_X3_isSign 40 σ3 = _ := ms_sign (c := 40) y6.2.1 htk (by decide)
    rw [d_rc y6.1.2.2.2.2.2.2.1.1.1, it_171 y6.1.2.2.2.2.2.2.1 y6.1.1, Option.bind_some, s1, Option.bind_some]
    by_cases hz : tc3 = 1040
    · rw [if_pos hz, if_neg (show ¬ (1 : Int32) = 0 by decide), if_neg (show ¬ (1 : Int32) = 0 by decide)]
      obtain ⟨w4, e1, e2⟩ := lc_val (w := w3) (k := 5) (x := Int32.ofNat i) (F := fun p18 => (ch_rc p18 (some r) 5).bind fun _ => ch_tb (cr_PA g d 8 r p18) (fun a w => (Except.error a, w)) fun v21 w22 => (ch_pR w22 (some (ch_nx w3)) 11 fX10_arguments v21).bind fun w23 => some (Except.ok (some (ch_nx w3)), w23)) (by omega) (by omega)
      obtain ⟨v1, v2, v3, v4, v5, v6, v7, v8, v9⟩ := e2
      obtain ⟨a1, a2, a3, a4, a5⟩ := pj_alloc2 h.2.2 y6 y7 (by decide) (by decide) v1 v2 (by decide)
      rw [e1, d_rc a1.1.2.2.2.2.2.2.1.1.1]
      rw [hz] at a1
      refine po.last (IA d' w4 σ3 fr3 tt3 op 9 (-1) (Int32.ofNat j) a1 hd hd') a3 (by decide) (fun x5 w5 b5 σ5 z => ?_)
      obtain ⟨v, m, B, Y, nd, rfl, rfl, z1, z2, z3, z4, z5, z6, z7, z8, z9, z10, z11, z12, z13, z14, z15, tc5, fr5, tt5, z16, z17, z18⟩ := z
      obtain ⟨k1, k2⟩ := z17.1.2.1 _ a4
      obtain ⟨f1, f2, f3, f4, f5⟩ := b_cell k1
      refine ⟨some (ch_nx w3), ch_sr w5 (ch_nx w3) fX10_arguments (some v), ?_, ?_⟩
      · show (ch_pR w5 (some (ch_nx w3)) 11 fX10_arguments (some v)).bind _ = _
        rw [d_pR (by rw [f1]; exact v3)]
      · have hlo : nn σ fX3_nodes ≤ nd := by
          have := z17.2.1.2.1
          have h9 : ∀ k : Nat, k ≤ m → Y 0 ≤ Y k := by
            intro k
            induction k with
            | zero => intro _; exact Nat.le_refl _
            | succ k ihk =>
              intro hk
              have := (z15 k (by omega)).1
              have := ihk (by omega)
              omega
          have := h9 m (Nat.le_refl _)
          omega
        exact pj_call (σ4 := σ5) h.2.2 z16 (a3.trans z17) (by decide) (by decide) (by omega) y7.1.1 k2 a5 (by rw [f1]; exact v3) (Or.inl ⟨by rw [f3]; exact v4, z6, by rw [z13, hn3]⟩) (by rw [f4]; exact v9) (by rw [f3]; exact v5) y2 y3 ((a2.trans z17).1.2.2 i _ y4) ((a2.trans z17).2.1.2.2.2.2.2.2.2.2.2 j _ y5) rfl z1 z2 z3 z4 z5 z8 z9 z10 z11 z12 z14 z15 hlo
    · rw [if_neg hz, if_pos rfl, if_pos rfl]
      obtain ⟨w4, e1, e2⟩ := lc_val (w := w3) (k := 4) (x := Int32.ofNat i) (F := fun p25 => some (Except.ok (some (ch_nx w3)), p25)) (by omega) (by omega)
      rw [e1]
      obtain ⟨σ4, x1, x2⟩ := pj_leafv (is := 4) (of := Int32.ofNat j) h.2.2 y6 y7 (by decide) (by decide) y8 hn3 e2 (fun w' σ' a m z0 z00 z1 z2 z3 z4 => Or.inr (Or.inr (Or.inr (Or.inr (Or.inr (Or.inl ⟨z1, z3, by rw [z2, z4]; exact ⟨i, j, _, rfl, y2, rfl, y3, z0.2.2 i _ y4, z00.2.2.2.2.2.2.2.2.2 j _ y5⟩⟩))))))
      exact Or.inl ⟨_, w4, _, σ4, rfl, x1, x2⟩
  · have hq3 := hq2.2.2.2.1
    rw [dm_sign hq2.2.1 (show q < 2 ^ 31 by omega), Option.bind_some, if_pos rfl]
    exact pd_node (w := w) (w2 := w) (L := L) hq2 mf.refl bd.refl (by decide) h.2.2.2.2.2.2.1
end EX
