/-! LEVEL B2: blocks of both sides: the loop -/
set_option maxRecDepth 100000
section BL
variable {g : State} {P r L S n C1 C2 : Nat} {f : Nat → Nat} {w w' w0 : ch_W} {σ σ' σ0 : ch_S} {tc fr tt op fr0 : Nat}
def bBC (g : State) (r d La : Nat) : ch_W → Option (ch_W ⊕ (Except Nat (Option Nat) × ch_W)) := fun s => c_X4_block_14 (cr_PS g d) g r (some La) s
/-- } -/
theorem po_bfin {d e La i A cap : Nat} {E Z : Nat → Nat} {x1 x2 : Int32} (hA0 : pjA L n C1 C2 w0 σ0 fr0) (hI : bI g P r L S n f C1 C2 op w0 σ0 fr0 La w σ tc fr tt i A cap E Z x1 x2) (hz : tc = 1125) : pos P n C1 C2 0 0 w0 σ0 fr0 (ch_loop (bBC g r d La) w) (ch_loop (bBM e) (x1, x2, σ)) (bQ g P r L S n f C1 C2 op w0 σ0 fr0) := by
  obtain ⟨j1, j2, j3, j4, j5, j6, j7, j8, j9, j10, i1, i2, i3, i4, i5⟩ := hI
  have hat := j2.1.2.2.2.2.2.2.1
  have htk := hat.2.2.2
  have hr := hat.1.1
  have hA := j2.2.2
  have hA03 := hA0
  unfold pjA at hA hA03
  have hfn := htk.2.1
  have hff := htk.1
  have hn12 := j2.2.1.2.2.2.2.1
  have hwf := j2.2.1.2.1.1
  have hwr := j2.2.1.2.2.1
  have hZm : ∀ a b : Nat, a ≤ b → b ≤ i → Z a ≤ Z b := Ymono (fun k hk => (j10 k hk).1)
  obtain ⟨p1, p2⟩ := pj_si (k := fX4_closing) (v := Int32.ofNat fr) (op' := op + 1) j2 (by decide) (by decide) (by decide) (by decide) (by rw [b_II, if_neg (fun q => absurd q.2 (by decide))]; exact j2.1.2.2.2.2.2.2.2.1) j2.1.2.2.2.2.2.2.2.2.1
  obtain ⟨p3, p4⟩ := pj_bE (v := Int32.ofNat fr) p1
  have hat1 := p3.1.2.2.2.2.2.2.1
  have hr1 := hat1.1.1
  have s1 : m_X3_isSign 125 σ = some (if tc = 1000 + 125 then 1 else 0) := ms_sign (c := 125) j2.2.1 htk (by decide)
  have hM : ch_loop (bBM e) (x1, x2, σ) = (m_X3_closes 125 (md_si σ fX3_blockEnd (Int32.ofNat fr))).bind fun p => some (x1, p) := by
    rw [lp_eq]
    show (m_X3_block_19 (cr_MB e) x1 x2 σ).bind _ = _
    unfold m_X3_block_19 m_X3_block_66
    rw [hwr, if_pos bn_m1, s1, Option.bind_some, if_pos (show tc = 1000 + 125 by omega), if_neg (show ¬ (1 : Int32) = 0 by decide), m_mI, hwf]
    cases m_X3_closes 125 (md_si σ fX3_blockEnd (Int32.ofNat fr)) <;> rfl
  have hC : ch_loop (bBC g r d La) w = ch_tb (c_X4_closes g r (some (ch_sa g RX4 137)) (ch_si w r fX4_closing (Int32.ofNat fr))) (fun a w => (Except.error a, w)) fun _ w6 => (ch_rc w6 (some La) 14).bind fun b8 => (c_J5_size b8 w6).bind fun v9 => (ch_nA w6 28 v9).bind fun w11 => ch_loop (fun (s : Int32 × ch_W) => c_X4_block_59 (cr_PS g d) g r (some La) (some (ch_nx w6)) s.1 s.2) (0, w11) := by
    rw [lp_eq]
    show (c_X4_block_14 (cr_PS g d) g r (some La) w).bind _ = _
    unfold c_X4_block_14
    rw [d_rc hr, it_137 hat j2.1.1, Option.bind_some, if_pos hz, if_neg (show ¬ (1 : Int32) = 0 by decide), d_gI hr, hat.2.1.1, d_pI hr, d_rc hr1, tb_lp]
    congr 1
    funext _ w6
    cases ch_rc w6 (some La) 14 with
    | none => rfl
    | some b8 =>
      rw [Option.bind_some, Option.bind_some]
      cases c_J5_size b8 w6 with
      | none => rfl
      | some v9 =>
        rw [Option.bind_some, Option.bind_some]
        cases ch_nA w6 28 v9 with
        | none => rfl
        | some w11 =>
          rw [Option.bind_some, Option.bind_some]
          cases ch_loop (fun (s : Int32 × ch_W) => c_X4_block_59 (cr_PS g d) g r (some La) (some (ch_nx w6)) s.1 s.2) (0, w11) <;> rfl
  rw [hM, hC]
  have hmfs1 : mfs σ (md_si σ fX3_blockEnd (Int32.ofNat fr)) := p2.2.1.s.trans p4
  have hcl1 : ch_gi (ch_si w r fX4_closing (Int32.ofNat fr)) r fX4_closing = Int32.ofNat fr := by rw [b_II, if_pos ⟨rfl, rfl⟩]
  have hbe1 : (md_si σ fX3_blockEnd (Int32.ofNat fr)).1 fX3_blockEnd = Int32.ofNat fr := by rw [md_gs]
  have nns : ∀ k : Nat, k ≠ fX3_blockEnd → nn (md_si σ fX3_blockEnd (Int32.ofNat fr)) k = nn σ k := fun k hk => by
    unfold nn
    rw [md_get, if_neg hk]
  have hb1 := p2.2.2
  generalize hw1 : ch_si w r fX4_closing (Int32.ofNat fr) = w1 at *
  generalize hσ1 : md_si σ fX3_blockEnd (Int32.ofNat fr) = σ1 at *
  have m1 := nns fX3_nodes (by decide)
  have m2 := nns fX3_listed (by decide)
  have m3 := nns fX3_statements (by decide)
  have m4 := nns fX3_held (by decide)
  have hit := it_137 hat1 p3.1.1
  rcases po_closes (c := 125) (v := x1) p3 (by decide) hit with ⟨u6, w6, b, σ6, k1, k2, k3⟩ | ⟨er, w6, b, σ6, q, k1, k2, k3, k4⟩
  · obtain ⟨rfl, z0, ⟨tc6, fr6, tt6, q1, q2, q3⟩, q4⟩ := k3
    have hck := closes_keep (c := 1125) p3 (by decide) hit k1
    have hnn6 : nn σ6 fX3_nodes = nn σ1 fX3_nodes := nn_fr q4 (by decide)
    have hnl6 : nn σ6 fX3_listed = nn σ1 fX3_listed := nn_fr q4 (by decide)
    have hns6 : nn σ6 fX3_statements = nn σ1 fX3_statements := nn_fr q4 (by decide)
    have hvow : ∀ k : Nat, k < i → ow r L P w (E k) := fun k hk => by
      have := (j10 k hk).2.2.2
      rw [sth] at this
      exact this.1
    have hpf6 : pf g r L P w w6 := p2.1.trans q2.1
    have hjo := j1.pf hpf6 hvow
    have hjl := hjo.1
    obtain ⟨r1, r2⟩ := pjC_room q1 q1.1.2.2.2.2.2.2.1.2.2.2.1
    have hi14 : i ≤ 1280 := by omega
    have hcapb := hjl.2.2.2.2.2.1
    have hna : ch_nA w6 28 (Int32.ofNat i) = some (ch_nw w6 (ch_new 28 i)) := b_nA (by omega) (by omega) (by omega)
    rw [tb_ok k1, d_rc hjl.1, jl_size hjl, Option.bind_some, hna, Option.bind_some]
    have hLan := q1.1.2.2.2.2.2.1 La (by rw [hjl.1]; decide)
    have hAan := q1.1.2.2.2.2.2.1 A (by rcases hjl.2.2.2.2.2.2.1 with y | y <;> omega)
    have hjl11 : jl g (ch_nw w6 (ch_new 28 i)) La A i cap 10 E := hjl.keep (b_oN (by omega)) (b_oN (by omega)) (fun k hk => by
      have h9 := (hjl.2.2.2.2.2.2.2 k hk).2
      have := q1.1.2.2.2.2.2.1 (E k) (by rw [h9]; decide)
      rw [b_tN, if_neg (by omega)]; exact h9)
    obtain ⟨w12, g1, g2, g3, g4, g5, g6, g7⟩ := lc_59 (g := g) (rc := cr_PS g d) (r := r) (v := ch_nx w6) (cap := cap) (by omega) i 0 (ch_nw w6 (ch_new 28 i)) (by omega) (by omega) hjl11 (by rw [b_tN, if_pos rfl]; rfl) (by rw [b_nN, if_pos rfl]; rfl)
    have low : ∀ a : Nat, a < ch_nx w6 → w12.1 a = w6.1 a := fun a ha => by rw [g6 a (by omega), b_oN (by omega)]
    have hx12 : ch_nx w12 = ch_nx w6 + 1 := by unfold ch_nx; rw [g7]; rfl
    have hc12 : ch_cs w12 = ch_cs w6 + 1 := by unfold ch_cs; rw [g7]; rfl
    have hs12 : ch_sl w12 = ch_sl w6 + i := by unfold ch_sl; rw [g7]; rfl
    obtain ⟨t1, t2, t3, t4, t5⟩ := pjC_gen (w' := w12) q1.1 (fun a ha => Or.inr (low a ha)) (by omega) (fun b hb => by
      by_cases hbn : b = ch_nx w6
      · omega
      · rw [(b_cell (g6 b hbn)).1, b_tN, if_neg hbn] at hb
        have := q1.1.2.2.2.2.2.1 b hb
        omega)
    have hpf12 : pf g r L P w6 w12 := t5 w6 pf.refl low
    have hrn := q1.1.2.2.2.2.2.1 r (by rw [q1.1.2.2.2.2.2.2.1.1.1]; decide)
    have hPr := q1.1.2.2.1
    have hb2 := q2.2.2
    have hmfs6 : mfs σ σ6 := hmfs1.trans q2.2.1.s
    have hmfs : mfs σ0 σ6 := j4.trans hmfs6
    have hA6 := q1.2.2
    unfold pjA at hA6
    unfold bd at hb1 hb2
    have hbds : bds L 4 2 2 w0 σ0 fr0 w12 σ6 fr6 := by
      unfold bds
      rw [t2, hc12, hs12, hnn6, hnl6, hns6]
      omega
    refine Or.inl ⟨some (ch_nx w6), w12, _, σ6, g1, k2, ch_nx w6, i, Z, rfl, ⟨?_, by omega, g4, g5, by omega, ?_, fun k hk => ⟨?_, ?_, fun hk1 => ?_, ?_⟩⟩, fun k hk => ⟨E k, g2 k (by omega) hk, (j10 k hk).2.2.1, ?_⟩, ⟨fr, by omega, ?_, ?_⟩, tc6, fr6, tt6, ⟨t1, q1.2.1, ?_⟩, ⟨(j3.trans hpf6).trans hpf12, hmfs, hbds⟩, by omega⟩
    · have hC1 := q1.1
      obtain ⟨-, -, -, -, -, -, -, -, -, -, A0, k0, cap0, E0, T0, c11, -⟩ := hC1
      have hLn := q1.1.2.2.2.2.2.1 L (by rw [c11.1.1]; decide)
      have hA0n := q1.1.2.2.2.2.2.1 A0 (by rcases c11.1.2.2.2.2.2.2.1 with y | y <;> omega)
      refine Or.inr ⟨by omega, by omega, by omega, ?_⟩
      rw [(b_cell (low L hLn)).2.2.2.1, c11.1.2.1]
      intro q
      have := Option.some.inj q
      omega
    · rcases j6 with ⟨y1, y2, y3⟩ | ⟨y1, y2, y3⟩
      · exact Or.inl ⟨y1, y2⟩
      · exact Or.inr ⟨y1, y2⟩
    · have := hZm 0 k (by omega) (by omega)
      omega
    · have := (j10 k hk).1
      have := hZm (k + 1) i (by omega) (Nat.le_refl _)
      omega
    · exact (j10 k hk).1
    · have := (j10 k hk).1
      have := hZm (k + 1) i (by omega) (Nat.le_refl _)
      rw [hmfs6.2.2.2.2.2.2.2.2.1 fX3_nextOf (by decide) (Z k) (by omega)]
      exact (j10 k hk).2.1
    · have hz2 := hZm (k + 1) i (by omega) (Nat.le_refl _)
      exact ((j10 k hk).2.2.2.keeps (hpf6.trans hpf12) hmfs6 (by omega) (by omega) (by omega) (by omega) (by omega))
    · rw [(b_cell (low r hrn)).2.2.1, hck]
      exact hcl1
    · rw [q4.1 _ (by decide)]
      exact hbe1
    · have htk6 := q1.1.2.2.2.2.2.2.1.2.2.2
      exact hA0.steps hbds (by omega) (by omega) (by omega) (Nat.le_trans htk6.1 htk6.2.1) hmfs.2.2.2.2.1
  · have hbd01 : bds L 1 1 1 w0 σ0 fr0 w1 σ1 fr := by
      have hcapb := j1.1.2.2.2.2.2.1
      unfold bd at hb1
      unfold bds
      rw [m1, m2, m3]
      omega
    rw [tb_er k1]
    exact Or.inr ⟨er, w6, b, σ6, q, rfl, k2, k3.base (j3.trans p2.1), (k4.s.base (j4.trans hmfs1) hbd01).weak (by omega) (by omega)⟩
/-- THE LOOP -/
theorem lp_blk {d e La : Nat} (IH : SP g P r L S n f C1 C2 (op + 1) d (e + 1)) (hA0 : pjA L n C1 C2 w0 σ0 fr0) (hP0 : P ≤ ch_nx w0) (hn31 : n < 2 ^ 31) : ∀ (N : Nat) (i A cap : Nat) (E Z : Nat → Nat) (x1 x2 : Int32) (w : ch_W) (σ : ch_S) (tc fr tt : Nat), 1500 - nn σ fX3_statements ≤ N → bI g P r L S n f C1 C2 op w0 σ0 fr0 La w σ tc fr tt i A cap E Z x1 x2 → pos P n C1 C2 0 0 w0 σ0 fr0 (ch_loop (bBC g r d La) w) (ch_loop (bBM (e + 1)) (x1, x2, σ)) (bQ g P r L S n f C1 C2 op w0 σ0 fr0) := by
  have hA03 := hA0
  unfold pjA at hA03
  intro N
  induction N with
  | zero =>
    intro i A cap E Z x1 x2 w σ tc fr tt hN hI
    have := hI.2.1.2.2.2.2.2.2.2.2.2
    omega
  | succ N ih =>
    intro i A cap E Z x1 x2 w σ tc fr tt hN hI
    by_cases hz : tc = 1125
    · exact po_bfin hA0 hI hz
    · have hI' := hI
      obtain ⟨j1, j2, j3, j4, j5, j6, j7, j8, j9, j10, i1, i2, i3, i4, i5⟩ := hI'
      have hat := j2.1.2.2.2.2.2.2.1
      have htk := hat.2.2.2
      have hr := hat.1.1
      have hwr := j2.2.1.2.2.1
      have hcapb := j1.1.2.2.2.2.2.1
      have hA := j2.2.2
      unfold pjA at hA
      have hn12 := j2.2.1.2.2.2.2.1
      have hfn := htk.2.1
      have hff := htk.1
      have s1 : m_X3_isSign 125 σ = some (if tc = 1000 + 125 then 1 else 0) := ms_sign (c := 125) j2.2.1 htk (by decide)
      have hM : ch_loop (bBM (e + 1)) (x1, x2, σ) = (cr_MB (e + 1) 1 σ).bind fun p3 => (if x2 < 0 then m_X3_block_51 (cr_MB (e + 1)) x1 p3.1 p3.2 else (ch_mw p3.2 fX3_nextOf x2 p3.1).bind fun σ5 => m_X3_block_51 (cr_MB (e + 1)) x1 p3.1 σ5).bind (lpc (bBM (e + 1))) := by
        rw [lp_eq]
        show (m_X3_block_19 (cr_MB (e + 1)) x1 x2 σ).bind _ = _
        unfold m_X3_block_19
        rw [hwr, if_pos bn_m1, s1, Option.bind_some, if_neg (show ¬ tc = 1000 + 125 by omega), if_pos rfl]
        cases cr_MB (e + 1) 1 σ <;> rfl
      have hC : ch_loop (bBC g r d La) w = ch_tb (cr_PS g d 1 r 0 w) (fun a w => (Except.error a, w)) fun v15 w16 => (ch_rc w16 (some La) 14).bind fun b18 => (c_J5_add g b18 v15 w16).bind fun p19 => ch_loop (bBC g r d La) p19.2 := by
        rw [lp_eq]
        show (c_X4_block_14 (cr_PS g d) g r (some La) w).bind _ = _
        unfold c_X4_block_14
        rw [d_rc hr, it_137 hat j2.1.1, Option.bind_some, if_neg hz, if_pos rfl, d_rc hr, tb_lp]
        congr 1
        funext v15 w16
        cases ch_rc w16 (some La) 14 with
        | none => rfl
        | some b18 =>
          rw [Option.bind_some, Option.bind_some]
          cases c_J5_add g b18 v15 w16 <;> rfl
      have hrm : rm1 L n C1 C2 w σ fr := by
        unfold rm1
        omega
      have hx2 : x2 = -1 ∨ ∃ k : Nat, k < 1600 ∧ x2 = Int32.ofNat k := by
        rcases j6 with ⟨y1, y2, y3⟩ | ⟨y1, y2, y3⟩
        · exact Or.inl y3
        · refine Or.inr ⟨Z (i - 1), ?_, y3⟩
          have hZm : ∀ a b : Nat, a ≤ b → b ≤ i → Z a ≤ Z b := Ymono (fun k hk => (j10 k hk).1)
          have := hZm (i - 1) i (by omega) (Nat.le_refl _)
          omega
      rw [hM, hC]
      rcases IH w σ tc fr tt j2 hrm with ⟨xa, w2, b2, σ2, k1, k2, a2, s, rfl, rfl, k3, k4, k5, k6, k7⟩ | ⟨er, w2, b2, σ2, q, k1, k2, k3, k4⟩
      · obtain ⟨w4, A', cap', σ4, tc4, fr4, tt4, Z', g1, g2, g3, g4, g5⟩ := bI_more hA0 hP0 hI k3 k4 k5 k6 k7
        have hb4 := g5.2.1.2.2
        unfold pjA at hb4
        rw [tb_ok k1, k2, d_rc g1, g2, Option.bind_some, Option.bind_some]
        have hmod : (if x2 < 0 then m_X3_block_51 (cr_MB (e + 1)) x1 (Int32.ofNat s) σ2 else (ch_mw σ2 fX3_nextOf x2 (Int32.ofNat s)).bind fun σ5 => m_X3_block_51 (cr_MB (e + 1)) x1 (Int32.ofNat s) σ5) = m_X3_block_51 (cr_MB (e + 1)) x1 (Int32.ofNat s) σ4 := by
          by_cases hx : x2 < 0
          · rw [if_pos hx] at g3 ⊢
            rw [g3]
          · rw [if_neg hx] at g3 ⊢
            obtain ⟨k, q1, q2, q3⟩ := g3
            rw [q2, ms_w (by decide) q1, q3]
        dsimp only
        rw [hmod]
        have h51 : (m_X3_block_51 (cr_MB (e + 1)) x1 (Int32.ofNat s) σ4).bind (lpc (bBM (e + 1))) = ch_loop (bBM (e + 1)) (if x1 < 0 then Int32.ofNat s else x1, Int32.ofNat s, σ4) := by
          unfold m_X3_block_51
          split <;> rfl
        rw [h51]
        exact ih (i + 1) A' cap' _ Z' _ _ w4 σ4 tc4 fr4 tt4 (by omega) g5
      · have hbd : bds L 1 1 1 w0 σ0 fr0 w σ fr := by
          unfold bds
          omega
        have hpds := (k4.base j4 hbd).weak (show (0 : Int) ≤ _ by omega) (show (0 : Int) ≤ _ by omega)
        have hq : q < 2 ^ 31 := by
          have := k4.2.2.2.1
          omega
        have hrt := rt_stm (e := e) j2 _ k2
        have hb2 : b2 = -1 ∨ ∃ k : Nat, k < 1600 ∧ b2 = Int32.ofNat k := by
          rcases hrt with y | y
          · exact Or.inr ⟨nn σ fX3_statements, by omega, y⟩
          · exact Or.inl y
        have hns : nn σ2 fX3_statements < 1599 := by
          have h9 := hpds.2.2.2.2.2.2.2.2
          have hz2 : (if σ2.1 fX3_wrong = -1 then (1 : Int) else 2) ≤ 2 := by split <;> omega
          have := k4.2.2.1
          have := k4.2.2.2.1
          generalize (if σ2.1 fX3_wrong = -1 then (1 : Int) else 2) = z at *
          omega
        rw [tb_er k1, k2]
        have hend : ∀ σ5 : ch_S, pds n 0 0 σ0 fr0 σ5 q → nn σ5 fX3_statements < 1599 → ∃ p, (m_X3_block_51 (cr_MB (e + 1)) x1 b2 σ5).bind (lpc (bBM (e + 1))) = some p ∧ pds n 0 0 σ0 fr0 p.2 q := by
          intro σ5 y1 y2
          unfold m_X3_block_51
          split
          · exact dm_blp y1 y2 hq hb2
          · exact dm_blp y1 y2 hq hb2
        have hfin : ∃ p, (if x2 < 0 then m_X3_block_51 (cr_MB (e + 1)) x1 b2 σ2 else (ch_mw σ2 fX3_nextOf x2 b2).bind fun σ5 => m_X3_block_51 (cr_MB (e + 1)) x1 b2 σ5).bind (lpc (bBM (e + 1))) = some p ∧ pds n 0 0 σ0 fr0 p.2 q := by
          by_cases hx : x2 < 0
          · rw [if_pos hx]
            exact hend σ2 hpds hns
          · rw [if_neg hx]
            rcases hx2 with y | ⟨k, y1, y2⟩
            · exact absurd (by rw [y]; exact bn_m1) hx
            · rw [y2, ms_w (by decide) y1]
              exact hend _ (pd_sa hpds (by decide)) hns
        obtain ⟨p, y1, y2⟩ := hfin
        exact Or.inr ⟨er, w2, p.1, p.2, q, rfl, y1, k3.base j3, y2⟩
end BL
