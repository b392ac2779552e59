/-! LEVEL B2: statements of both sides: told ones, whole -/
set_option maxRecDepth 100000
section TD
variable {g : State} {P r L S n C1 C2 : Nat} {f : Nat → Nat} {w w' w0 : ch_W} {σ σ' σ0 : ch_S} {tc fr tt op om fr0 : Nat}
theorem lc_stm1 {kd pl : Int32} (h1 : ch_cs w + 1 ≤ 601024) (h2 : ch_sl w + 8 ≤ 7293034) : ∃ w1, ch_nO w 10 8 = some (ch_nw w (ch_new 10 8)) ∧ c_X9_init (ch_nx w) kd pl (ch_nw w (ch_new 10 8)) = some w1 ∧ sn w w1 kd pl := by
  obtain ⟨w', e1, e2⟩ := lc_stm (w := w) (kd := kd) (pl := pl) (F := fun p => some p) h1 h2
  refine ⟨w', b_nO h1 h2, ?_, e2⟩
  rw [d_nO h1 h2] at e1
  cases hx : c_X9_init (ch_nx w) kd pl (ch_nw w (ch_new 10 8)) with
  | none => rw [hx] at e1; cases e1
  | some p => rw [hx] at e1; exact e1
/-- rows of a statement stay -/
theorem mf_row {s : Nat} (h : mf σ σ') (hs : s < nn σ fX3_statements) : ∀ arr ∈ psa, σ'.2 arr s = σ.2 arr s := fun arr ha => h.2.2.2.2.2.2.2.2.1 arr ha s hs
/-- TOLD -/
theorem po_told {rc : Nat → ch_S → Option (Int32 × ch_S)} (h : pj g P r L S n f C1 C2 w σ tc fr tt op op fr) (hR : rm1 L n C1 C2 w σ fr) (hn31 : n < 2 ^ 31) : pos P n C1 C2 0 0 w σ fr (c_X4_told g r (Int32.ofNat fr) w) (m_X3_statement_29 rc σ) (sQ g P r L S n f C1 C2 op w σ fr) := by
  have htk := h.1.2.2.2.2.2.2.1.2.2.2
  have hn12 := h.2.1.2.2.2.2.1
  have hff := htk.1
  have hfn := htk.2.1
  obtain ⟨r1, r2⟩ := pjC_room h htk.1
  obtain ⟨w1, o1, o2, hv⟩ := lc_stm1 (w := w) (kd := 0) (pl := Int32.ofNat fr) (by omega) (by omega)
  obtain ⟨hb, h1, hp1, ha1, hPa, hs14⟩ := pj_begin (kM := 0) h hR hv
  obtain ⟨v1, v2, v3, v4, v5, v6, v7, v8, v9⟩ := hv
  generalize hsd : nn σ fX3_statements = s at *
  generalize haa : ch_nx w = a at *
  obtain ⟨b1, b2, b3, b4, b5, b6, b7, b8, b9⟩ := md_beg_at (σ := σ) (s := s) (kd := 0)
  have hst1 : nn (md_beg σ s 0) fX3_statements = s + 1 := nn_beg (by omega)
  have hnod : σ.1 fX3_nodes = Int32.ofNat (nn σ fX3_nodes) := h.2.1.2.2.2.2.2.2.1
  have hwf : σ.1 fX3_wordFrom = Int32.ofNat fr := h.2.1.2.1.1
  have hA9 := h.2.2
  unfold pjA at hA9
  unfold c_X4_told m_X3_statement_29
  rw [haa, o1, Option.bind_some, o2, Option.bind_some, d_rc h1.1.2.2.2.2.2.2.1.1.1, hb, Option.bind_some]
  dsimp only
  generalize hσ1 : md_beg σ s 0 = σ1 at *
  refine pos.tb2 ((po_type h1).s) hp1.1 (fun x w2 y σ2 q => ?_) (fun b σ2 q hq2 => ?_)
  · obtain ⟨-, hty, ⟨tc2, fr2, tt2, q1, q2, q3⟩, q4⟩ := q
    obtain ⟨k1, k2⟩ := q2.1.2.1 _ ha1
    obtain ⟨f1, f2, f3, f4, f5⟩ := b_cell k1
    have t2 : ch_tg w2 a = 10 := by rw [f1]; exact v3
    have row2 := mf_row q2.2.1 (show s < nn σ1 fX3_statements by omega)
    have hst2 : nn σ2 fX3_statements = s + 1 := by rw [nn_fr q4 (by decide)]; exact hst1
    have hno2 : nn σ2 fX3_nodes = nn σ1 fX3_nodes := nn_fr q4 (by decide)
    dsimp only
    rw [d_pI t2, ms_w (by decide) (by omega)]
    obtain ⟨p1, p2, p3, p4, p5⟩ := pj_fld10 (w' := ch_si w2 a fX9_type x) q1 k2 hPa t2 (fun x hx => b_oI hx) rfl
    have h3 := pj_sa (arr := fX3_toldType) (s := s) (v := y) p1 (by decide)
    have hp3 := pr_sa (arr := fX3_toldType) (s := s) (v := y) (p5 _ _ _ _ _ _ (hp1.trans (q2.s q3)) (by omega)) (by decide) (by omega)
    rw [d_rc h3.1.2.2.2.2.2.2.1.1.1]
    have hty3 : tyR g (ch_si w2 a fX9_type x) L (md_sa σ2 fX3_toldType s y) x y := hty.keep (r := r) (P := P) p4 (mg_sa (by decide))
    generalize hσ3 : md_sa σ2 fX3_toldType s y = σ3 at *
    generalize hw3 : ch_si w2 a fX9_type x = w3 at *
    have t3 : ch_tg w3 a = 10 := by rw [← hw3, b_tI]; exact t2
    have row3 : ∀ arr ∈ psa, arr ≠ fX3_toldType → σ3.2 arr s = σ1.2 arr s := fun arr h1 h2 => by rw [← hσ3, md_an h2]; exact row2 arr h1
    have rT3 : σ3.2 fX3_toldType s = y := by rw [← hσ3, md_ga, if_pos ⟨rfl, rfl⟩]
    have hst3 : nn σ3 fX3_statements = s + 1 := by rw [← hσ3]; exact hst2
    have hno3 : nn σ3 fX3_nodes = nn σ1 fX3_nodes := by rw [← hσ3]; exact hno2
    have gi3 : ∀ k : Nat, k ≠ fX9_type → ch_gi w3 a k = ch_gi w1 a k := fun k hk => by rw [← hw3, b_II, if_neg (fun q => hk q.2), f3]
    have gt3 : ch_gi w3 a fX9_type = x := by rw [← hw3, b_II, if_pos ⟨rfl, rfl⟩]
    have gr3 : ∀ k : Nat, ch_gr w3 a k = ch_gr w1 a k := fun k => by rw [← hw3, b_RI, f4]
    have k3 := p3 _ k2
    refine pos.tb2 ((po_name h3).s) hp3.1 (fun x4 w4 y4 σ4 z => ?_) (fun b σ4 q hq4 => ?_)
    · obtain ⟨-, ⟨i, j, rfl, z2, rfl, z3, z4, z5⟩, ⟨tc4, fr4, tt4, y6, y7, y8⟩, y9⟩ := z
      obtain ⟨m1, m2⟩ := y7.1.2.1 _ k3
      obtain ⟨n1, n2, n3, n4, n5⟩ := b_cell m1
      have t4 : ch_tg w4 a = 10 := by rw [n1]; exact t3
      have row4 := mf_row y7.2.1 (show s < nn σ3 fX3_statements by omega)
      have hst4 : nn σ4 fX3_statements = s + 1 := by rw [nn_fr y9 (by decide)]; exact hst3
      have hno4 : nn σ4 fX3_nodes = nn σ1 fX3_nodes := by rw [nn_fr y9 (by decide)]; exact hno3
      dsimp only
      rw [d_pI t4, ms_w (by decide) (by omega)]
      obtain ⟨p1', p2', p3', p4', p5'⟩ := pj_fld10 (w' := ch_si w4 a fX9_name (Int32.ofNat i)) y6 m2 hPa t4 (fun x hx => b_oI hx) rfl
      have h5 := pj_sa (arr := fX3_toldName) (s := s) (v := Int32.ofNat j) p1' (by decide)
      have hp5 := pr_sa (arr := fX3_toldName) (s := s) (v := Int32.ofNat j) (p5' _ _ _ _ _ _ (hp3.trans (y7.s y8)) (by omega)) (by decide) (by omega)
      have hat5 := h5.1.2.2.2.2.2.2.1
      have htk5 := hat5.2.2.2
      have hty5 : tyR g (ch_si w4 a fX9_name (Int32.ofNat i)) L (md_sa σ4 fX3_toldName s (Int32.ofNat j)) x y := (hty3.keep (r := r) (P := P) y7.1.2.2 y7.2.1.mg).keep (r := r) (P := P) p4' (mg_sa (by decide))
      have hio5 : iota g (ch_si w4 a fX9_name (Int32.ofNat i)) L (md_sa σ4 fX3_toldName s (Int32.ofNat j)) (Int32.ofNat i) (Int32.ofNat j) := ⟨i, j, _, rfl, z2, rfl, z3, p4' i _ z4, (mg_sa (by decide)).2.2.2.2 j _ z5⟩
      rw [d_rc hat5.1.1]
      generalize hσ5 : md_sa σ4 fX3_toldName s (Int32.ofNat j) = σ5 at *
      generalize hw5 : ch_si w4 a fX9_name (Int32.ofNat i) = w5 at *
      have t5 : ch_tg w5 a = 10 := by rw [← hw5, b_tI]; exact t4
      have row5 : ∀ arr ∈ psa, arr ≠ fX3_toldType → arr ≠ fX3_toldName → σ5.2 arr s = σ1.2 arr s := fun arr h1 h2 h3 => by rw [← hσ5, md_an h3, row4 arr h1]; exact row3 arr h1 h2
      have rT5 : σ5.2 fX3_toldType s = y := by rw [← hσ5, md_an (by decide), row4 _ (by decide)]; exact rT3
      have rN5 : σ5.2 fX3_toldName s = Int32.ofNat j := by rw [← hσ5, md_ga, if_pos ⟨rfl, rfl⟩]
      have hst5 : nn σ5 fX3_statements = s + 1 := by rw [← hσ5]; exact hst4
      have hno5 : nn σ5 fX3_nodes = nn σ1 fX3_nodes := by rw [← hσ5]; exact hno4
      have gi5 : ∀ k : Nat, k ≠ fX9_type → k ≠ fX9_name → ch_gi w5 a k = ch_gi w1 a k := fun k hk hk2 => by rw [← hw5, b_II, if_neg (fun q => hk2 q.2), n3]; exact gi3 k hk
      have gt5 : ch_gi w5 a fX9_type = x := by rw [← hw5, b_II, if_neg (fun q => absurd q.2 (by decide)), n3]; exact gt3
      have gn5 : ch_gi w5 a fX9_name = Int32.ofNat i := by rw [← hw5, b_II, if_pos ⟨rfl, rfl⟩]
      have gr5 : ∀ k : Nat, ch_gr w5 a k = ch_gr w1 a k := fun k => by rw [← hw5, b_RI, n4]; exact gr3 k
      have k5 := p3' _ m2
      have hlo : nn σ1 fX3_nodes = nn σ fX3_nodes := by rw [← hσ1]; exact nn_fr md_beg_fr (by decide)
      have s1 : m_X3_isSign 61 σ5 = _ := ms_sign (c := 61) h5.2.1 htk5 (by decide)
      rw [it_240 hat5 h5.1.1, Option.bind_some, s1, Option.bind_some]
      by_cases hz : tc4 = 1061
      · rw [if_pos hz, if_neg (show ¬ (1 : Int32) = 0 by decide), if_neg (show ¬ (1 : Int32) = 0 by decide), d_rc hat5.1.1, o_split 0]
        refine pos.tb2 ((po_next h5 (by omega) (Nat.le_refl _) htk5.1).s) hp5.1 (fun _ w6 b6 σ6 z => ?_) (fun b σ6 q hq6 => ?_)
        · obtain ⟨rfl, ⟨tc6, fr6, tt6, c1, c2, c3⟩, c4⟩ := z
          dsimp only
          rw [d_rc c1.1.2.2.2.2.2.2.1.1.1]
          have hp6 := hp5.trans (c2.s c3)
          have hno6 : nn σ6 fX3_nodes = nn σ1 fX3_nodes := by rw [nn_fr c4 (by decide)]; exact hno5
          have hst6 : nn σ6 fX3_statements = s + 1 := by rw [nn_fr c4 (by decide)]; exact hst5
          refine pos.tb2 ((po_expr c1).s) hp6.1 (fun x7 w7 y7' σ7 z => ?_) (fun b σ7 q hq7 => ?_)
          · obtain ⟨a7, nd7, rfl, rfl, g1, g2, tc7, fr7, tt7, g3, g4, g5⟩ := z
            obtain ⟨u1, u2⟩ := (c2.trans g4).1.2.1 _ k5
            obtain ⟨l1, l2, l3, l4, l5⟩ := b_cell u1
            have t7 : ch_tg w7 a = 10 := by rw [l1]; exact t5
            have row7 : ∀ arr ∈ psa, σ7.2 arr s = σ5.2 arr s := mf_row (c2.trans g4).2.1 (by omega)
            have hst7 : nn σ7 fX3_statements = s + 1 := by rw [nn_fr g4.2.1.1 (by decide)]; exact hst6
            have hA7 := g3.2.2
            unfold pjA at hA7
            dsimp only
            rw [d_pR t7, ms_w (by decide) (by omega)]
            obtain ⟨d1, d2, d3, d4, d5⟩ := pj_fld10 (w' := ch_sr w7 a fX9_value (some a7)) g3 u2 hPa t7 (fun x hx => b_oR hx) rfl
            have h8 := pj_sa (arr := fX3_value) (s := s) (v := Int32.ofNat nd7) d1 (by decide)
            have hp8 := pr_sa (arr := fX3_value) (s := s) (v := Int32.ofNat nd7) (d5 _ _ _ _ _ _ (hp6.trans (g4.s g5)) (by omega)) (by decide) (by omega)
            unfold c_X4_told_47
            rw [d_rc h8.1.2.2.2.2.2.2.1.1.1]
            have hmg : mg σ5 (md_sa σ7 fX3_value s (Int32.ofNat nd7)) := by
              have m1 := (c2.trans g4).2.1.mg
              have m2 : mg σ7 (md_sa σ7 fX3_value s (Int32.ofNat nd7)) := mg_sa (by decide)
              exact ⟨Nat.le_trans m1.1 m2.1, Nat.le_trans m1.2.1 m2.2.1, fun a ha k hk => (m2.2.2.1 a ha k (by have := m1.1; omega)).trans (m1.2.2.1 a ha k hk), fun k hk => (m2.2.2.2.1 k (by have := m1.2.1; omega)).trans (m1.2.2.2.1 k hk), fun j t q => m2.2.2.2.2 j t (m1.2.2.2.2 j t q)⟩
            have hcn : ∀ (i : Nat) (t : List Nat), cn g w5 L i t → cn g (ch_sr w7 a fX9_value (some a7)) L i t := fun i t q => d4 i t ((c2.trans g4).1.2.2 i t q)
            have hv7 : vt g r L P (ch_sr w7 a fX9_value (some a7)) (md_sa σ7 fX3_value s (Int32.ofNat nd7)) a7 (nn σ fX3_nodes) nd7 := by
              have := d2 a7 _ nd7 (by omega) (by omega) g2
              rw [hno6, hlo] at this
              exact vt.keep0 (fun x hx _ => ⟨rfl, hx⟩) (fun _ _ q => q) (mg_sa (by decide)) (show nn σ7 fX3_nodes ≤ 1500 by omega) (show nn σ7 fX3_listed ≤ 1500 by omega) (nd7 + 1) a7 _ _ (by omega) this
            refine po_semi h.2.2 h8 hp8 (by omega) (by omega) (by omega) (a := a) (s := s) ?_ ?_ hsd.symm (by omega)
            · rw [st, sth]
              refine ⟨d3 _ u2, hPa, by rw [b_tR]; exact t7, by show s < nn σ7 fX3_statements; omega, by show nn σ7 fX3_statements ≤ 1500; omega, ?_, ?_, nn σ fX3_nodes, ?_, by omega, Or.inl ⟨?_, ?_, ?_, ?_, Or.inr ⟨a7, nd7, ?_, ?_, by omega, hv7⟩⟩⟩
              · rw [b_IR, l3, gi5 _ (by decide) (by decide), v5, md_an (by decide), row7 _ (by decide), row5 _ (by decide) (by decide) (by decide), b2, hwf]
              · rw [md_an (by decide), row7 _ (by decide), row5 _ (by decide) (by decide) (by decide), b2, hwf]
                exact ⟨fr, rfl, by omega⟩
              · rw [md_an (by decide), row7 _ (by decide), row5 _ (by decide) (by decide) (by decide), b3, hnod]
              · rw [b_IR, l3, gi5 _ (by decide) (by decide)]; exact v4
              · rw [md_an (by decide), row7 _ (by decide), row5 _ (by decide) (by decide) (by decide)]; exact b1
              · rw [b_IR, l3, gt5, md_an (by decide), row7 _ (by decide), rT5]
                exact hty5.keep (r := r) (P := P) hcn hmg
              · rw [b_IR, l3, gn5, md_an (by decide), row7 _ (by decide), rN5]
                exact hio5.keep0 hcn hmg
              · rw [b_RR, if_pos ⟨rfl, rfl⟩]
              · rw [md_ga, if_pos ⟨rfl, rfl⟩]
            · rw [md_an (by decide), row7 _ (by decide), row5 _ (by decide) (by decide) (by decide)]; exact b9
          · have hpds := (hq7.base hp6.2.1 hp6.2.2).weak (show (0 : Int) ≤ _ by omega) (show (0 : Int) ≤ _ by omega)
            dsimp only
            rw [ms_w (by decide) (by omega)]
            exact dm_78 (pd_sa hpds (by decide)) hn31
        · have hpds := (hq6.base hp5.2.1 hp5.2.2).weak (show (0 : Int) ≤ _ by omega) (show (0 : Int) ≤ _ by omega)
          have hq9 := hpds.2.2.2.1
          obtain ⟨σ8, d1, d2⟩ := dm_0 (d := 441) hpds.2.1 (show q < 2 ^ 31 by omega)
          dsimp only
          rw [d1, Option.bind_some, ms_w (by decide) (by omega)]
          exact dm_78 (pd_sa (hpds.dr d2 (by omega)) (by decide)) hn31
      · rw [if_neg hz, if_pos rfl, if_pos rfl]
        unfold c_X4_told_47
        rw [d_rc hat5.1.1]
        have hA5 := h5.2.2
        unfold pjA at hA5
        refine po_semi h.2.2 h5 hp5 (by omega) (by omega) (by omega) (a := a) (s := s) ?_ ?_ hsd.symm (by omega)
        · rw [st, sth]
          refine ⟨k5, hPa, t5, by omega, by omega, ?_, ?_, nn σ fX3_nodes, ?_, by omega, Or.inl ⟨?_, ?_, ?_, ?_, Or.inl ⟨?_, ?_⟩⟩⟩
          · rw [gi5 _ (by decide) (by decide), v5, row5 _ (by decide) (by decide) (by decide), b2, hwf]
          · rw [row5 _ (by decide) (by decide) (by decide), b2, hwf]
            exact ⟨fr, rfl, by omega⟩
          · rw [row5 _ (by decide) (by decide) (by decide), b3, hnod]
          · rw [gi5 _ (by decide) (by decide)]; exact v4
          · rw [row5 _ (by decide) (by decide) (by decide)]; exact b1
          · rw [gt5, rT5]; exact hty5
          · rw [gn5, rN5]; exact hio5
          · rw [gr5]; exact v7
          · rw [row5 _ (by decide) (by decide) (by decide)]; exact b4
        · rw [row5 _ (by decide) (by decide) (by decide)]; exact b9
    · have hpds := (hq4.base hp3.2.1 hp3.2.2).weak (show (0 : Int) ≤ _ by omega) (show (0 : Int) ≤ _ by omega)
      have hq9 := hpds.2.2.2.1
      dsimp only
      rw [ms_w (by decide) (by omega)]
      have hpd5 := pd_sa (arr := fX3_toldName) (s := s) (v := b) hpds (by decide)
      rw [dm_sign hpd5.2.1 (show q < 2 ^ 31 by omega), Option.bind_some, if_pos rfl]
      exact dm_78 hpd5 hn31
  · have hpds := (hq2.base hp1.2.1 hp1.2.2).weak (show (0 : Int) ≤ _ by omega) (show (0 : Int) ≤ _ by omega)
    have hq9 := hpds.2.2.2.1
    dsimp only
    rw [ms_w (by decide) (by omega)]
    have hpd3 := pd_sa (arr := fX3_toldType) (s := s) (v := b) hpds (by decide)
    obtain ⟨σ4, d1, d2⟩ := dm_name hpd3.2.1 (show q < 2 ^ 31 by omega)
    rw [d1, Option.bind_some]
    dsimp only
    rw [ms_w (by decide) (by omega)]
    have hpd5 := pd_sa (arr := fX3_toldName) (s := s) (v := -1) (hpd3.dr d2 (by omega)) (by decide)
    rw [dm_sign hpd5.2.1 (show q < 2 ^ 31 by omega), Option.bind_some, if_pos rfl]
    exact dm_78 hpd5 hn31
end TD
