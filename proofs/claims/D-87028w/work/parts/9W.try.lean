/-! LEVEL B2: try -/
set_option maxRecDepth 100000
section CN
variable {g : State} {P r L S n C1 C2 : Nat} {f : Nat → Nat} {w w' w0 w1 w2 : ch_W} {σ σ' σ0 σ2 : ch_S} {tc fr tt op op2 fr0 : Nat}
theorem cst.stepo {a s : Nat} {u z t u2 z2 t2 : Int} {GI : Nat → Int32} {GR : Nat → Option Nat} {RW : Nat → Int32} {tc2 fr2 tt2 : Nat} (h : cst g P r L S n f C1 C2 op w0 σ0 fr0 a s u z t w σ tc fr tt GI GR RW) (h2 : pj g P r L S n f C1 C2 w2 σ2 tc2 fr2 tt2 op2 op2 fr2) (hp : prs g P r L u2 z2 t2 w σ fr w2 σ2 fr2) : cst g P r L S n f C1 C2 op2 w0 σ0 fr0 a s (u + u2) (z + z2) (t + t2) w2 σ2 tc2 fr2 tt2 GI GR RW ∧ sk g r L P w σ w2 σ2 a s := by
  have hc : cst g P r L S n f C1 C2 op2 w0 σ0 fr0 a s (u + u2) (z + z2) (t + t2) w2 σ2 tc2 fr2 tt2 GI GR RW := ⟨h2, h.2.1.trans hp, h.2.2.1.pf hp.1 hp.2.1, h.2.2.2⟩
  have := hc.bnd
  exact ⟨hc, sk_pf hp.1 hp.2.1 (by omega) (by omega) (by omega)⟩
theorem pj_wv {om : Nat} (h : pj g P r L S n f C1 C2 w σ tc fr tt op om fr) (hq : tc = 1) : ∃ j : Nat, j < 1600 ∧ σ.1 fX3_wordValue = Int32.ofNat j ∧ mn σ j (lx_tx f fr tt) := by
  obtain ⟨m1, m2, m3, m4, m5, ⟨kM, TM, m6, m7, m8⟩, m9⟩ := h.2.1
  have htk := h.1.2.2.2.2.2.2.1.2.2.2
  have := htk.1
  have := htk.2.1
  obtain ⟨j, j1, j2, j3⟩ := m8 hq
  exact ⟨j, by omega, j2, kM, TM, m6, by omega, j1, j3⟩
/-- TRY -/
theorem po_try {d e : Nat} (HB : BP g P r L S n f C1 C2 op d (e + 1)) (h : pj g P r L S n f C1 C2 w σ tc fr tt op op fr) (hR : rm1 L n C1 C2 w σ fr) (hn31 : n < 2 ^ 31) (hq : tc = 2011) : pos P n C1 C2 0 0 w σ fr (c_X4_tried (cr_PS g d) g r (Int32.ofNat fr) w) (m_X3_statement_107 (cr_MB (e + 1)) 11 σ) (sQ g P r L S n f C1 C2 op w σ fr) := by
  have htk := h.1.2.2.2.2.2.2.1.2.2.2
  obtain ⟨r1, r2⟩ := pjC_room h htk.1
  obtain ⟨w1, o1, o2, hv⟩ := lc_stm1 (w := w) (kd := 7) (pl := Int32.ofNat fr) (by omega) (by omega)
  obtain ⟨hb, hc⟩ := cst_begin (kM := 5) h hR hv
  obtain ⟨v1, v2, v3, v4, v5, v6, v7, v8, v9⟩ := hv
  obtain ⟨b1, b2, b3, b4, b5, b6, b7, b8, b9⟩ := md_beg_at (σ := σ) (s := nn σ fX3_statements) (kd := 5)
  have hnod : σ.1 fX3_nodes = Int32.ofNat (nn σ fX3_nodes) := h.2.1.2.2.2.2.2.2.1
  have hwf : σ.1 fX3_wordFrom = Int32.ofNat fr := h.2.1.2.1.1
  have hbd := hc.bnd
  have hA9 := h.2.2
  unfold pjA at hA9
  have hs16 : nn σ fX3_statements < 1600 := by omega
  unfold c_X4_tried m_X3_statement_107
  rw [o1, Option.bind_some, o2, Option.bind_some, d_rc hc.1.1.2.2.2.2.2.2.1.1.1, if_neg (show ¬ (11 : Int32) = 6 by decide), if_neg (show ¬ (11 : Int32) = 7 by decide), if_neg (show ¬ (11 : Int32) = 8 by decide), if_neg (show ¬ (11 : Int32) = 9 by decide), if_neg (show ¬ (11 : Int32) = 10 by decide), if_pos rfl, hb, Option.bind_some]
  dsimp only
  -- the model's tails when it is stuck
  have T3 : ∀ (σ4 : ch_S) (q : Nat), pds n 0 0 σ fr σ4 q → ∃ p, ((cr_MB (e + 1) 0 σ4).bind fun p50 => (ch_mw p50.2 fX3_other (Int32.ofNat (nn σ fX3_statements)) p50.1).bind fun σ52 => some (Int32.ofNat (nn σ fX3_statements), σ52)) = some p ∧ pds n 0 0 σ fr p.2 q := by
    intro σ4 q hq4
    have := hq4.2.2.2.1
    obtain ⟨p, p1, p2⟩ := dm_block (e := e) hq4 (show q < 2 ^ 31 by omega)
    rw [p1, Option.bind_some, ms_w (by decide) hs16]
    exact ⟨_, rfl, pd_sa p2 (by decide)⟩
  have T2 : ∀ (σ4 : ch_S) (q : Nat), pds n 0 0 σ fr σ4 q → ∃ p, ((m_X3_closes 41 σ4).bind fun p48 => (cr_MB (e + 1) 0 p48).bind fun p50 => (ch_mw p50.2 fX3_other (Int32.ofNat (nn σ fX3_statements)) p50.1).bind fun σ52 => some (Int32.ofNat (nn σ fX3_statements), σ52)) = some p ∧ pds n 0 0 σ fr p.2 q := by
    intro σ4 q hq4
    have := hq4.2.2.2.1
    obtain ⟨σ5, d1, d2⟩ := dm_closes (c := 41) hq4.2.1 (show q < 2 ^ 31 by omega)
    rw [d1, Option.bind_some]
    exact T3 _ _ (hq4.dr d2 (by omega))
  have T1 : ∀ (σ4 : ch_S) (q : Nat), pds n 0 0 σ fr σ4 q → ∃ p, ((m_X3_name σ4).bind fun p45 => (ch_mw p45.2 fX3_toldName (Int32.ofNat (nn σ fX3_statements)) p45.1).bind fun σ47 => (m_X3_closes 41 σ47).bind fun p48 => (cr_MB (e + 1) 0 p48).bind fun p50 => (ch_mw p50.2 fX3_other (Int32.ofNat (nn σ fX3_statements)) p50.1).bind fun σ52 => some (Int32.ofNat (nn σ fX3_statements), σ52)) = some p ∧ pds n 0 0 σ fr p.2 q := by
    intro σ4 q hq4
    have := hq4.2.2.2.1
    obtain ⟨σ5, d1, d2⟩ := dm_name hq4.2.1 (show q < 2 ^ 31 by omega)
    rw [d1, Option.bind_some, ms_w (by decide) hs16]
    exact T2 _ _ (pd_sa (hq4.dr d2 (by omega)) (by decide))
  have hrest : ∀ (σ4 : ch_S) (q : Nat), pds n 0 0 σ fr σ4 q → ∃ p, ((m_X3_isSign 40 σ4).bind fun v38 => (m_X3_opens v38 σ4).bind fun p40 => if p40.1 = 0 then some (Int32.ofNat (nn σ fX3_statements), p40.2) else (ch_mw p40.2 fX3_toldType (Int32.ofNat (nn σ fX3_statements)) (10 + p40.2.1 fX3_wordValue)).bind fun σ42 => (m_X3_name σ42).bind fun p43 => (m_X3_name p43.2).bind fun p45 => (ch_mw p45.2 fX3_toldName (Int32.ofNat (nn σ fX3_statements)) p45.1).bind fun σ47 => (m_X3_closes 41 σ47).bind fun p48 => (cr_MB (e + 1) 0 p48).bind fun p50 => (ch_mw p50.2 fX3_other (Int32.ofNat (nn σ fX3_statements)) p50.1).bind fun σ52 => some (Int32.ofNat (nn σ fX3_statements), σ52)) = some p ∧ pds n 0 0 σ fr p.2 q := by
    intro σ4 q hq4
    have := hq4.2.2.2.1
    obtain ⟨σ5, d1, d2⟩ := dm_opens (v := 0) hq4.2.1 (show q < 2 ^ 31 by omega) (fun _ => rfl)
    rw [dm_sign hq4.2.1 (show q < 2 ^ 31 by omega), Option.bind_some, d1, Option.bind_some, if_pos rfl]
    exact ⟨_, rfl, hq4.dr d2 (by omega)⟩
  have htail : ∀ (σ4 : ch_S) (q : Nat), pds n 0 0 σ fr σ4 q → ∃ p, ((m_X3_isKey 12 σ4).bind fun v34 => (m_X3_passes v34 σ4).bind fun p36 => if p36.1 = 0 then some (Int32.ofNat (nn σ fX3_statements), p36.2) else (m_X3_isSign 40 p36.2).bind fun v38 => (m_X3_opens v38 p36.2).bind fun p40 => if p40.1 = 0 then some (Int32.ofNat (nn σ fX3_statements), p40.2) else (ch_mw p40.2 fX3_toldType (Int32.ofNat (nn σ fX3_statements)) (10 + p40.2.1 fX3_wordValue)).bind fun σ42 => (m_X3_name σ42).bind fun p43 => (m_X3_name p43.2).bind fun p45 => (ch_mw p45.2 fX3_toldName (Int32.ofNat (nn σ fX3_statements)) p45.1).bind fun σ47 => (m_X3_closes 41 σ47).bind fun p48 => (cr_MB (e + 1) 0 p48).bind fun p50 => (ch_mw p50.2 fX3_other (Int32.ofNat (nn σ fX3_statements)) p50.1).bind fun σ52 => some (Int32.ofNat (nn σ fX3_statements), σ52)) = some p ∧ pds n 0 0 σ fr p.2 q := by
    intro σ4 q hq4
    have := hq4.2.2.2.1
    obtain ⟨σ5, d1, d2⟩ := dm_passes (v := 0) hq4.2.1 (show q < 2 ^ 31 by omega) (fun _ => rfl)
    rw [dm_key hq4.2.1 (show q < 2 ^ 31 by omega), Option.bind_some, d1, Option.bind_some, if_pos rfl]
    exact ⟨_, rfl, hq4.dr d2 (by omega)⟩
  refine po_cnext hc (by omega) (by omega) (by omega) (fun w2 σ2 tc2 fr2 tt2 c2 k2 n2 l2 => ?_) (fun σ2 q hq2 => ?_)
  · rw [d_rc c2.1.1.2.2.2.2.2.2.1.1.1]
    refine po_cblk (fd := fX9_first) (arr := fX3_inner) HB c2 (by omega) (by omega) (by decide) (fun w3 σ3 x3 y3 tc3 fr3 tt3 c3 k3 t3 l3 => ?_) htail
    have hat3 := c3.1.1.2.2.2.2.2.2.1
    have hkey : m_X3_isKey 12 σ3 = some (if tc3 = 2000 + 12 then 1 else 0) := ms_key (c := 12) c3.1.2.1 hat3.2.2.2 (by decide) (by decide)
    rw [d_rc hat3.1.1, hkey, Option.bind_some]
    refine pos.tb2 ((po_want c3.1 (c := 2012) (by decide) (it_265 hat3 c3.1.1.1)).s) c3.2.1.1 (fun _ w4 b4 σ4 y => ?_) (fun b4 σ4 q hq4 => ?_)
    · obtain ⟨rfl, -, ⟨tc4, fr4, tt4, y1, y2, y3⟩, y4⟩ := y
      obtain ⟨c4, k4⟩ := c3.step y1 (y2.s y3)
      have hat4 := c4.1.1.2.2.2.2.2.2.1
      have s1 : m_X3_isSign 40 σ4 = some (if tc4 = 1000 + 40 then 1 else 0) := ms_sign (c := 40) c4.1.2.1 hat4.2.2.2 (by decide)
      dsimp only
      rw [if_neg (show ¬ (1 : Int32) = 0 by decide), d_rc hat4.1.1, s1, Option.bind_some]
      refine pos.tb2 ((po_opens c4.1 (Nat.le_refl _) hat4.2.2.2.1 (by decide) (it_171 hat4 c4.1.1.1)).s) c4.2.1.1 (fun _ w5 b5 σ5 y => ?_) (fun b5 σ5 q hq5 => ?_)
      · obtain ⟨rfl, -, hlt30, ⟨tc5, fr5, tt5, x1, x2, x3'⟩, x4⟩ := y
        obtain ⟨c5, k5⟩ := c4.stepo x1 (x2.s x3')
        have hat5 := c5.1.1.2.2.2.2.2.2.1
        dsimp only
        rw [if_neg (show ¬ (1 : Int32) = 0 by decide), d_rc hat5.1.1, ms_w (by decide) hs16]
        obtain ⟨c6, k6⟩ := c5.setM (arr := fX3_toldType) (v := 10 + σ5.1 fX3_wordValue) (by decide)
        refine pos.tb2 ((po_name c6.1).s) c6.2.1.1 (fun i7 w7 b7 σ7 y => ?_) (fun b7 σ7 q hq7 => ?_)
        · obtain ⟨z1, ⟨i, j, rfl, z3, rfl, z5, z6, z7⟩, ⟨tc7, fr7, tt7, x1, x2, x3'⟩, x4⟩ := y
          obtain ⟨j0, u1, u2, u3⟩ := pj_wv c6.1 z1
          obtain ⟨c7, k7⟩ := c6.step x1 (x2.s x3')
          have hio7 : iota g w7 L σ7 (Int32.ofNat i) (Int32.ofNat j0) := ⟨i, j0, lx_tx f fr5 tt5, rfl, z3, rfl, u1, z6, x2.2.1.2.2.2.2.2.2.2.2.2 _ _ u3⟩
          obtain ⟨c8, k8⟩ := c7.setI (k := fX9_type) (v := Int32.ofNat i)
          dsimp only
          rw [d_pI c7.2.2.1.2.2.1, d_rc c8.1.1.2.2.2.2.2.2.1.1.1]
          refine pos.tb2 ((po_name c8.1).s) c8.2.1.1 (fun i9 w9 b9' σ9 y => ?_) (fun b9' σ9 q hq9 => ?_)
          · obtain ⟨z1', ⟨i', j', rfl, z3', rfl, z5', z6', z7'⟩, ⟨tc9, fr9, tt9, x1, x2', x3'⟩, x4⟩ := y
            obtain ⟨c9, k9⟩ := c8.step x1 (x2'.s x3')
            have hio9 : iota g w9 L σ9 (Int32.ofNat i') (Int32.ofNat j') := ⟨i', j', _, rfl, z3', rfl, z5', z6', z7'⟩
            obtain ⟨c10, k10⟩ := c9.setI (k := fX9_name) (v := Int32.ofNat i')
            obtain ⟨c11, k11⟩ := c10.setM (arr := fX3_toldName) (v := Int32.ofNat j') (by decide)
            have hat11 := c11.1.1.2.2.2.2.2.2.1
            dsimp only
            rw [d_pI c9.2.2.1.2.2.1, d_rc hat11.1.1, ms_w (by decide) hs16, o_split 0]
            refine pos.tb2 ((po_closes (c := 41) (v := 0) c11.1 (by decide) (it_173 hat11 c11.1.1.1)).s) c11.2.1.1 (fun _ w12 b12 σ12 y => ?_) (fun b12 σ12 q hq12 => ?_)
            · obtain ⟨rfl, -, ⟨tc12, fr12, tt12, x1, x2', x3'⟩, x4⟩ := y
              obtain ⟨c12, k12⟩ := c11.stepo x1 (x2'.s x3')
              dsimp only
              rw [d_rc c12.1.1.2.2.2.2.2.2.1.1.1]
              refine po_cblk (fd := fX9_second) (arr := fX3_other) HB c12 (by omega) (by omega) (by decide) (fun w13 σ13 x13 y13 tc13 fr13 tt13 c13 k13 t13 l13 => ?_) (fun σ13 q hq13 => ⟨_, rfl, hq13⟩)
              have hk9 := ((k10.trans k11).trans k12).trans k13
              have hk7 := (k8.trans k9).trans hk9
              have hk3 := (((k4.trans k5).trans k6).trans k7).trans hk7
              have hw0 : σ5.1 fX3_wordValue = Int32.ofNat j0 := u2
              have hsq : sQ g P r L S n f C1 C2 op w σ fr (some (ch_nx w)) w13 (Int32.ofNat (nn σ fX3_statements)) σ13 :=
                sQ_try (lo := nn σ fX3_nodes) (y := Int32.ofNat j0) c13 (by omega) (by omega) (by omega) rfl (by have := c12.2.1.2.2.1; omega) b9 v5 (b2.trans hwf) (b3.trans hnod) (by omega) ⟨v4, b1⟩ (by rw [← hw0]; rfl) (hk7.2.2 _ _ hio7) (hk9.2.2 _ _ hio9) b4 (hk3.2.1 _ _ t3) t13
              exact Or.inl ⟨_, _, _, _, rfl, rfl, hsq⟩
            · exact T3 _ _ (c11.stuck hq12 (by omega) (by omega))
          · dsimp only
            rw [ms_w (by decide) hs16]
            exact T2 _ _ (pd_sa (c8.stuck hq9 (by omega) (by omega)) (by decide))
        · exact T1 _ _ (c6.stuck hq7 (by omega) (by omega))
      · have hpds := c4.stuck hq5 (by omega) (by omega)
        have := hpds.2.2.2.1
        dsimp only
        split
        · exact ⟨_, rfl, hpds⟩
        · rw [ms_w (by decide) hs16]
          have hp2 := pd_sa (arr := fX3_toldType) (s := nn σ fX3_statements) (v := 10 + σ5.1 fX3_wordValue) hpds (by decide)
          obtain ⟨σ6, d1, d2⟩ := dm_name hp2.2.1 (show q < 2 ^ 31 by omega)
          rw [d1, Option.bind_some]
          exact T1 _ _ (hp2.dr d2 (by omega))
    · have hpds := c3.stuck hq4 (by omega) (by omega)
      dsimp only
      split
      · exact ⟨_, rfl, hpds⟩
      · exact hrest _ _ hpds
  · have := hq2.2.2.2.1
    obtain ⟨p, p1, p2⟩ := dm_block (e := e) hq2 (show q < 2 ^ 31 by omega)
    rw [p1, Option.bind_some, ms_w (by decide) hs16]
    exact htail _ _ (pd_sa p2 (by decide))
end CN
