/-! LEVEL B2: statements of both sides: return, throw, print -/
set_option maxRecDepth 100000
section RT
variable {g : State} {P r L S n C1 C2 : Nat} {f : Nat → Nat} {w w' w0 : ch_W} {σ σ' σ0 : ch_S} {tc fr tt op om fr0 : Nat}
theorem s413 {rc : Nat → ch_S → Option (Int32 × ch_S)} {x : Int32} : m_X3_statement_413 rc x σ = m_X3_statement_78 rc x σ := rfl
/-- the value, then ; -/
theorem po_valsemi {rcc : Nat → Nat → Int32 → ch_W → Option (Except Nat (Option Nat) × ch_W)} {rc : Nat → ch_S → Option (Int32 × ch_S)} {u z t : Int} {a s : Nat} {kd kM : Int32} (hA0 : pjA L n C1 C2 w0 σ0 fr0) (h : pj g P r L S n f C1 C2 w σ tc fr tt op op fr) (hp : prs g P r L u z t w0 σ0 fr0 w σ fr) (hu : 0 ≤ u) (hz : 0 ≤ z) (ht : -1 ≤ t) (hs : s = nn σ0 fX3_statements) (ha : ch_nx w0 ≤ a) (hn31 : n < 2 ^ 31) (hfr0 : fr0 ≤ 3000) (hno0 : nn σ0 fX3_nodes ≤ 1500)
    (how : ow r L P w a) (hPa : P ≤ a) (ht10 : ch_tg w a = 10) (gk : ch_gi w a fX9_kind = kd) (gp : ch_gi w a fX9_place = Int32.ofNat fr0) (hst : nn σ fX3_statements = s + 1) (hno : nn σ fX3_nodes = nn σ0 fX3_nodes) (rI : σ.2 fX3_statementIs s = kM) (rP : σ.2 fX3_place s = Int32.ofNat fr0) (rN : σ.2 fX3_nodesFrom s = Int32.ofNat (nn σ0 fX3_nodes)) (rX : σ.2 fX3_nextOf s = -1) (hk : (kd = 5 ∧ kM = 3) ∨ (kd = 6 ∧ kM = 4) ∨ (kd = 8 ∧ kM = 6)) (hs14 : s < 1400) :
    pos P n C1 C2 0 0 w0 σ0 fr0 (c_X4_statement_183 rcc g r (some a) a w) (m_X3_statement_403 rc (Int32.ofNat s) σ) (sQ g P r L S n f C1 C2 op w0 σ0 fr0) := by
  unfold c_X4_statement_183 m_X3_statement_403
  rw [d_rc h.1.2.2.2.2.2.2.1.1.1]
  refine pos.tb2 ((po_expr h).s) hp.1 (fun x7 w7 y7 σ7 q => ?_) (fun b σ7 q hq7 => ?_)
  · obtain ⟨a7, nd7, rfl, rfl, g1, g2, tc7, fr7, tt7, g3, g4, g5⟩ := q
    obtain ⟨u1, u2⟩ := g4.1.2.1 _ how
    obtain ⟨l1, l2, l3, l4, l5⟩ := b_cell u1
    have t7 : ch_tg w7 a = 10 := by rw [l1]; exact ht10
    have row7 : ∀ arr ∈ psa, σ7.2 arr s = σ.2 arr s := mf_row g4.2.1 (by omega)
    have hst7 : nn σ7 fX3_statements = s + 1 := by rw [nn_fr g4.2.1.1 (by decide)]; exact hst
    have hA7 := g3.2.2
    unfold pjA at hA7
    dsimp only
    unfold c_X4_statement_187
    rw [d_pR t7, ms_w (by decide) (by omega), s413]
    obtain ⟨d1, d2, d3, d4, d5⟩ := pj_fld10 (w' := ch_sr w7 a fX9_value (some a7)) g3 u2 hPa t7 (fun x hx => b_oR hx) rfl
    have h8 := pj_sa (arr := fX3_value) (s := s) (v := Int32.ofNat nd7) d1 (by decide)
    have hp8 := pr_sa (arr := fX3_value) (s := s) (v := Int32.ofNat nd7) (d5 _ _ _ _ _ _ (hp.trans (g4.s g5)) (by omega)) (by decide) (by omega)
    rw [d_rc h8.1.2.2.2.2.2.2.1.1.1]
    have hv7 : vt g r L P (ch_sr w7 a fX9_value (some a7)) (md_sa σ7 fX3_value s (Int32.ofNat nd7)) a7 (nn σ0 fX3_nodes) nd7 := by
      have := d2 a7 _ nd7 (by omega) (by omega) g2
      rw [hno] at this
      exact vt.keep0 (fun x hx _ => ⟨rfl, hx⟩) (fun _ _ q => q) (mg_sa (by decide)) (show nn σ7 fX3_nodes ≤ 1500 by omega) (show nn σ7 fX3_listed ≤ 1500 by omega) (nd7 + 1) a7 _ _ (by omega) this
    refine po_semi hA0 h8 hp8 (by omega) (by omega) (by omega) (a := a) (s := s) ?_ ?_ hs (by omega)
    · rw [st, sth]
      refine ⟨d3 _ u2, hPa, by rw [b_tR]; exact t7, by show s < nn σ7 fX3_statements; omega, by show nn σ7 fX3_statements ≤ 1500; omega, ?_, ?_, nn σ0 fX3_nodes, ?_, by omega, ?_⟩
      · rw [b_IR, l3, gp, md_an (by decide), row7 _ (by decide), rP]
      · rw [md_an (by decide), row7 _ (by decide), rP]
        exact ⟨fr0, rfl, by omega⟩
      · rw [md_an (by decide), row7 _ (by decide), rN]
      · have eI : (md_sa σ7 fX3_value s (Int32.ofNat nd7)).2 fX3_statementIs s = kM := by rw [md_an (by decide), row7 _ (by decide)]; exact rI
        have eK : ch_gi (ch_sr w7 a fX9_value (some a7)) a fX9_kind = kd := by rw [b_IR, l3]; exact gk
        have eV : ch_gr (ch_sr w7 a fX9_value (some a7)) a fX9_value = some a7 := by rw [b_RR, if_pos ⟨rfl, rfl⟩]
        have eW : (md_sa σ7 fX3_value s (Int32.ofNat nd7)).2 fX3_value s = Int32.ofNat nd7 := by rw [md_ga, if_pos ⟨rfl, rfl⟩]
        rcases hk with ⟨q1, q2⟩ | ⟨q1, q2⟩ | ⟨q1, q2⟩
        · exact Or.inr (Or.inr (Or.inr (Or.inl ⟨by rw [eK]; exact q1, by rw [eI]; exact q2, Or.inr ⟨a7, nd7, eV, eW, by omega, hv7⟩⟩)))
        · exact Or.inr (Or.inr (Or.inr (Or.inr (Or.inl ⟨Or.inl ⟨by rw [eK]; exact q1, by rw [eI]; exact q2⟩, a7, nd7, eV, eW, by omega, hv7⟩))))
        · exact Or.inr (Or.inr (Or.inr (Or.inr (Or.inl ⟨Or.inr ⟨by rw [eK]; exact q1, by rw [eI]; exact q2⟩, a7, nd7, eV, eW, by omega, hv7⟩))))
    · rw [md_an (by decide), row7 _ (by decide)]; exact rX
  · have hpds := (hq7.base hp.2.1 hp.2.2).weak (show (0 : Int) ≤ _ by omega) (show (0 : Int) ≤ _ by omega)
    dsimp only
    rw [ms_w (by decide) (by omega), s413]
    exact dm_78 (pd_sa hpds (by decide)) hn31
/-- RETURN, THROW, PRINT -/
theorem po_ret {rcc : Nat → Nat → Int32 → ch_W → Option (Except Nat (Option Nat) × ch_W)} {rc : Nat → ch_S → Option (Int32 × ch_S)} {k : Nat} {kd kM : Int32} (h : pj g P r L S n f C1 C2 w σ tc fr tt op op fr) (hR : rm1 L n C1 C2 w σ fr) (hn31 : n < 2 ^ 31) (hq : tc = 2000 + k) (hk : (k = 9 ∧ kd = 5 ∧ kM = 3) ∨ (k = 10 ∧ kd = 6 ∧ kM = 4) ∨ (k = 13 ∧ kd = 8 ∧ kM = 6)) : pos P n C1 C2 0 0 w σ fr (c_X4_statement_119 rcc g r (Int32.ofNat fr) w) (m_X3_statement_380 rc (Int32.ofNat k) kM σ) (sQ g P r L S n f C1 C2 op w σ fr) := by
  have htk := h.1.2.2.2.2.2.2.1.2.2.2
  have hn12 := h.2.1.2.2.2.2.1
  have hff := htk.1
  have hfn := htk.2.1
  obtain ⟨r1, r2⟩ := pjC_room h htk.1
  obtain ⟨w1, o1, o2, hv⟩ := lc_stm1 (w := w) (kd := kd) (pl := Int32.ofNat fr) (by omega) (by omega)
  obtain ⟨hb, h1, hp1, ha1, hPa, hs14⟩ := pj_begin (kM := kM) h hR hv
  obtain ⟨v1, v2, v3, v4, v5, v6, v7, v8, v9⟩ := hv
  have hC := (pjC_new (w' := ch_nw w (ch_new 10 8)) h.1 (fun a ha => b_oN ha) rfl).1
  have e119 : c_X4_statement_119 rcc g r (Int32.ofNat fr) w = c_X4_statement_152 rcc g r (Int32.ofNat fr) kd (ch_nx w) (ch_nx w) (ch_nw w (ch_new 10 8)) := by
    unfold c_X4_statement_119
    rw [o1, Option.bind_some, d_rc hC.2.2.2.2.2.2.1.1.1, it_225 hC.2.2.2.2.2.2.1 hC.1, Option.bind_some]
    by_cases z1 : tc = 2009
    · rw [if_pos z1, if_neg (show ¬ (1 : Int32) = 0 by decide)]
      have : kd = 5 := by
        rcases hk with q | q | q
        · exact q.2.1
        · omega
        · omega
      rw [this]
    · rw [if_neg z1, if_pos rfl, d_rc hC.2.2.2.2.2.2.1.1.1, it_227 hC.2.2.2.2.2.2.1 hC.1, Option.bind_some]
      by_cases z2 : tc = 2010
      · rw [if_pos z2, if_neg (show ¬ (1 : Int32) = 0 by decide)]
        have : kd = 6 := by
          rcases hk with q | q | q
          · omega
          · exact q.2.1
          · omega
        rw [this]
      · rw [if_neg z2, if_pos rfl]
        have : kd = 8 := by
          rcases hk with q | q | q
          · omega
          · omega
          · exact q.2.1
        rw [this]
  rw [e119]
  generalize hsd : nn σ fX3_statements = s at *
  generalize haa : ch_nx w = a at *
  obtain ⟨b1, b2, b3, b4, b5, b6, b7, b8, b9⟩ := md_beg_at (σ := σ) (s := s) (kd := kM)
  have hst1 : nn (md_beg σ s kM) fX3_statements = s + 1 := nn_beg (by omega)
  have hno1 : nn (md_beg σ s kM) fX3_nodes = nn σ fX3_nodes := nn_fr md_beg_fr (by decide)
  have hnod : σ.1 fX3_nodes = Int32.ofNat (nn σ fX3_nodes) := h.2.1.2.2.2.2.2.2.1
  have hwf : σ.1 fX3_wordFrom = Int32.ofNat fr := h.2.1.2.1.1
  have hA9 := h.2.2
  unfold pjA at hA9
  unfold c_X4_statement_152 m_X3_statement_380
  rw [o2, Option.bind_some, d_rc h1.1.2.2.2.2.2.2.1.1.1, hb, Option.bind_some]
  dsimp only
  generalize hσ1 : md_beg σ s kM = σ1 at *
  rw [o_split 0]
  have hk9 : (Int32.ofNat k = 9 ↔ k = 9) := bn_eq (b := 9) (by omega) (by decide)
  refine pos.tb2 ((po_next h1 (by omega) (Nat.le_refl _) htk.1).s) hp1.1 (fun _ w2 b σ2 q => ?_) (fun b σ2 q hq2 => ?_)
  · obtain ⟨rfl, ⟨tc2, fr2, tt2, q1, q2, q3⟩, q4⟩ := q
    obtain ⟨k1, k2⟩ := q2.1.2.1 _ ha1
    obtain ⟨f1, f2, f3, f4, f5⟩ := b_cell k1
    have t2 : ch_tg w2 a = 10 := by rw [f1]; exact v3
    have row2 := mf_row q2.2.1 (show s < nn σ1 fX3_statements by omega)
    have hst2 : nn σ2 fX3_statements = s + 1 := by rw [nn_fr q4 (by decide)]; exact hst1
    have hno2 : nn σ2 fX3_nodes = nn σ fX3_nodes := by rw [nn_fr q4 (by decide)]; exact hno1
    have hp2 := hp1.trans (q2.s q3)
    have hat2 := q1.1.2.2.2.2.2.2.1
    have htk2 := hat2.2.2.2
    have hkk : (kd = 5 ∧ kM = 3) ∨ (kd = 6 ∧ kM = 4) ∨ (kd = 8 ∧ kM = 6) := by
      rcases hk with q | q | q
      · exact Or.inl q.2
      · exact Or.inr (Or.inl q.2)
      · exact Or.inr (Or.inr q.2)
    have hval := po_valsemi (rcc := rcc) (rc := rc) (a := a) (s := s) (kd := kd) (kM := kM) h.2.2 q1 hp2 (by omega) (by omega) (by omega) hsd.symm (by omega) hn31 (by omega) (by omega) k2 hPa t2 (by rw [f3]; exact v4) (by rw [f3]; exact v5) hst2 hno2 (by rw [row2 _ (by decide)]; exact b1) (by rw [row2 _ (by decide), b2]; exact hwf) (by rw [row2 _ (by decide), b3]; exact hnod) (by rw [row2 _ (by decide)]; exact b9) hkk hs14
    dsimp only
    rw [d_gI t2, f3, v4]
    by_cases h9 : k = 9
    · have hkd : kd = 5 := by
        rcases hk with q | q | q
        · exact q.2.1
        · omega
        · omega
      have hkM : kM = 3 := by
        rcases hk with q | q | q
        · exact q.2.2
        · omega
        · omega
      have s1 : m_X3_isSign 59 σ2 = _ := ms_sign (c := 59) q1.2.1 htk2 (by decide)
      rw [if_pos hkd, if_pos (hk9.mpr h9), d_rc hat2.1.1, it_164 hat2 q1.1.1, Option.bind_some, s1, Option.bind_some]
      by_cases z1 : tc2 = 1059
      · rw [if_pos z1, if_neg (show ¬ (1 : Int32) = 0 by decide), if_neg (show ¬ (1 : Int32) = 0 by decide)]
        unfold c_X4_statement_187
        rw [d_pR t2, s413]
        have hsame : ∀ x : Nat, x ≠ a → (ch_sr w2 a fX9_value none).1 x = w2.1 x := fun x hx => b_oR hx
        obtain ⟨d1, d2, d3, d4, d5⟩ := pj_fld10 (w' := ch_sr w2 a fX9_value none) q1 k2 hPa t2 hsame rfl
        have hp3 := d5 _ _ _ _ _ _ hp2 (by omega)
        rw [d_rc d1.1.2.2.2.2.2.2.1.1.1]
        have hA2 := q1.2.2
        unfold pjA at hA2
        refine po_semi h.2.2 d1 hp3 (by omega) (by omega) (by omega) (a := a) (s := s) ?_ ?_ hsd.symm (by omega)
        · rw [st, sth]
          refine ⟨d3 _ k2, hPa, by rw [b_tR]; exact t2, by omega, by omega, ?_, ?_, nn σ fX3_nodes, ?_, by omega, Or.inr (Or.inr (Or.inr (Or.inl ⟨?_, ?_, Or.inl ⟨?_, ?_⟩⟩)))⟩
          · rw [b_IR, f3, v5, row2 _ (by decide), b2, hwf]
          · rw [row2 _ (by decide), b2, hwf]
            exact ⟨fr, rfl, by omega⟩
          · rw [row2 _ (by decide), b3, hnod]
          · rw [b_IR, f3, v4]; exact hkd
          · rw [row2 _ (by decide), b1]; exact hkM
          · rw [b_RR, if_pos ⟨rfl, rfl⟩]
          · rw [row2 _ (by decide)]; exact b4
        · rw [row2 _ (by decide)]; exact b9
      · rw [if_neg z1, if_pos rfl, if_pos rfl]
        exact hval
    · have hkd : ¬ kd = 5 := by
        rcases hk with q | q | q
        · omega
        · rw [q.2.1]; decide
        · rw [q.2.1]; decide
      rw [if_neg hkd, if_neg (fun z => h9 (hk9.mp z))]
      exact hval
  · have hpds := (hq2.base hp1.2.1 hp1.2.2).weak (show (0 : Int) ≤ _ by omega) (show (0 : Int) ≤ _ by omega)
    have hq9 := hpds.2.2.2.1
    have hq31 : q < 2 ^ 31 := by omega
    have h403 : ∃ p, m_X3_statement_403 rc (Int32.ofNat s) σ2 = some p ∧ pds n 0 0 σ fr p.2 q := by
      obtain ⟨σ8, d1, d2⟩ := dm_0 (d := 441) hpds.2.1 hq31
      unfold m_X3_statement_403
      rw [d1, Option.bind_some, ms_w (by decide) (by omega), s413]
      exact dm_78 (pd_sa (hpds.dr d2 hq31) (by decide)) hn31
    dsimp only
    by_cases h9 : k = 9
    · rw [if_pos (hk9.mpr h9), dm_sign hpds.2.1 hq31, Option.bind_some, if_pos rfl]
      exact h403
    · rw [if_neg (fun z => h9 (hk9.mp z))]
      exact h403
end RT
