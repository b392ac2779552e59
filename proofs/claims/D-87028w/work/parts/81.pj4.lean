/-! LEVEL B2: both readers: opens, closes, names -/
set_option maxRecDepth 100000
section PJ
variable {g : State} {P r L S n C1 C2 : Nat} {f : Nat → Nat} {w : ch_W} {σ : ch_S} {tc fr tt op om ps : Nat}
/-- a field of the reader that is not from, to, kind, end is another -/
theorem pj_si {k : Nat} {v : Int32} (h : pj g P r L S n f C1 C2 w σ tc fr tt op om ps) (h1 : k ≠ fX4_end) (h2 : k ≠ fX4_from) (h3 : k ≠ fX4_to) (h4 : k ≠ fX4_kind) {op' : Nat} (ho : ch_gi (ch_si w r k v) r fX4_open = Int32.ofNat op') (h30 : op' ≤ 30) : pj g P r L S n f C1 C2 (ch_si w r k v) σ tc fr tt op' om ps ∧ pr g P r L 0 0 w σ fr (ch_si w r k v) σ fr := by
  obtain ⟨⟨c1, c2, c3, c4, c5, c6, c7, c8, c9, c10, A, k0, cap, E, T, c11, c12, c13⟩, hM, hA⟩ := h
  obtain ⟨d1, d2, d3, d4⟩ := id c7
  have oo : ∀ a : Nat, a ≠ r → (ch_si w r k v).1 a = w.1 a := fun a ha => b_oI ha
  have hLr : L ≠ r := fun q => by
    have := c11.1.1
    rw [q, d1.1] at this
    cases this
  have hAr : A ≠ r := fun q => by
    have := c11.1.2.2.2.2.2.2.1
    rw [q, d1.1] at this
    omega
  have hcp : cpN (ch_si w r k v) L = cpN w L := by
    unfold cpN
    rw [b_RI, c11.1.2.1]
    exact b_nI
  refine ⟨⟨⟨c1.keep c2 (fun a ha => oo a (by omega)), c2, c3, c4, c5, fun b hb => c6 b (by rw [b_tI] at hb; exact hb), ⟨d1.si h1, ⟨by rw [b_II, if_neg (fun q => h2 q.2.symm)]; exact d2.1, by rw [b_II, if_neg (fun q => h3 q.2.symm)]; exact d2.2⟩, by rw [b_II, if_neg (fun q => h4 q.2.symm)]; exact d3, d4⟩, ho, h30, c10.keep (fun k => b_RI), A, k0, cap, E, T, c11.keep (oo L hLr) (oo A hAr) (fun i hi => oo (E i) (fun q => by
    have := (c11.2.1 i hi).1
    rw [q, d1.1] at this
    cases this)), c12, by rw [b_tI]; exact c13⟩, hM, ?_⟩, pf_r d1.1 c11.1.1 oo rfl c3, mf.refl, ?_⟩
  · unfold pjA at *
    rw [hcp]
    exact hA
  · unfold bd
    rw [hcp]
    show fr ≤ fr ∧ ((ch_cs w : Nat) : Int) + _ ≤ _ ∧ ((ch_sl w : Nat) : Int) + _ + _ ≤ _ ∧ _
    omega
theorem pj_opM {om' : Nat} (h : pj g P r L S n f C1 C2 w σ tc fr tt op om ps) : pj g P r L S n f C1 C2 w (md_si σ fX3_deep (Int32.ofNat om')) tc fr tt op om' ps ∧ pr g P r L 0 0 w σ fr w (md_si σ fX3_deep (Int32.ofNat om')) fr := by
  obtain ⟨hC, ⟨m1, m2, m3, m4, m5, ⟨kM, TM, m6, m7, m8⟩, m9⟩, hA⟩ := h
  have hf : md_fr [fX3_deep] [] σ (md_si σ fX3_deep (Int32.ofNat om')) := md_fr.refl.si (by decide)
  have hN : md_N (md_si σ fX3_deep (Int32.ofNat om')) kM TM := m6.fr hf (by decide) (by decide) (by decide) (by decide)
  refine ⟨⟨hC, ⟨m1.fr hf (by decide) (by decide), m2, m3, rfl, m5, ⟨kM, TM, hN, m7, m8⟩, m9⟩, hA⟩, pf.refl, ⟨hf.mono (by decide) (by decide), Nat.le_refl _, Nat.le_refl _, Nat.le_refl _, rfl, fun _ _ _ _ => rfl, fun _ _ => rfl, fun _ _ => rfl, fun _ _ _ _ => rfl, fun j t q => ?_⟩, bd.refl⟩
  obtain ⟨k, T, a1, a2, a3, a4⟩ := q
  exact ⟨k, T, a1.fr hf (by decide) (by decide) (by decide) (by decide), a2, a3, a4⟩
theorem o_split {α β : Type} {X : Option α} {K : α → Option β} (v : Int32) : X.bind K = (X.bind fun p => some (v, p)).bind (fun q => K q.2) := by
  cases X <;> rfl
/-- OPENS -/
theorem po_opens (h : pj g P r L S n f C1 C2 w σ tc fr tt op op ps) (hpf : fr ≤ ps) (hps : ps ≤ tt) {a : Option Nat} {c : Nat} (hc : c ≠ 0) (hi : c_X4_isThe g r a w = some (if tc = c then 1 else 0)) : po P n C1 C2 0 w σ fr (c_X4_opens g r a w) (m_X3_opens (if tc = c then 1 else 0) σ) (fun _ w' b σ' => b = 1 ∧ tc = c ∧ op < 30 ∧ pq g P r L S n f C1 C2 4 1 (op + 1) (op + 1) w σ fr w' σ') := by
  have hr := h.1.2.2.2.2.2.2.1.1.1
  have hop := h.1.2.2.2.2.2.2.2.1
  have h30 := h.1.2.2.2.2.2.2.2.2.1
  have hwr := h.2.1.2.2.1
  have hdp := h.2.1.2.2.2.1
  have e30 : (Int32.ofNat op < 30) ↔ op < 30 := bn_lt (b := 30) (by omega) (by decide)
  have d30 : (Int32.ofNat op = 30) ↔ op = 30 := bn_eq (b := 30) (by omega) (by decide)
  have e1 : Int32.ofNat op + 1 = Int32.ofNat (op + 1) := bn_add (b := 1)
  unfold c_X4_opens m_X3_opens
  rw [d_rc hr, hi, Option.bind_some, hwr, if_pos bn_m1]
  have hfail : po P n C1 C2 0 w σ fr (c_X4_opens_22 g r r w) (m_X3_opens_20 σ) (fun _ w' b σ' => b = 1 ∧ tc = c ∧ op < 30 ∧ pq g P r L S n f C1 C2 4 1 (op + 1) (op + 1) w σ fr w' σ') := by
    unfold c_X4_opens_22 c_X4_opens_23 m_X3_opens_20
    obtain ⟨w', a1, a2⟩ := pj_must h hps
    rw [d_rc hr, tb_er a1, ms_fails hwr h.2.1.2.1.1]
    exact Or.inr ⟨ch_nx w, w', 0, dz σ fr, fr, rfl, rfl, a2, dz_pd h.2.1 h.1.2.2.2.2.2.2.1.2.2.2⟩
  by_cases hq : tc = c
  · rw [if_pos hq, if_neg (by decide), if_neg (by decide), d_gI hr, hop, hdp]
    by_cases h3 : op < 30
    · rw [if_pos (e30.mpr h3), if_neg (fun z => absurd (d30.mp z) (by omega)), m_mI, e1]
      unfold c_X4_opens_23
      rw [d_rc hr, lc_must1]
      show po P n C1 C2 0 w σ fr ((ch_gI w (some r) 5 fX4_open).bind _) _ _
      rw [d_gI hr, hop, e1, d_pI hr, d_rc (by rw [b_tI]; exact hr), tb_id]
      obtain ⟨p1, p2⟩ := pj_si (k := fX4_open) (v := Int32.ofNat (op + 1)) (op' := op + 1) h (by decide) (by decide) (by decide) (by decide) (by rw [b_II, if_pos ⟨rfl, rfl⟩]) (by omega)
      obtain ⟨p3, p4⟩ := pj_opM (om' := op + 1) p1
      have p5 := p2.trans p4
      refine ((po_next p3 (by omega) hpf hps).base p5).mono (by decide) (fun _ w' b σ' q => ⟨q.1, hq, h3, ?_⟩)
      obtain ⟨q1, ⟨tc', fr', tt', q2, q3, q4⟩, q5⟩ := q
      exact ⟨⟨tc', fr', tt', q2, (p5.trans q3).weak (by decide) (by decide), q4⟩, md_fr.trans (md_fr.refl.si (by decide)) q5⟩
    · rw [if_neg (fun z => h3 (e30.mp z)), if_pos (d30.mpr (by omega))]
      exact hfail
  · rw [if_neg hq, if_pos rfl, if_pos rfl]
    exact hfail
/-- OPENS, where it may -/
theorem po_opens1 (h : pj g P r L S n f C1 C2 w σ tc fr tt op op ps) (hpf : fr ≤ ps) (hps : ps ≤ tt) {a : Option Nat} {c : Nat} (hc : c ≠ 0) (hi : c_X4_isThe g r a w = some (if tc = c then 1 else 0)) (hq : tc = c) (h3 : op < 30) : po P n C1 C2 1 w σ fr (c_X4_opens g r a w) (m_X3_opens 1 σ) (fun _ w' b σ' => b = 1 ∧ tc = c ∧ op < 30 ∧ pq g P r L S n f C1 C2 4 1 (op + 1) (op + 1) w σ fr w' σ') := by
  have hr := h.1.2.2.2.2.2.2.1.1.1
  have hop := h.1.2.2.2.2.2.2.2.1
  have hwr := h.2.1.2.2.1
  have hdp := h.2.1.2.2.2.1
  have e30 : (Int32.ofNat op < 30) ↔ op < 30 := bn_lt (b := 30) (by omega) (by decide)
  have d30 : (Int32.ofNat op = 30) ↔ op = 30 := bn_eq (b := 30) (by omega) (by decide)
  have e1 : Int32.ofNat op + 1 = Int32.ofNat (op + 1) := bn_add (b := 1)
  unfold c_X4_opens m_X3_opens
  rw [d_rc hr, hi, Option.bind_some, hwr, if_pos bn_m1, if_pos hq, if_neg (show ¬ (1 : Int32) = 0 by decide), if_neg (show ¬ (1 : Int32) = 0 by decide), d_gI hr, hop, hdp, if_pos (e30.mpr h3), if_neg (fun z => absurd (d30.mp z) (by omega)), m_mI, e1]
  unfold c_X4_opens_23
  rw [d_rc hr, lc_must1]
  show po P n C1 C2 1 w σ fr ((ch_gI w (some r) 5 fX4_open).bind _) _ _
  rw [d_gI hr, hop, e1, d_pI hr, d_rc (by rw [b_tI]; exact hr), tb_id]
  obtain ⟨p1, p2⟩ := pj_si (k := fX4_open) (v := Int32.ofNat (op + 1)) (op' := op + 1) h (by decide) (by decide) (by decide) (by decide) (by rw [b_II, if_pos ⟨rfl, rfl⟩]) (by omega)
  obtain ⟨p3, p4⟩ := pj_opM (om' := op + 1) p1
  have p5 := p2.trans p4
  refine ((po_next p3 (by omega) hpf hps).base p5).mono (by decide) (fun _ w' b σ' q => ⟨q.1, hq, h3, ?_⟩)
  obtain ⟨q1, ⟨tc', fr', tt', q2, q3, q4⟩, q5⟩ := q
  exact ⟨⟨tc', fr', tt', q2, (p5.trans q3).weak (by decide) (by decide), q4⟩, md_fr.trans (md_fr.refl.si (by decide)) q5⟩
/-- no more opens -/
theorem pj_op30 (h : pj g P r L S n f C1 C2 w σ tc fr tt op op ps) (hps : ps ≤ tt) {a : Option Nat} {c : Nat} (hi : c_X4_isThe g r a w = some (if tc = c then 1 else 0)) (h3 : ¬ op < 30) : (∃ w', c_X4_opens g r a w = some (.error (ch_nx w), w') ∧ pe P C1 C2 w w' (ch_nx w) fr) ∧ ∀ v : Int32, m_X3_opens v σ = some (0, dz σ fr) := by
  have hr := h.1.2.2.2.2.2.2.1.1.1
  have hop := h.1.2.2.2.2.2.2.2.1
  have h30 := h.1.2.2.2.2.2.2.2.2.1
  have hwr := h.2.1.2.2.1
  have hdp := h.2.1.2.2.2.1
  have e30 : (Int32.ofNat op < 30) ↔ op < 30 := bn_lt (b := 30) (by omega) (by decide)
  have d30 : (Int32.ofNat op = 30) ↔ op = 30 := bn_eq (b := 30) (by omega) (by decide)
  obtain ⟨w', a1, a2⟩ := pj_must h hps
  have hf : c_X4_opens_22 g r r w = some (.error (ch_nx w), w') := by
    unfold c_X4_opens_22 c_X4_opens_23
    rw [d_rc hr, tb_er a1]
  have hm : m_X3_opens_20 σ = some (0, dz σ fr) := by
    unfold m_X3_opens_20
    rw [ms_fails hwr h.2.1.2.1.1]
    rfl
  refine ⟨⟨w', ?_, a2⟩, fun v => ?_⟩
  · unfold c_X4_opens
    rw [d_rc hr, hi, Option.bind_some, hf, d_gI hr, hop, if_neg (fun z => h3 (e30.mp z))]
    split <;> rfl
  · unfold m_X3_opens
    rw [hwr, if_pos bn_m1, hm, hdp, if_pos (d30.mpr (by omega))]
    split <;> rfl
/-- CLOSES -/
theorem po_closes (h : pj g P r L S n f C1 C2 w σ tc fr tt (op + 1) (op + 1) fr) {a : Option Nat} {c : Nat} {v : Int32} (hc : c < 1000) (hi : c_X4_isThe g r a w = some (if tc = 1000 + c then 1 else 0)) : po P n C1 C2 0 w σ fr (c_X4_closes g r a w) ((m_X3_closes (Int32.ofNat c) σ).bind fun p => some (v, p)) (fun _ w' b σ' => b = v ∧ tc = 1000 + c ∧ pq g P r L S n f C1 C2 4 1 op op w σ fr w' σ') := by
  have hr := h.1.2.2.2.2.2.2.1.1.1
  have hop := h.1.2.2.2.2.2.2.2.1
  have h30 := h.1.2.2.2.2.2.2.2.2.1
  have hwr := h.2.1.2.2.1
  have hdp := h.2.1.2.2.2.1
  have ht := h.1.2.2.2.2.2.2.1.2.2.2
  have e1 : Int32.ofNat (op + 1) - 1 = Int32.ofNat op := bn_sub (a := op + 1) (b := 1) (by omega)
  unfold c_X4_closes m_X3_closes
  rw [d_rc hr, hi, Option.bind_some, d_rc hr, ms_sign h.2.1 ht hc, Option.bind_some, ms_passes hwr]
  by_cases hq : tc = 1000 + c
  · rw [if_pos hq, if_neg (by decide), lc_must1]
    show po P n C1 C2 0 w σ fr ((ch_gI w (some r) 5 fX4_open).bind _) _ _
    rw [d_gI hr, hop, e1, d_pI hr, d_rc (by rw [b_tI]; exact hr), tb_id]
    obtain ⟨p1, p2⟩ := pj_si (k := fX4_open) (v := Int32.ofNat op) (op' := op) h (by decide) (by decide) (by decide) (by decide) (by rw [b_II, if_pos ⟨rfl, rfl⟩]) (by omega)
    rcases pj_next p1 ht.1 (Nat.le_refl _) (by omega) with ⟨w', σ', tc', fr', tt', a1, a2, a3, a4, a5, a6, a7⟩ | ⟨e, w', σ', q, a1, a2, a3, a4, a5⟩
    · obtain ⟨p3, p4⟩ := pj_opM (om' := op) a3
      have hlt := ht.lt (by omega)
      refine Or.inl ⟨(), w', v, md_si σ' fX3_deep (Int32.ofNat op), a1, ?_, rfl, hq, ⟨tc', fr', tt', p3, ((p2.trans a5).trans p4).weak (by decide) (by decide), by omega⟩, (a7.mono (Ls := fX3_deep :: md_nk) (Bs := md_na) (by decide) (by decide)).si (by decide)⟩
      rw [a2, Option.bind_some, Option.bind_some, if_neg (show ¬ (1 : Int32) = 0 by decide), m_mI, a3.2.1.2.2.2.1, e1]
      rfl
    · have a5' := (a4.base p2.2.1 p2.2.2).weak (show (0 : Int) ≤ _ by decide)
      have hs : (σ'.1 fX3_deep) = σ'.1 fX3_deep := rfl
      refine Or.inr ⟨e, w', v, md_si σ' fX3_deep (σ'.1 fX3_deep - 1), q, a1, ?_, a3.base p2.1, ?_⟩
      · rw [a2]
        rfl
      · obtain ⟨h1, h2, h3, h4, h5, h6, h7, h8, h9⟩ := a5'
        exact ⟨h1.si (by decide), h2, h3, h4, h5, h6, h7, h8, h9⟩
  · rw [if_neg hq, if_pos rfl]
    obtain ⟨w', a1, a2⟩ := pj_must h ht.1
    rw [tb_er a1, ms_fails hwr h.2.1.2.1.1]
    exact Or.inr ⟨ch_nx w, w', v, dz σ fr, fr, rfl, rfl, a2, dz_pd h.2.1 ht⟩
/-- a name: the component's number of it -/
theorem lc_name (h : pj g P r L S n f C1 C2 w σ tc fr tt op om fr) (h1 : tc = 1) : ∃ i w1, c_X4_name g r w = some (.ok (Int32.ofNat i), w1) ∧ i < 3000 ∧ pj g P r L S n f C1 C2 w1 σ tc fr tt op om tt ∧ cn g w1 L i (lx_tx f fr tt) ∧ pf g r L P w w1 ∧ ch_cs w1 ≤ ch_cs w + 2 ∧ ch_sl w1 + 4 * cpN w L ≤ ch_sl w + (tt - fr) + 4 * cpN w1 L := by
  obtain ⟨⟨c1, c2, c3, c4, c5, c6, c7, c8, c9, c10, A, k, cap, E, T, c11, c12, c13⟩, hM, hA⟩ := h
  obtain ⟨d1, d2, d3, d4⟩ := id c7
  obtain ⟨s1, s2, s3, s4, s5, s6, s7, s8⟩ := id d1
  obtain ⟨q1, q2, q3, q4, q5, q6, q7, q8⟩ := id hA
  have hlt := d4.lt (by omega)
  have htn : tt ≤ n := d4.2.1
  have hcap : cpN w L = cap := by unfold cpN; rw [c11.1.2.1]; exact c11.1.2.2.2.1
  have hcapb : cap ≤ 2 * k + 10 := c11.1.2.2.2.2.2.1
  have hn := hM.2.2.2.2.1
  have hRW : rd_rw w S fr tt (lx_tx f fr tt) := ⟨s3, by omega, by omega, by omega, lx_txn, fun i hi => by rw [lx_txg hi]; exact s8 (fr + i) (by omega)⟩
  have e : c_X4_name g r w = (c_X4_numberOf g r (some S) (Int32.ofNat fr) (Int32.ofNat tt) w).bind fun p8 => some ((.ok p8.1, p8.2)) := by
    unfold c_X4_name
    rw [d_gI s1, d3, h1, if_pos (show lx_kd 1 = 1 from rfl)]
    unfold c_X4_name_14
    rw [d_rc s1, lc_must1]
    show (ch_gR w (some r) 5 fX4_s).bind _ = _
    rw [d_gR s1, s2, d_gI s1, d2.1, d_gI s1, d2.2, d_rc s1]
  rw [e]
  unfold c_X4_numberOf
  rcases lc_num (g := g) s1 c10.1 c11 c6 (by omega) hRW (by omega) (by omega) k 0 (by omega) (by omega) (fun x q => absurd q (by omega)) with ⟨x, x1, x2, x3⟩ | ⟨w', x1, A', cap', y1, y2, y3, y4, y5, y6, y7, y8, y9⟩
  · refine ⟨x, w, ?_, by omega, ⟨⟨c1, c2, c3, c4, c5, c6, c7, c8, c9, c10, A, k, cap, E, T, c11, by omega, c13⟩, hM, ?_⟩, ⟨A, k, cap, E, T, c11, x1, x2⟩, pf.refl, by omega, by omega⟩
    · show ((ch_loop (fun (s_ : Int32) => c_X4_numberOf_3 g r (some S) (Int32.ofNat fr) (Int32.ofNat tt) s_ w) (Int32.ofNat 0)).bind _) = _
      rw [x3]; rfl
    · unfold pjA at *
      omega
  · have hLr : L ≠ r := fun q => by
      have := c11.1.1
      rw [q, s1] at this
      cases this
    have hAr : A ≠ r := fun q => by
      have := c11.1.2.2.2.2.2.2.1
      rw [q, s1] at this
      omega
    have hrn := c6 r (by rw [s1]; decide)
    have hr' : w'.1 r = w.1 r := y3 r hrn (fun q => hLr q.symm) (fun q => hAr q.symm)
    obtain ⟨b1, b2, b3, b4, b5⟩ := b_cell hr'
    have keepP : ∀ a : Nat, a < P → w'.1 a = w.1 a := by
      intro a ha
      by_cases haA : a = A
      · have ht55 : ch_tg w A = 55 := by
          rcases c13 with z | z
          · omega
          · exact z
        have hcap0 : cap = 0 := by
          rcases c11.1.2.2.2.2.2.2.1 with z | z <;> omega
        rw [haA]
        refine y4 (fun z => ?_)
        have := y1.1.2.2.2.2.1
        rcases y2 with z2 | z2
        · omega
        · have := c6 A (by omega)
          omega
      · exact y3 a (by omega) (by omega) haA
    have hcp' : cpN w' L = cap' := by unfold cpN; rw [y1.1.2.1]; exact y1.1.2.2.2.1
    have hS' : w'.1 S = w.1 S := keepP S c5
    obtain ⟨u1, u2, u3, u4, u5⟩ := b_cell hS'
    have hd1' : rd_S w' r S n f := ⟨by rw [b1]; exact s1, by rw [b4]; exact s2, by rw [u1]; exact s3, by rw [u2]; exact s4, s5, by rw [b3]; exact s6, s7, fun i hi => by rw [u3]; exact s8 i hi⟩
    rw [lx_txn] at y8
    refine ⟨k, w', ?_, by omega, ⟨⟨c1.keep c2 keepP, c2, c3, c4, c5, y9, ⟨hd1', ⟨by rw [b3]; exact d2.1, by rw [b3]; exact d2.2⟩, by rw [b3]; exact d3, d4⟩, by rw [b3]; exact c8, c9, c10.keep b4, A', k + 1, cap', _, _, y1, by omega, ?_⟩, hM, ?_⟩, ⟨A', k + 1, cap', _, _, y1, by omega, by unfold lx_up; rw [if_pos rfl]⟩, ⟨by omega, fun a ha => ?_, fun i t hc => ?_⟩, by omega, by rw [hcap, hcp']; omega⟩
    · show ((ch_loop (fun (s_ : Int32) => c_X4_numberOf_3 g r (some S) (Int32.ofNat fr) (Int32.ofNat tt) s_ w) (Int32.ofNat 0)).bind _) = _
      rw [x1]; rfl
    · rcases y2 with ⟨z, z1⟩ | z
      · subst z
        rcases c13 with z | z
        · exact Or.inl z
        · exfalso
          have := y1.1.2.2.2.2.1
          rcases c11.1.2.2.2.2.2.2.1 with z3 | z3 <;> omega
      · have := c6 r (by rw [s1]; decide)
        exact Or.inl (by omega)
    · unfold pjA at *
      rw [hcp']
      rw [hcap] at hA
      omega
    · rcases ha with ha | ⟨a1, a2, a3, a4⟩
      · exact ⟨keepP a ha, Or.inl ha⟩
      · have haA : a ≠ A := fun q => a4 (by rw [q]; exact c11.1.2.1)
        refine ⟨y3 a a1 a3 haA, Or.inr ⟨by omega, a2, a3, ?_⟩⟩
        rw [y1.1.2.1]
        intro q
        have := Option.some.inj q
        rcases y2 with z | z <;> omega
    · obtain ⟨A0, k0, cap0, E0, T0, h1, h2, h3⟩ := hc
      obtain ⟨z1, z2, z3, z4⟩ := rd_N_u c11 h1 (by omega)
      refine ⟨A', k + 1, cap', _, _, y1, by omega, ?_⟩
      unfold lx_up
      rw [if_neg (by omega), ← h3]
      exact ((z4 i (by omega)).2).symm
end PJ
