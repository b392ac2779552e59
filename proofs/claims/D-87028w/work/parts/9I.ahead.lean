/-! LEVEL B2: is a name ahead? -/
set_option maxRecDepth 100000
section AH
variable {g : State} {P r L S n C1 C2 : Nat} {f : Nat → Nat} {w w' : ch_W} {σ : ch_S} {tc fr tt op om : Nat}
/-- the component's blanks ahead -/
theorem lc_blanks {p0 : Nat} (hS : rd_S w r S n f) : ∀ (k p : Nat), n - p ≤ k → p ≤ n → ch_loop (fun (s : Int32) => c_X4_isNameBehind_5 g r s w) (Int32.ofNat p) = c_X4_isNameBehind_41 g r (Int32.ofNat (lx lx_sp f n p)) w := by
  obtain ⟨s1, s2, s3, s4, s5, s6, s7, s8⟩ := id hS
  intro k
  have fin : ∀ p : Nat, ¬ (p < n ∧ lx_sp (f p) = true) → p ≤ n → ch_loop (fun (s : Int32) => c_X4_isNameBehind_5 g r s w) (Int32.ofNat p) = c_X4_isNameBehind_41 g r (Int32.ofNat (lx lx_sp f n p)) w := by
    intro p hp hpn
    rw [lx_stop hp, lp_eq]
    show (c_X4_isNameBehind_5 g r (Int32.ofNat p) w).bind _ = _
    have hb : c_X4_isNameBehind_5 g r (Int32.ofNat p) w = (c_X4_isNameBehind_41 g r (Int32.ofNat p) w).bind fun q => some (.inr q) := by
      unfold c_X4_isNameBehind_5
      rw [d_gI s1, s6]
      by_cases hlt : p < n
      · have hx := s8 p hlt
        have e32 : ch_gi w S p = 32 ↔ f p = 32 := bx_eq (y := 32) hx (by decide)
        have e10 : ch_gi w S p = 10 ↔ f p = 10 := bx_eq (y := 10) hx (by decide)
        have hns : ¬ lx_sp (f p) = true := fun z => hp ⟨hlt, z⟩
        rw [lx_spI] at hns
        rw [if_pos (by rw [bn_lt (by omega) (by omega)]; exact hlt), d_gR s1, s2, b_lI (Or.inl s3) (by omega) (by omega), Option.bind_some, if_neg (fun z => hns (Or.inl (e32.mp z))), d_gR s1, s2, b_lI (Or.inl s3) (by omega) (by omega), Option.bind_some, if_neg (fun z => hns (Or.inr (e10.mp z)))]
      · rw [if_neg (by rw [bn_lt (by omega) (by omega)]; exact hlt)]
    rw [hb]
    cases c_X4_isNameBehind_41 g r (Int32.ofNat p) w <;> rfl
  induction k with
  | zero => intro p h1 h2; exact fin p (by omega) h2
  | succ k ih =>
    intro p h1 h2
    by_cases hp : p < n ∧ lx_sp (f p) = true
    · have hx := s8 p hp.1
      have e32 : ch_gi w S p = 32 ↔ f p = 32 := bx_eq (y := 32) hx (by decide)
      have e10 : ch_gi w S p = 10 ↔ f p = 10 := bx_eq (y := 10) hx (by decide)
      have e1 : Int32.ofNat p + 1 = Int32.ofNat (p + 1) := bn_add (b := 1)
      have hsp := lx_spI.mp hp.2
      have hb : c_X4_isNameBehind_5 g r (Int32.ofNat p) w = some (.inl (Int32.ofNat (p + 1))) := by
        unfold c_X4_isNameBehind_5
        rw [d_gI s1, s6, if_pos (by rw [bn_lt (by omega) (by omega)]; exact hp.1), d_gR s1, s2, b_lI (Or.inl s3) (by omega) (by omega), Option.bind_some, e1]
        by_cases q1 : f p = 32
        · rw [if_pos (e32.mpr q1)]
        · rw [if_neg (fun z => q1 (e32.mp z)), d_gR s1, s2, b_lI (Or.inl s3) (by omega) (by omega), Option.bind_some, if_pos (e10.mpr (by omega))]
      rw [ch_loop_inl hb, lx_go hp]
      exact ih (p + 1) (by omega) (by omega)
    · exact fin p hp h2
/-- a name ahead, or none -/
theorem pj_ahead (h : pj g P r L S n f C1 C2 w σ tc fr tt op om fr) : ∃ (v : Int32) (σ' : ch_S), (v = 0 ∨ v = 1) ∧ c_X4_isNameBehind g r w = some (.ok v, w) ∧ m_X3_isNameAhead σ = some (v, σ') ∧ md_fr [] md_na σ σ' ∧ mf σ σ' ∧ pjM n f σ' tc fr tt om := by
  obtain ⟨⟨c1, c2, c3, c4, c5, c6, c7, c8, c9, c10, A, k, cap, E, T, c11, c12, c13⟩, hM, hA⟩ := id h
  obtain ⟨m1, m2, m3, m4, m5, ⟨kM, TM, m6, m7, m8⟩, m9⟩ := id hM
  obtain ⟨d1, d2, d3, d4⟩ := id c7
  obtain ⟨s1, s2, s3, s4, s5, s6, s7, s8⟩ := id d1
  have htn : tt ≤ n := d4.2.1
  have hff := d4.1
  obtain ⟨r1, r2⟩ := pjC_room h hff
  have hrx : r ≠ ch_nx w := by
    have := c6 r (by rw [s1]; decide)
    omega
  have hsp := lx_spge (f := f) htn
  obtain ⟨σ1, e1, e2⟩ := lm_nx m1 m6 (by omega) m2.2.2.1 htn
  obtain ⟨f1, k', T', f2, f3, f4, f5, f6⟩ := id e2
  -- the model's state behind
  have hback : ∀ v : Int32, (v = 0 ∨ v = 1) → ∃ σ', m_X3_isNameAhead_50 (σ.1 fX3_at) (σ.1 fX3_word) (σ.1 fX3_wordFrom) (σ.1 fX3_wordLong) (σ.1 fX3_wordValue) (σ.1 fX3_names) v σ1 = some (v, σ') ∧ (∀ k : Nat, σ'.1 k = σ.1 k) ∧ σ'.2 = σ1.2 := by
    intro v hv
    refine ⟨md_si (md_si (md_si (md_si (md_si (md_si σ1 fX3_at (σ.1 fX3_at)) fX3_word (σ.1 fX3_word)) fX3_wordFrom (σ.1 fX3_wordFrom)) fX3_wordLong (σ.1 fX3_wordLong)) fX3_wordValue (σ.1 fX3_wordValue)) fX3_names (σ.1 fX3_names), ?_, fun k => ?_, rfl⟩
    · unfold m_X3_isNameAhead_50 ch_bit
      rw [m_mI, m_mI, m_mI, m_mI, m_mI, m_mI, if_pos hv]
      rfl
    · simp only [md_get]
      by_cases q6 : k = fX3_names
      · rw [if_pos q6, q6]
      by_cases q5 : k = fX3_wordValue
      · rw [if_neg q6, if_pos q5, q5]
      by_cases q4 : k = fX3_wordLong
      · rw [if_neg q6, if_neg q5, if_pos q4, q4]
      by_cases q3 : k = fX3_wordFrom
      · rw [if_neg q6, if_neg q5, if_neg q4, if_pos q3, q3]
      by_cases q2 : k = fX3_word
      · rw [if_neg q6, if_neg q5, if_neg q4, if_neg q3, if_pos q2, q2]
      by_cases q1 : k = fX3_at
      · rw [if_neg q6, if_neg q5, if_neg q4, if_neg q3, if_neg q2, if_pos q1, q1]
      rw [if_neg q6, if_neg q5, if_neg q4, if_neg q3, if_neg q2, if_neg q1]
      refine f1.1 k ?_
      unfold md_nk
      simp [q1, q2, q3, q4, q5, q6]
  have hrest : ∀ σ' : ch_S, (∀ k : Nat, σ'.1 k = σ.1 k) → σ'.2 = σ1.2 → md_fr [] md_na σ σ' ∧ mf σ σ' ∧ pjM n f σ' tc fr tt om := by
    intro σ' hk ha
    have hfr : md_fr [] md_na σ σ' := ⟨fun k _ => hk k, fun a h9 => by rw [ha]; exact f1.2 a h9⟩
    have hnn : ∀ k : Nat, nn σ' k = nn σ k := fun k => by unfold nn; rw [hk]
    have hN' : md_N σ' kM TM := by
      refine ⟨by rw [hk]; exact m6.1, fun j hj => ?_, m6.2.2⟩
      obtain ⟨a, a1, a2, a3, a4⟩ := f2.2.1 j (by omega)
      rw [f5 j hj] at a2 a3 a4
      exact ⟨a, by rw [ha]; exact a1, by rw [ha]; exact a2, a3, fun i hi => by rw [ha]; exact a4 i hi⟩
    refine ⟨hfr, ⟨hfr.mono (by decide) (by decide), by rw [hnn]; exact Nat.le_refl _, by rw [hnn]; exact Nat.le_refl _, by rw [hnn]; exact Nat.le_refl _, hk _, fun a h9 k _ => ?_, fun k _ => by rw [hfr.2 _ (by decide)], fun k _ => by rw [hfr.2 _ (by decide)], fun a h9 k _ => ?_, fun j t q => ?_⟩, ?_⟩
    · have hh : ∀ x ∈ pna, x ∉ md_na := by decide
      rw [hfr.2 _ (hh a h9)]
    · have hh : ∀ x ∈ psa, x ∉ md_na := by decide
      rw [hfr.2 _ (hh a h9)]
    · obtain ⟨k0, T0, b1, b2, b3, b4⟩ := q
      have e : k0 = kM := (bn_eq (by omega) (by omega)).mp (b1.1.symm.trans m6.1)
      subst e
      refine ⟨k0, TM, hN', by omega, b3, ?_⟩
      rw [← b4]
      exact md_nm_u (m6.2.1 j b3) (b1.2.1 j b3)
    · refine ⟨m1.fr hfr (by decide) (by decide), ?_, by rw [hk]; exact m3, by rw [hk]; exact m4, m5, ⟨kM, TM, hN', m7, by rw [hk]; exact m8⟩, ?_⟩
      · unfold md_wd
        rw [hk, hk, hk, hk, hk]
        exact m2
      · unfold pjN
        rw [hnn, hnn, hnn, hnn, hk, hk, hk, hk]
        exact m9
  -- the component
  have hC0 : c_X4_isNameBehind g r w = c_X4_isNameBehind_41 g r (Int32.ofNat (lx lx_sp f n tt)) w := by
    unfold c_X4_isNameBehind
    rw [d_gI s1, d2.2]
    exact lc_blanks (p0 := 0) d1 n tt (by omega) htn
  have hlet : (¬ (lx lx_sp f n tt < n ∧ lx_let (f (lx lx_sp f n tt)) = true)) → c_X4_isNameBehind g r w = some (.ok 0, w) := by
    intro hn
    rw [hC0]
    unfold c_X4_isNameBehind_41
    rw [d_gI s1, s6]
    by_cases hlt : lx lx_sp f n tt < n
    · have hx := s8 _ hlt
      rw [if_pos (by rw [bn_lt (by omega) (by omega)]; exact hlt), d_gR s1, s2, b_lI (Or.inl s3) (by omega) (by omega), Option.bind_some, lc_let hx, Option.bind_some, if_neg (fun z => hn ⟨hlt, z⟩), if_pos rfl]
    · rw [if_neg (by rw [bn_lt (by omega) (by omega)]; exact hlt)]
  have hletY : ∀ (tc' tt' : Nat), lx lx_sp f n tt < n → lx_let (f (lx lx_sp f n tt)) = true → lx_tk f n tc' (lx lx_sp f n tt) tt' → c_X4_isNameBehind g r w = some (.ok (if tc' = 1 then 1 else 0), w) := by
    intro tc' tt' hlt hl ht'
    have hx := s8 _ hlt
    have hnx := lc_nx (g := g) d1 (bb_W c1) d2.2 htn hrx (by omega) (by omega) rfl ht'
    rw [hC0]
    unfold c_X4_isNameBehind_41
    rw [d_gI s1, s6, if_pos (by rw [bn_lt (by omega) (by omega)]; exact hlt), d_gR s1, s2, b_lI (Or.inl s3) (by omega) (by omega), Option.bind_some, lc_let hx, Option.bind_some, if_pos hl, if_neg (show ¬ (1 : Int32) = 0 by decide), d_gI s1, d3, d_gI s1, d2.1, d_gI s1, d2.2, d_rc s1, tb_ok hnx]
    have t1 : ch_tg (rd_set w r (lx lx_sp f n tt) tt' (lx_kd tc')) r = 5 := by unfold rd_set; rw [b_tI, b_tI, b_tI]; exact s1
    have k1 : ch_gi (rd_set w r (lx lx_sp f n tt) tt' (lx_kd tc')) r fX4_kind = lx_kd tc' := by unfold rd_set; rw [b_II, if_pos ⟨rfl, rfl⟩]
    have hres : ∀ v : Int32, (v = 0 ∨ v = 1) → c_X4_isNameBehind_96 g r (lx_kd tc) (Int32.ofNat fr) (Int32.ofNat tt) v (rd_set w r (lx lx_sp f n tt) tt' (lx_kd tc')) = some (.ok v, w) := by
      intro v hv
      unfold c_X4_isNameBehind_96 ch_bit
      rw [d_pI t1, d_pI (by rw [b_tI]; exact t1), d_pI (by rw [b_tI, b_tI]; exact t1), if_pos hv]
      have hw : ch_si (ch_si (ch_si (rd_set w r (lx lx_sp f n tt) tt' (lx_kd tc')) r fX4_kind (lx_kd tc)) r fX4_from (Int32.ofNat fr)) r fX4_to (Int32.ofNat tt) = w := by
        unfold rd_set
        rw [b_twice, b_comm (k := fX4_kind) (j := fX4_from) (by decide), b_comm (k := fX4_to) (j := fX4_from) (by decide), b_twice, b_comm (k := fX4_kind) (j := fX4_to) (by decide), b_twice]
        rw [b_same (w := w) (k := fX4_from) d2.1, b_same (w := w) (k := fX4_to) d2.2, b_same (w := w) (k := fX4_kind) d3]
      rw [hw]
      rfl
    rw [d_gI t1, k1]
    by_cases hq : tc' = 1
    · rw [if_pos (show lx_kd tc' = 1 by rw [hq]; rfl), if_pos hq]
      exact hres 1 (Or.inr rfl)
    · have hk : ¬ lx_kd tc' = 1 := by
        unfold lx_kd
        rw [if_neg hq]
        split
        · decide
        · split <;> decide
      rw [if_neg hk, if_neg hq]
      exact hres 0 (Or.inl rfl)
  unfold m_X3_isNameAhead
  rw [e1, Option.bind_some]
  rcases f6 with ⟨tc', tt', t1, t2, t3⟩ | ⟨t1, t2, t3⟩
  · have hwd : σ1.1 fX3_word = 2 ↔ tc' = 1 := by
      obtain ⟨w1, w2, w3, w4, w5, w6, w7, w8⟩ := t2
      rcases t1.rng with q | q | q | q | q
      · rw [w4 q, q]; decide
      · rw [w5 q, q]; decide
      · rw [(w6 q).1, q]; decide
      · rw [(w7 q.1 q.2).1]; exact ⟨fun z => absurd z (by decide), fun z => by omega⟩
      · rw [(w8 (by omega)).1]; exact ⟨fun z => absurd z (by decide), fun z => by omega⟩
    by_cases hq : tc' = 1
    · have hlt := t1.lt (by omega)
      have hl : lx_let (f (lx lx_sp f n tt)) = true := by
        obtain ⟨y1, y2, y | y | y | y | y | y⟩ := t1
        · omega
        · exact y.2.2.1
        · omega
        · omega
        · omega
        · obtain ⟨j, j1, j2, -⟩ := y
          omega
      obtain ⟨σ', k1, k2, k3⟩ := hback 1 (Or.inr rfl)
      rw [if_pos (hwd.mpr hq)]
      refine ⟨1, σ', Or.inr rfl, ?_, k1, hrest σ' k2 k3⟩
      have := hletY tc' tt' (by have := t1.2.1; omega) hl t1
      rw [if_pos hq] at this
      exact this
    · obtain ⟨σ', k1, k2, k3⟩ := hback 0 (Or.inl rfl)
      rw [if_neg (fun z => hq (hwd.mp z))]
      refine ⟨0, σ', Or.inl rfl, ?_, k1, hrest σ' k2 k3⟩
      by_cases hl : lx lx_sp f n tt < n ∧ lx_let (f (lx lx_sp f n tt)) = true
      · have := hletY tc' tt' hl.1 hl.2 t1
        rw [if_neg hq] at this
        exact this
      · exact hlet hl
  · obtain ⟨σ', k1, k2, k3⟩ := hback 0 (Or.inl rfl)
    rw [t1, if_neg (show ¬ (1 : Int32) = 2 by decide)]
    exact ⟨0, σ', Or.inl rfl, hlet (fun z => t3.2.1 z.2), k1, hrest σ' k2 k3⟩
end AH
