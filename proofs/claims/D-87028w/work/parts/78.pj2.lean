/-! LEVEL B2: both readers: names are one thing each; the next word -/
set_option maxRecDepth 100000
theorem md_nm_u {σ : ch_S} {j : Nat} {t u : List Nat} (h : md_nm σ j t) (h2 : md_nm σ j u) : t = u := by
  obtain ⟨a, a1, a2, a3, a4⟩ := h
  obtain ⟨b, b1, b2, b3, b4⟩ := h2
  have e1 : a = b := (bn_eq (by omega) (by omega)).mp (a1.symm.trans b1)
  have e2 : t.length = u.length := (bn_eq (by omega) (by omega)).mp (a2.symm.trans b2)
  subst e1
  refine lx_ext.mpr ⟨e2, fun i hi => ?_⟩
  obtain ⟨c1, c2⟩ := a4 i hi
  obtain ⟨d1, d2⟩ := b4 i (by omega)
  exact (bn_eq (by omega) (by omega)).mp (c2.symm.trans d2)
theorem mn_u {σ : ch_S} {j : Nat} {t u : List Nat} (h : mn σ j t) (h2 : mn σ j u) : t = u := by
  obtain ⟨k, T, a1, a2, a3, a4⟩ := h
  obtain ⟨k2, T2, b1, b2, b3, b4⟩ := h2
  rw [← a4, ← b4]
  exact md_nm_u (a1.2.1 j a3) (b1.2.1 j b3)
theorem mn_i {σ : ch_S} {i j : Nat} {t : List Nat} (h : mn σ i t) (h2 : mn σ j t) : i = j := by
  obtain ⟨k, T, a1, a2, a3, a4⟩ := h
  obtain ⟨k2, T2, b1, b2, b3, b4⟩ := h2
  have e : k = k2 := (bn_eq (by omega) (by omega)).mp (a1.1.symm.trans b1.1)
  subst e
  have e2 : T j = T2 j := md_nm_u (a1.2.1 j b3) (b1.2.1 j b3)
  exact a1.2.2 i j a3 b3 (by rw [a4, e2, b4])
theorem rd_tx_u {w : ch_W} {a : Nat} {t u : List Nat} (h : rd_tx w a t) (h2 : rd_tx w a u) : t = u := by
  obtain ⟨a1, a2, a3, a4⟩ := h
  obtain ⟨b1, b2, b3, b4⟩ := h2
  refine lx_ext.mpr ⟨by omega, fun i hi => ?_⟩
  exact (bx_inj (a4 i hi) (b4 i (by omega))).mp rfl
theorem rd_N_u {g : State} {w : ch_W} {L A k cap A2 k2 cap2 : Nat} {E E2 : Nat → Nat} {T T2 : Nat → List Nat} (h : rd_N g w L A k cap E T) (h2 : rd_N g w L A2 k2 cap2 E2 T2) (hk : k < 100000) : A2 = A ∧ k2 = k ∧ cap2 = cap ∧ ∀ i : Nat, i < k → E2 i = E i ∧ T2 i = T i := by
  obtain ⟨⟨a1, a2, a3, a4, a5, a6, a7, a8⟩, a9, a10, a11⟩ := h
  obtain ⟨⟨b1, b2, b3, b4, b5, b6, b7, b8⟩, b9, b10, b11⟩ := h2
  have e1 : A2 = A := Option.some.inj (b2.symm.trans a2)
  subst e1
  have e2 : cap2 = cap := b4.symm.trans a4
  have e3 : k2 = k := (bn_eq (by omega) (by omega)).mp (b3.symm.trans a3)
  subst e2 e3
  refine ⟨rfl, rfl, rfl, fun i hi => ?_⟩
  have e4 : E2 i = E i := Option.some.inj ((b8 i hi).1.symm.trans (a8 i hi).1)
  have := b9 i hi
  rw [e4] at this
  exact ⟨e4, rd_tx_u this (a9 i hi)⟩
/-- only the reader's own cell is another -/
theorem pf_r {g : State} {P r L : Nat} {w w' : ch_W} (hr : ch_tg w r = 5) (hL : ch_tg w L = 14) (ho : ∀ a : Nat, a ≠ r → w'.1 a = w.1 a) (hx : ch_nx w' = ch_nx w) (hP : P ≤ r) : pf g r L P w w' := by
  have hLr : L ≠ r := fun q => by rw [q, hr] at hL; cases hL
  refine ⟨by omega, fun a ha => ?_, fun i t hc => ?_⟩
  · rcases ha with ha | ⟨h1, h2, h3, h4⟩
    · exact ⟨ho a (by omega), Or.inl ha⟩
    · exact ⟨ho a h2, Or.inr ⟨by omega, h2, h3, by rw [(b_cell (ho L hLr)).2.2.2.1]; exact h4⟩⟩
  · obtain ⟨A, k, cap, E, T, h1, h2, h3⟩ := hc
    have hAr : A ≠ r := fun q => by
      have := h1.1.2.2.2.2.2.2.1
      rw [q, hr] at this
      omega
    exact ⟨A, k, cap, E, T, h1.keep (ho L hLr) (ho A hAr) (fun i hi => ho (E i) (fun q => by
      have := (h1.2.1 i hi).1
      rw [q, hr] at this
      cases this)), h2, h3⟩
theorem nn_fr {Ks As : List Nat} {σ σ' : ch_S} {k : Nat} (h : md_fr Ks As σ σ') (hk : k ∉ Ks) : nn σ' k = nn σ k := by
  unfold nn
  rw [h.1 k hk]
/-- the model's next keeps nodes and all that -/
theorem mf_next {σ σ' : ch_S} {f : Nat → Nat} {n fr k : Nat} {T : Nat → List Nat} (h : md_nx σ σ' f n fr k T) (hN : md_N σ k T) (hk : k < 1600) : mf σ σ' := by
  obtain ⟨h1, k', T', h2, h3, h4, h5, -⟩ := h
  refine ⟨h1.mono (by decide) (by decide), by rw [nn_fr h1 (by decide)]; exact Nat.le_refl _, by rw [nn_fr h1 (by decide)]; exact Nat.le_refl _, by rw [nn_fr h1 (by decide)]; exact Nat.le_refl _, h1.1 _ (by decide), fun a ha k _ => ?_, fun k _ => by rw [h1.2 _ (by decide)], fun k _ => by rw [h1.2 _ (by decide)], fun a ha k _ => ?_, fun j t q => ?_⟩
  · have : a ∉ md_na := by
      have hh : ∀ x ∈ pna, x ∉ md_na := by decide
      exact hh a ha
    rw [h1.2 _ this]
  · have : a ∉ md_na := by
      have hh : ∀ x ∈ psa, x ∉ md_na := by decide
      exact hh a ha
    rw [h1.2 _ this]
  · obtain ⟨k0, T0, b1, b2, b3, b4⟩ := q
    have e : k0 = k := (bn_eq (by omega) (by omega)).mp (b1.1.symm.trans hN.1)
    subst e
    refine ⟨k', T', h2, by omega, by omega, ?_⟩
    rw [h5 j b3, ← b4]
    exact md_nm_u (hN.2.1 j b3) (b1.2.1 j b3)
section PJ
variable {g : State} {P r L S n C1 C2 : Nat} {f : Nat → Nat} {w : ch_W} {σ : ch_S} {tc fr tt op om ps : Nat}
theorem lx_tk.lt (h : lx_tk f n tc fr tt) (h0 : tc ≠ 0) : fr < tt := by
  obtain ⟨h1, h2, h | h | h | h | h | h⟩ := h
  · omega
  · omega
  · omega
  · omega
  · omega
  · obtain ⟨j, -, -, h, -⟩ := h
    exact h
theorem lx_spge {p : Nat} (h : p ≤ n) : p ≤ lx lx_sp f n p ∧ lx lx_sp f n p ≤ n := ⟨lx_ge n p (by omega), lx_le n p (by omega) h⟩
theorem pj_next (h : pj g P r L S n f C1 C2 w σ tc fr tt op om ps) (hps : ps ≤ tt) (hpf : fr ≤ ps) (h0 : tc ≠ 0) :
    (∃ w' σ' tc' fr' tt', c_X4_next g r w = some (.ok (), w') ∧ m_X3_next σ = some σ' ∧ pj g P r L S n f C1 C2 w' σ' tc' fr' tt' op om fr' ∧ tt ≤ fr' ∧ pr g P r L 4 1 w σ fr w' σ' fr' ∧ w' = rd_set w r fr' tt' (lx_kd tc') ∧ md_fr md_nk md_na σ σ') ∨
    (∃ e w' σ' q, c_X4_next g r w = some (.error e, w') ∧ m_X3_next σ = some σ' ∧ pe P C1 C2 w w' e q ∧ pd n 1 σ fr σ' q ∧ tt ≤ q) := by
  obtain ⟨⟨c1, c2, c3, c4, c5, c6, c7, c8, c9, c10, A, k, cap, E, T, c11, c12, c13⟩, ⟨m1, m2, m3, m4, m5, ⟨kM, TM, m6, m7, m8⟩, m9⟩, hA⟩ := h
  obtain ⟨d1, d2, d3, d4⟩ := id c7
  have hlt := d4.lt h0
  have htn : tt ≤ n := d4.2.1
  have hrx : r ≠ ch_nx w := by
    have := c6 r (by rw [d1.1]; decide)
    omega
  have hA' := hA
  obtain ⟨q1, q2, q3, q4, q5, q6, q7, q8⟩ := hA'
  have hcap : cpN w L = cap := by unfold cpN; rw [c11.1.2.1]; exact c11.1.2.2.2.1
  have hcapb : cap ≤ 2 * k + 10 := c11.1.2.2.2.2.2.1
  obtain ⟨σ', e1, e2⟩ := lm_nx m1 m6 (by omega) m2.2.2.1 htn
  have hmf := mf_next e2 m6 (by omega)
  obtain ⟨f1, k', T', f2, f3, f4, f5, f6⟩ := id e2
  have hsp := lx_spge (f := f) htn
  have hpjN : pjN σ' := by
    unfold pjN nn
    rw [f1.1 _ (by decide), f1.1 _ (by decide), f1.1 _ (by decide), f1.1 _ (by decide)]
    exact m9
  rcases f6 with ⟨tc', tt', t1, t2, t3⟩ | ⟨t1, t2, t3⟩
  · have hc := lc_nx (g := g) d1 (bb_W c1) d2.2 htn hrx (by omega) (by omega) rfl t1
    have ho : ∀ a : Nat, a ≠ r → (rd_set w r (lx lx_sp f n tt) tt' (lx_kd tc')).1 a = w.1 a := fun a ha => by unfold rd_set; rw [b_oI ha, b_oI ha, b_oI ha]
    have hpf := pf_r (g := g) (P := P) (r := r) (L := L) (w := w) (w' := rd_set w r (lx lx_sp f n tt) tt' (lx_kd tc')) d1.1 c11.1.1 ho rfl c3
    have hLr : L ≠ r := fun q => by
      have := c11.1.1
      rw [q, d1.1] at this
      cases this
    have hcp : cpN (rd_set w r (lx lx_sp f n tt) tt' (lx_kd tc')) L = cpN w L := by
      unfold cpN
      rw [(b_cell (ho L hLr)).2.2.2.1, c11.1.2.1]
      exact (b_cell (ho A (fun q => by
        have := c11.1.2.2.2.2.2.2.1
        rw [q, d1.1] at this
        omega))).2.1
    have hbd : bd L 4 1 w σ fr (rd_set w r (lx lx_sp f n tt) tt' (lx_kd tc')) σ' (lx lx_sp f n tt) := by
      refine ⟨by omega, ?_, ?_, ?_, ?_, ?_⟩
      · show ((ch_cs w : Nat) : Int) + _ ≤ _
        omega
      · rw [hcp]
        show ((ch_sl w : Nat) : Int) + _ + _ ≤ _
        omega
      · rw [nn_fr f1 (by decide)]; omega
      · rw [nn_fr f1 (by decide)]; omega
      · rw [nn_fr f1 (by decide)]; omega
    refine Or.inl ⟨_, σ', tc', lx lx_sp f n tt, tt', hc, e1, ⟨⟨?_, c2, c3, c4, c5, ?_, ⟨?_, ⟨?_, ?_⟩, ?_, t1⟩, ?_, c9, ?_, ?_⟩, ⟨m1.fr f1 (by decide) (by decide), t2, by rw [f1.1 _ (by decide)]; exact m3, by rw [f1.1 _ (by decide)]; exact m4, m5, ⟨k', T', f2, by omega, t3⟩, hpjN⟩, ?_⟩, hsp.1, ⟨hpf, hmf, hbd⟩, rfl, f1⟩
    · exact c1.keep c2 (fun a ha => ho a (by omega))
    · intro b hb
      unfold rd_set at hb
      rw [b_tI, b_tI, b_tI] at hb
      exact c6 b hb
    · unfold rd_set
      exact ((d1.si (by decide)).si (by decide)).si (by decide)
    · unfold rd_set
      rw [b_II, if_neg (fun q => absurd q.2 (by decide)), b_II, if_neg (fun q => absurd q.2 (by decide)), b_II, if_pos ⟨rfl, rfl⟩]
    · unfold rd_set
      rw [b_II, if_neg (fun q => absurd q.2 (by decide)), b_II, if_pos ⟨rfl, rfl⟩]
    · unfold rd_set
      rw [b_II, if_pos ⟨rfl, rfl⟩]
    · unfold rd_set
      rw [b_II, if_neg (fun q => absurd q.2 (by decide)), b_II, if_neg (fun q => absurd q.2 (by decide)), b_II, if_neg (fun q => absurd q.2 (by decide))]
      exact c8
    · unfold rd_set
      exact c10.keep (fun k => by rw [b_RI, b_RI, b_RI])
    · refine ⟨A, k, cap, E, T, c11.keep (ho L hLr) (ho A (fun q => by
        have := c11.1.2.2.2.2.2.2.1
        rw [q, d1.1] at this
        omega)) (fun i hi => ho (E i) (fun q => by
        have := (c11.2.1 i hi).1
        rw [q, d1.1] at this
        cases this)), by omega, ?_⟩
      rw [(b_cell (ho A (fun q => by
        have := c11.1.2.2.2.2.2.2.1
        rw [q, d1.1] at this
        omega))).1]
      exact c13
    · clear t3 m8 f2 e2
      refine ⟨q1, q2, ?_, ?_, ?_, ?_, ?_, ?_⟩
      · show ch_cs w + _ ≤ _
        omega
      · rw [hcp]
        show ch_sl w + _ ≤ _
        omega
      · rw [nn_fr f1 (by decide)]; omega
      · rw [nn_fr f1 (by decide)]; omega
      · rw [nn_fr f1 (by decide)]; omega
      · rw [nn_fr f1 (by decide)]; omega
  · obtain ⟨tt', w', g1, g2⟩ := lc_nxB (g := g) d1 d2.2 htn hrx (by omega) (by omega) rfl t3
    obtain ⟨r1, r2, r3, r4, r5, r6, r7⟩ := g2
    refine Or.inr ⟨ch_nx w, w', σ', lx lx_sp f n tt, g1, e1, ⟨r2, r3, fun a ha => ?_, ?_, ?_, ?_, fun b hb => ?_⟩, ⟨hmf.1, Or.inr ⟨by rw [f1.1 _ (by decide)]; exact m3, t1, t2⟩, by omega, hsp.2, hpjN, f1.1 _ (by decide), ?_, ?_, ?_⟩, hsp.1⟩
    · rw [r4 a (by rw [r1]; have := c6 r (by rw [d1.1]; decide); omega), b_oI (by omega), b_oI (by omega)]
    · rw [r5]; exact Nat.le_succ _
    · rw [r6]; show ch_cs w + 1 ≤ _; omega
    · rw [r7]; show ch_sl w + 7 ≤ _; omega
    · rw [r5]
      show b < ch_nx w + 1
      by_cases hbn : b = ch_nx w
      · omega
      · have := (b_cell (r4 b hbn)).1
        rw [this, b_tI, b_tI] at hb
        have := c6 b hb
        omega
    · rw [nn_fr f1 (by decide)]
      split <;> omega
    · rw [nn_fr f1 (by decide)]; omega
    · rw [nn_fr f1 (by decide)]
      split <;> omega
end PJ
