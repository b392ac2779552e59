/-! LEVEL B2: expressions of both sides: first, whole -/
set_option maxRecDepth 100000
section EX
variable {g : State} {P r L S n C1 C2 : Nat} {f : Nat → Nat} {w w' : ch_W} {σ : ch_S} {tc fr tt op om : Nat}
theorem mfr_par {rc : Nat → Int32 → Int32 → Int32 → ch_S → Option (Int32 × ch_S)} (h : pjM n f σ tc fr tt om) (ht : lx_tk f n tc fr tt) (hq : tc = 1040) : m_X3_first rc σ = (m_X3_opens 1 σ).bind fun p27 => if p27.1 = 0 then some (-1, p27.2) else ((rc 0 0 0 0 p27.2).bind fun p29 => (m_X3_closes 41 p29.2).bind fun p31 => some (p29.1, p31)) := by
  have hw := ms_word h ht
  have s1 : m_X3_isSign 40 σ = _ := ms_sign (c := 40) h ht (by decide)
  unfold m_X3_first
  rw [h.2.2.1, if_pos bn_m1, if_neg (fun z => absurd (hw.2.1.mp z) (by omega)), if_neg (fun z => absurd (hw.1.mp z) (by omega)), s1, Option.bind_some, if_pos hq, if_neg (show ¬ (1 : Int32) = 0 by decide)]
theorem mfr_nam {rc : Nat → Int32 → Int32 → Int32 → ch_S → Option (Int32 × ch_S)} (h : pjM n f σ tc fr tt om) (ht : lx_tk f n tc fr tt) (hq : tc = 1) : m_X3_first rc σ = (m_X3_name σ).bind fun p33 => (m_X3_isSign 40 p33.2).bind fun v35 => if v35 = 0 then m_X3_node 4 0 0 p33.1 p33.2 else rc 9 9 (-1) p33.1 p33.2 := by
  have hw := ms_word h ht
  unfold m_X3_first
  rw [h.2.2.1, if_pos bn_m1, if_neg (fun z => absurd (hw.2.1.mp z) (by omega)), if_pos (hw.1.mpr hq)]
  simp only [pe_id]
theorem mfr_new {rc : Nat → Int32 → Int32 → Int32 → ch_S → Option (Int32 × ch_S)} (h : pjM n f σ tc fr tt om) (ht : lx_tk f n tc fr tt) (hq : tc = 2014) : m_X3_first rc σ = (m_X3_next σ).bind fun p5 => (m_X3_isKey 4 p5).bind fun v13 => if v13 = 0 then ((m_X3_name p5).bind fun p23 => m_X3_node 5 0 0 p23.1 p23.2) else ((m_X3_next p5).bind fun p15 => (m_X3_isSign 91 p15).bind fun v17 => (m_X3_opens v17 p15).bind fun p19 => if p19.1 = 0 then m_X3_first_205 rc (-1) p19.2 else (rc 0 0 0 0 p19.2).bind fun p21 => m_X3_first_205 rc p21.1 p21.2) := by
  have hw := ms_word h ht
  have s1 : m_X3_isSign 40 σ = _ := ms_sign (c := 40) h ht (by decide)
  obtain ⟨v1, v2⟩ := h.2.1.2.2.2.2.2.2.2 (by omega)
  have v3 : σ.1 fX3_wordValue = 14 := by rw [v2, hq]; rfl
  have e1 : m_X3_isIn ((14 : Int32)).toInt64 14 19 σ = _ := lm_in (x := 14) (a := 14) (b := 19) (by decide) (by decide) (by decide)
  unfold m_X3_first
  rw [h.2.2.1, if_pos bn_m1, if_neg (fun z => absurd (hw.2.1.mp z) (by omega)), if_neg (fun z => absurd (hw.1.mp z) (by omega)), s1, Option.bind_some, if_neg (show ¬ tc = 1040 by omega), if_pos rfl, if_pos v1, v3, e1, Option.bind_some, if_pos (show 14 ≤ 14 ∧ 14 ≤ 19 by decide), if_neg (show ¬ (1 : Int32) = 0 by decide)]
  simp only [pe_id]
  cases m_X3_next σ with
  | none => rfl
  | some p => rw [Option.bind_some, Option.bind_some, if_pos trivial]
/-- FIRST -/
theorem st_first {d : Nat} (IH : ∀ d', VP g P r L S n f C1 C2 0 9 0 14 d d') (IA : ∀ d', VA g P r L S n f C1 C2 d d') (hn31 : n < 2 ^ 31) : ∀ d', VP g P r L S n f C1 C2 7 2 10 2 (d + 1) d' := by
  intro d' w σ tc fr tt op h hd hd'
  obtain ⟨e, rfl⟩ : ∃ e, d' = e + 1 := ⟨d' - 1, by omega⟩
  show po P n C1 C2 0 w σ fr (c_X4_first (cr_PA g d) g r w) (m_X3_first (cr_ME e) σ) _
  have hr := h.1.2.2.2.2.2.2.1.1.1
  have hat := h.1.2.2.2.2.2.2.1
  have htk := hat.2.2.2
  have hkd := hat.2.2.1
  have h30 := h.1.2.2.2.2.2.2.2.2.1
  unfold c_X4_first
  rw [d_rc hr, it_171 hat h.1.1, Option.bind_some]
  by_cases z1 : tc = 1040
  · rw [if_pos z1, if_neg (show ¬ (1 : Int32) = 0 by decide), d_rc hr, mfr_par h.2.1 htk z1]
    by_cases h9 : op < 30
    · exact po_paren IH h z1 (by omega) (by omega) (by omega) hn31
    · obtain ⟨⟨w9, o1, o2⟩, o3⟩ := pj_op30 h htk.1 (it_171 hat h.1.1) h9
      rw [tb_er o1, o3, Option.bind_some, if_pos rfl]
      exact Or.inr ⟨_, w9, -1, dz σ fr, fr, rfl, rfl, o2, dz_pd h.2.1 htk⟩
  · rw [if_neg z1, if_pos rfl, d_rc hr, it_344 hat h.1.1, Option.bind_some]
    by_cases z2 : tc = 2014
    · rw [if_pos z2, if_neg (show ¬ (1 : Int32) = 0 by decide), d_rc hr, mfr_new h.2.1 htk z2, o_split 0]
      refine po.tb (po_next h (by omega) (Nat.le_refl _) htk.1) (fun _ w2 b σ2 q => ?_) (fun b σ2 q hq2 => ?_)
      · obtain ⟨rfl, ⟨tc2, fr2, tt2, q1, q2, q3⟩, q4⟩ := q
        have hn2 : nn σ2 fX3_nodes = nn σ fX3_nodes := nn_fr q4 (by decide)
        have htk2 := q1.1.2.2.2.2.2.2.1.2.2.2
        have s1 : m_X3_isKey 4 σ2 = _ := ms_key (c := 4) q1.2.1 htk2 (by decide) (by decide)
        dsimp only
        rw [d_rc q1.1.2.2.2.2.2.2.1.1.1, it_153 q1.1.2.2.2.2.2.2.1 q1.1.1, Option.bind_some, s1, Option.bind_some]
        by_cases z3 : tc2 = 2004
        · rw [if_pos z3, if_neg (show ¬ (1 : Int32) = 0 by decide), if_neg (show ¬ (1 : Int32) = 0 by decide), d_rc q1.1.2.2.2.2.2.2.1.1.1, o_split 0]
          refine po.tb2 (po_next q1 (by omega) (Nat.le_refl _) htk2.1) q2.1 (fun _ w3 b σ3 z => ?_) (fun b σ3 q hq2 => ?_)
          · obtain ⟨rfl, ⟨tc3, fr3, tt3, y1, y2, y3⟩, y4⟩ := z
            have hn3 : nn σ3 fX3_nodes = nn σ2 fX3_nodes := nn_fr y4 (by decide)
            exact po_ints IH h.2.2 y1 (q2.trans y2) (by omega) (hn3.trans hn2) (by omega) (by omega) hn31
          · have hq3 := hq2.2.2.2.1
            obtain ⟨σ4, d1, d2⟩ := dm_opens (v := 0) hq2.2.1 (show q < 2 ^ 31 by omega) (fun _ => rfl)
            obtain ⟨σ5, d3, d4⟩ := dm_closes (c := 93) d2.dk (show q < 2 ^ 31 by omega)
            dsimp only
            rw [dm_sign hq2.2.1 (show q < 2 ^ 31 by omega), Option.bind_some, d1, Option.bind_some, if_pos rfl]
            unfold m_X3_first_205
            simp only [pe_id]
            rw [d3, Option.bind_some]
            exact pd_node ((hq2.dr d2 (by omega)).dr d4 (by omega)) q2.2.1 q2.2.2 (by decide) h.2.2.2.2.2.2.1
        · rw [if_neg z3, if_pos rfl, if_pos rfl]
          exact po_newn h.2.2 q1 q2 q3 hn2 hn31
      · have hq3 := hq2.2.2.2.1
        obtain ⟨σ4, d1, d2⟩ := dm_name hq2.2.1 (show q < 2 ^ 31 by omega)
        dsimp only
        rw [dm_key hq2.2.1 (show q < 2 ^ 31 by omega), Option.bind_some, if_pos rfl, d1, Option.bind_some]
        exact pd_node (w := w) (w2 := w) (L := L) (hq2.dr d2 (by omega)) mf.refl bd.refl (by decide) h.2.2.2.2.2.2.1
    · rw [if_neg z2, if_pos rfl, d_gI hr, hkd]
      by_cases z3 : tc = 1
      · rw [if_pos (show lx_kd tc = 1 by rw [z3]; rfl), d_rc hr, mfr_nam h.2.1 htk z3]
        exact po_nam IA h z3 (by omega) (by omega) hn31
      · have hk : ¬ lx_kd tc = 1 := by
          unfold lx_kd
          rw [if_neg z3]
          split
          · decide
          · split <;> decide
        rw [if_neg hk, d_rc hr, tb_idA]
        exact po_simple h hn31 z3 z1 z2
end EX
