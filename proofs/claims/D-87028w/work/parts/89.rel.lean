/-! LEVEL B2: expressions of both sides: equal, related -/
set_option maxRecDepth 100000
theorem pe_id {α β : Type} {X : Option (α × β)} : (X.bind fun p => some (p.1, p.2)) = X := by
  cases X <;> rfl
section EX
variable {g : State} {P r L S n C1 C2 : Nat} {f : Nat → Nat} {w : ch_W} {σ : ch_S} {fr op : Nat}
theorem vt_nm {g : State} {r L P : Nat} {w : ch_W} {σ : ch_S} {a a1 lo nd1 : Nat} (h1 : vt g r L P w σ a1 lo nd1) (q1 : ow r L P w a) (q2 : P ≤ a) (q3 : ch_tg w a = 11) (q4 : nd1 + 1 < nn σ fX3_nodes) (q5 : nn σ fX3_nodes ≤ 1500) (q6 : ch_gr w a fX10_left = some a1) (q8 : σ.2 fX3_one (nd1 + 1) = Int32.ofNat nd1) (q10 : v_nm g L w σ a (nd1 + 1)) : vt g r L P w σ a lo (nd1 + 1) := by
  have e1 : lo ≤ nd1 := by rw [vt] at h1; exact h1.2.2.2.1
  rw [vt]
  exact ⟨q1, q2, q3, by omega, q4, q5, Or.inr (Or.inr (Or.inl ⟨q10, a1, q6, by omega, by rw [Nat.add_sub_cancel]; exact q8, by rw [Nat.add_sub_cancel]; exact h1⟩))⟩
/-- a value with a left side and a name, and its node -/
theorem pj_nmv {u s : Int} {w3 : ch_W} {σ3 : ch_S} {tc3 fr3 tt3 a1 nd1 i j : Nat} {t : List Nat} {kd is : Int32} (hA : pjA L n C1 C2 w σ fr) (h : pj g P r L S n f C1 C2 w3 σ3 tc3 fr3 tt3 op op fr3) (hp : pr g P r L u s w σ fr w3 σ3 fr3) (hu : 3 ≤ u) (hs : 1 ≤ s) (hlt : fr < fr3) (ht : vt g r L P w3 σ3 a1 (nn σ fX3_nodes) nd1) (hn : nd1 + 1 = nn σ3 fX3_nodes) (hi : i < 3000) (hj : j < 1600) (hci : cn g w3 L i t) (hmj : mn σ3 j t) (hk : (kd = 10 ∧ is = 6) ∨ (kd = 13 ∧ is = 10) ∨ (kd = 14 ∧ is = 11)) :
    ∃ w4 σ4, c_X4_joined kd (Int32.ofNat i) (some a1) none w3 = some (some (ch_nx w3), w4) ∧ m_X3_node is (Int32.ofNat nd1) 0 (Int32.ofNat j) σ3 = some (Int32.ofNat (nd1 + 1), σ4) ∧ vQ g P r L S n f C1 C2 op w σ fr (some (ch_nx w3)) w4 (Int32.ofNat (nd1 + 1)) σ4 ∧ nd1 + 1 < nn σ4 fX3_nodes ∧ pj g P r L S n f C1 C2 w4 σ4 tc3 fr3 tt3 op op fr3 ∧ pr g P r L (-1) (-1) w3 σ3 fr3 w4 σ4 fr3 := by
  obtain ⟨z1, z2, z3, z4, z5, z6, z7, z8⟩ := id h.2.2
  obtain ⟨-, -, -, -, -, -, -, -, -, -, A, k0, cap, E, T, c11, c12, c13⟩ := id h.1
  have hcap : cpN w3 L = cap := by unfold cpN; rw [c11.1.2.1]; exact c11.1.2.2.2.1
  have hcapb : cap ≤ 2 * k0 + 10 := c11.1.2.2.2.2.2.1
  have hn3 := h.2.1.2.2.2.2.1
  have hfn := h.1.2.2.2.2.2.2.1.2.2.2.2.1
  have hff := h.1.2.2.2.2.2.2.1.2.2.2.1
  obtain ⟨w4, j1, j2⟩ := lc_joined (k := kd) (x := Int32.ofNat i) (lf := some a1) (rt := none) (w := w3) (by omega) (by omega)
  have hnn : nn σ3 fX3_nodes = nd1 + 1 := hn.symm
  have hnd : σ3.1 fX3_nodes = Int32.ofNat (nd1 + 1) := by rw [← hnn]; exact h.2.1.2.2.2.2.2.2.1
  obtain ⟨c1, c2, c3, c4, c5⟩ := pj_vn (k := is) (a := Int32.ofNat nd1) (b := 0) (c := Int32.ofNat j) h j2 hnn (by omega)
  have hnode := ms_node (σ := σ3) (k := is) (a := Int32.ofNat nd1) (b := 0) (c := Int32.ofNat j) hnd (by omega)
  obtain ⟨v1, v2, v3, v4, v5, v6, v7, v8, v9⟩ := j2
  obtain ⟨f1, f2, f3, f4⟩ := md_node_at (σ := σ3) (k := is) (a := Int32.ofNat nd1) (b := 0) (c := Int32.ofNat j) (nd := nd1 + 1)
  have hn4 : nn (md_node σ3 (nd1 + 1) is (Int32.ofNat nd1) 0 (Int32.ofNat j)) fX3_nodes = nd1 + 2 := nn_node (by omega)
  have hl4 : nn (md_node σ3 (nd1 + 1) is (Int32.ofNat nd1) 0 (Int32.ofNat j)) fX3_listed = nn σ3 fX3_listed := nn_fr md_node_fr (by decide)
  have k1 := vt.keep c3.1 c3.2.1 (by omega) (by omega) (nd1 + 1) a1 _ _ (by omega) ht
  have hp2 := hp.trans c3
  have hpg := pg.mk hA c1 c2 hp2 (by omega) (by omega) hlt
  refine ⟨w4, _, j1, hnode, ⟨ch_nx w3, nd1 + 1, rfl, rfl, by omega, vt_nm k1 c4 c5 v3 (by omega) (by omega) v7 f2 ⟨by rw [v4, f1]; exact hk, i, j, t, v5, hi, f4, hj, c3.1.2.2 i t hci, c3.2.1.2.2.2.2.2.2.2.2.2 j t hmj⟩, hpg⟩, by omega, ?_, c3⟩
  have hn9 : fr3 ≤ n := by omega
  exact ⟨c1, c2, hA.step hp2.2.2 (by omega) (by omega) hn9 hp2.2.1.2.2.2.2.1⟩
/-- a word, a name behind it, and what they make -/
theorem po_isas {w1 : ch_W} {σ1 : ch_S} {tc1 fr1 tt1 a1 nd1 : Nat} {kd is : Int32} (hA : pjA L n C1 C2 w σ fr) (h : pj g P r L S n f C1 C2 w1 σ1 tc1 fr1 tt1 op op fr1) (h0 : tc1 ≠ 0) (hpr : pr g P r L 2 0 w σ fr w1 σ1 fr1) (hlt : fr < fr1) (ht : vt g r L P w1 σ1 a1 (nn σ fX3_nodes) nd1) (hn : nd1 + 1 = nn σ1 fX3_nodes) (hn31 : n < 2 ^ 31) (hk : (kd = 10 ∧ is = 6) ∨ (kd = 13 ∧ is = 10) ∨ (kd = 14 ∧ is = 11)) :
    po P n C1 C2 0 w σ fr (ch_tb (c_X4_next g r w1) (fun a w => (Except.error a, w)) (fun _ w6 => (ch_rc w6 (some r) 5).bind fun _ => ch_tb (c_X4_nextName g r w6) (fun a w => (Except.error a, w)) (fun v8 w9 => (c_X4_joined kd v8 (some a1) none w9).bind fun p10 => some (Except.ok p10.1, p10.2)))) ((m_X3_next σ1).bind fun p3 => (m_X3_name p3).bind fun p5 => m_X3_node is (Int32.ofNat nd1) 0 p5.1 p5.2) (fun x w' y σ' => vQ g P r L S n f C1 C2 op w σ fr x w' y σ' ∧ nd1 + 1 < nn σ' fX3_nodes) := by
  have htk := h.1.2.2.2.2.2.2.1.2.2.2
  rw [o_split 0]
  refine po.tb2 (po_next h h0 (Nat.le_refl _) htk.1) hpr.1 (fun _ w2 b σ2 q => ?_) (fun b σ2 q hq2 => ?_)
  · obtain ⟨rfl, ⟨tc2, fr2, tt2, q1, q2, q3⟩, q4⟩ := q
    rw [d_rc q1.1.2.2.2.2.2.2.1.1.1]
    have hnn : nn σ2 fX3_nodes = nn σ1 fX3_nodes := nn_fr q4 (by decide)
    have hp2 := hpr.trans q2
    refine po.tb2 (po_name q1) hp2.1 (fun x w3 y σ3 z => ?_) (fun b σ3 q hq2 => pd_node hq2 hp2.2.1 hp2.2.2 (by decide) hA.2.2.2.2.1)
    obtain ⟨y1, ⟨i, j, rfl, y2, rfl, y3, y4, y5⟩, ⟨tc3, fr3, tt3, y6, y7, y8⟩, y9⟩ := z
    have hn3 : nn σ3 fX3_nodes = nn σ2 fX3_nodes := nn_fr y9 (by decide)
    have hll : nn σ3 fX3_listed ≤ 1500 := by have := y6.2.2.2.2.2.2.2.1; omega
    have hnb : nn σ3 fX3_nodes ≤ 1500 := by have := y6.2.2.2.2.2.2.1; omega
    have ht3 := vt.keep (q2.1.trans y7.1) (q2.2.1.trans y7.2.1) hnb hll (nd1 + 1) a1 _ _ (by omega) ht
    obtain ⟨w4, σ4, x1, x2, x3, x4, -⟩ := pj_nmv (kd := kd) (is := is) hA y6 (hp2.trans y7) (by decide) (by decide) (by omega) ht3 (by omega) y2 y3 y4 y5 hk
    refine Or.inl ⟨_, w4, _, σ4, ?_, x2, x3, x4⟩
    rw [x1]; rfl
  · have hq3 := hq2.2.2.2.1
    obtain ⟨σ3, d1, d2⟩ := dm_name hq2.2.1 (show q < 2 ^ 31 by omega)
    have hpd := hq2.dr d2 (by omega)
    show ∃ p, ((m_X3_name σ2).bind _) = some p ∧ _
    rw [d1, Option.bind_some]
    exact pd_node hpd hpr.2.1 hpr.2.2 (by decide) hA.2.2.2.2.1
/-- EQUAL -/
theorem st_eq {d : Nat} (IH : ∀ d', VP g P r L S n f C1 C2 3 6 4 10 d d') (hn31 : n < 2 ^ 31) : ∀ d', VP g P r L S n f C1 C2 2 7 2 12 (d + 1) d' := by
  intro d' w σ tc fr tt op h hd hd'
  obtain ⟨e, rfl⟩ : ∃ e, d' = e + 2 := ⟨d' - 2, by omega⟩
  show po P n C1 C2 0 w σ fr (c_X4_equaled (cr_PA g d) g r w) (m_X3_equal (cr_ME (e + 1)) σ) _
  unfold c_X4_equaled m_X3_equal
  rw [d_rc h.1.2.2.2.2.2.2.1.1.1]
  refine po.tb (IH (e + 1) w σ tc fr tt op h (by omega) (by omega)) (fun x w1 y σ1 q => ?_) (fun b σ1 q hq => ?_)
  · obtain ⟨a1, nd1, rfl, rfl, q1, q2, tc1, fr1, tt1, q3, q4, q5⟩ := q
    have htk := q3.1.2.2.2.2.2.2.1.2.2.2
    have hr := q3.1.2.2.2.2.2.2.1.1.1
    have s1 : m_X3_isSign 317 σ1 = _ := ms_sign (c := 317) q3.2.1 htk (by decide)
    have s2 : m_X3_isSign 289 σ1 = _ := ms_sign (c := 289) q3.2.1 htk (by decide)
    have hdm : ∀ (σ : ch_S) (q : Nat), dk σ q → q < 2 ^ 31 → ∃ σ', cr_ME e 4 0 0 0 σ = some (-1, σ') ∧ dr q σ σ' := by
      intro σ q z1 z2
      have := dm_4 (d := e - 6) z1 z2
      rw [show e - 6 + 6 = e by omega] at this
      exact this
    dsimp only
    rw [d_rc hr, it_291 q3.1.2.2.2.2.2.2.1 q3.1.1, Option.bind_some, s1, Option.bind_some]
    by_cases z1 : tc1 = 1317
    · rw [if_pos z1, if_neg (by decide), if_neg (by decide)]
      unfold c_X4_equaled_25 m_X3_equal_25
      rw [lc_byte q3 (by omega) (lx_b2 (c := 61) htk z1 (by decide)) (by decide), d_rc hr, pe_id, msg_317 q3.2.1 z1]
      exact (po_sgn (IH e) hdm h.2.2 q3 (by omega) q4 q5 q2 q1 (by omega) (by omega) hn31 (fun w' σ' a m y1 y2 y3 y4 => Or.inr (Or.inr (Or.inr ⟨y1, y3, by rw [y2, y4]; exact Or.inl ⟨rfl, rfl⟩⟩)))).mono (Int.le_refl _) (fun _ _ _ _ y => y.1)
    · rw [if_neg z1, if_pos rfl, if_pos rfl, d_rc hr, it_293 q3.1.2.2.2.2.2.2.1 q3.1.1, Option.bind_some, s2, Option.bind_some]
      by_cases z2 : tc1 = 1289
      · rw [if_pos z2, if_neg (by decide), if_neg (by decide)]
        unfold c_X4_equaled_25 m_X3_equal_25
        rw [lc_byte q3 (by omega) (lx_b2 (c := 33) htk z2 (by decide)) (by decide), d_rc hr, pe_id, msg_289 q3.2.1 z2]
        exact (po_sgn (IH e) hdm h.2.2 q3 (by omega) q4 q5 q2 q1 (by omega) (by omega) hn31 (fun w' σ' a m y1 y2 y3 y4 => Or.inr (Or.inr (Or.inr ⟨y1, y3, by rw [y2, y4]; exact Or.inr (Or.inl ⟨rfl, rfl⟩)⟩)))).mono (Int.le_refl _) (fun _ _ _ _ y => y.1)
      · rw [if_neg z2, if_pos rfl, if_pos rfl]
        exact Or.inl ⟨some a1, w1, Int32.ofNat nd1, σ1, rfl, rfl, a1, nd1, rfl, rfl, q1, q2, tc1, fr1, tt1, q3, q4, q5⟩
  · have hq2 := hq.2.2.2.1
    refine ⟨(b, σ1), ?_, hq⟩
    show (m_X3_isSign 317 σ1).bind _ = _
    rw [dm_sign hq.2.1 (by omega), Option.bind_some, if_pos rfl, dm_sign hq.2.1 (by omega), Option.bind_some, if_pos rfl]
/-- RELATED -/
theorem st_rel {d : Nat} (IH : ∀ d', VP g P r L S n f C1 C2 4 5 5 8 d d') (hn31 : n < 2 ^ 31) : ∀ d', VP g P r L S n f C1 C2 3 6 4 10 (d + 1) d' := by
  intro d' w σ tc fr tt op h hd hd'
  obtain ⟨e, rfl⟩ : ∃ e, d' = e + 2 := ⟨d' - 2, by omega⟩
  show po P n C1 C2 0 w σ fr (c_X4_related (cr_PA g d) g r w) (m_X3_related (cr_ME (e + 1)) σ) _
  unfold c_X4_related m_X3_related
  rw [d_rc h.1.2.2.2.2.2.2.1.1.1]
  refine po.tb (IH (e + 1) w σ tc fr tt op h (by omega) (by omega)) (fun x w1 y σ1 q => ?_) (fun b σ1 q hq => ?_)
  · obtain ⟨a1, nd1, rfl, rfl, q1, q2, tc1, fr1, tt1, q3, q4, q5⟩ := q
    have htk := q3.1.2.2.2.2.2.2.1.2.2.2
    have hr := q3.1.2.2.2.2.2.2.1.1.1
    have s1 : m_X3_isSign 60 σ1 = _ := ms_sign (c := 60) q3.2.1 htk (by decide)
    have s2 : m_X3_isSign 316 σ1 = _ := ms_sign (c := 316) q3.2.1 htk (by decide)
    have s3 : m_X3_isKey 21 σ1 = _ := ms_key (c := 21) q3.2.1 htk (by decide) (by decide)
    have hdm : ∀ (σ : ch_S) (q : Nat), dk σ q → q < 2 ^ 31 → ∃ σ', cr_ME e 5 0 0 0 σ = some (-1, σ') ∧ dr q σ σ' := by
      intro σ q z1 z2
      have := dm_5 (d := e - 5) z1 z2
      rw [show e - 5 + 5 = e by omega] at this
      exact this
    have i1 := it_298 q3.1.2.2.2.2.2.2.1 q3.1.1
    dsimp only
    rw [d_rc hr, i1, Option.bind_some, s1, Option.bind_some]
    by_cases z1 : tc1 = 1060
    · rw [if_pos z1, if_neg (by decide), if_neg (by decide)]
      unfold c_X4_related_25 m_X3_related_24
      rw [d_rc hr, i1, Option.bind_some, if_pos z1, if_neg (by decide)]
      unfold c_X4_related_42
      rw [d_rc hr, pe_id, msg_60 q3.2.1 z1]
      exact (po_sgn (IH e) hdm h.2.2 q3 (by omega) q4 q5 q2 q1 (by omega) (by omega) hn31 (fun w' σ' a m y1 y2 y3 y4 => Or.inr (Or.inr (Or.inr ⟨y1, y3, by rw [y2, y4]; exact Or.inr (Or.inr (Or.inl ⟨rfl, rfl⟩))⟩)))).mono (Int.le_refl _) (fun _ _ _ _ y => y.1)
    · rw [if_neg z1, if_pos rfl, if_pos rfl, d_rc hr, it_300 q3.1.2.2.2.2.2.2.1 q3.1.1, Option.bind_some, s2, Option.bind_some]
      by_cases z2 : tc1 = 1316
      · rw [if_pos z2, if_neg (by decide), if_neg (by decide)]
        unfold c_X4_related_25 m_X3_related_24
        rw [d_rc hr, i1, Option.bind_some, if_neg z1, if_pos rfl]
        unfold c_X4_related_42
        rw [d_rc hr, pe_id, msg_316 q3.2.1 z2]
        exact (po_sgn (IH e) hdm h.2.2 q3 (by omega) q4 q5 q2 q1 (by omega) (by omega) hn31 (fun w' σ' a m y1 y2 y3 y4 => Or.inr (Or.inr (Or.inr ⟨y1, y3, by rw [y2, y4]; exact Or.inr (Or.inr (Or.inr (Or.inl ⟨rfl, rfl⟩)))⟩)))).mono (Int.le_refl _) (fun _ _ _ _ y => y.1)
      · rw [if_neg z2, if_pos rfl, if_pos rfl, d_rc hr, it_302 q3.1.2.2.2.2.2.2.1 q3.1.1, Option.bind_some, s3, Option.bind_some]
        by_cases z3 : tc1 = 2021
        · rw [if_pos z3, if_neg (by decide), if_neg (by decide), d_rc hr]
          simp only [pe_id]
          exact (po_isas h.2.2 q3 (by omega) q4 q5 q2 q1 hn31 (Or.inr (Or.inr ⟨rfl, rfl⟩))).mono (Int.le_refl _) (fun _ _ _ _ y => y.1)
        · rw [if_neg z3, if_pos rfl, if_pos rfl]
          exact Or.inl ⟨some a1, w1, Int32.ofNat nd1, σ1, rfl, rfl, a1, nd1, rfl, rfl, q1, q2, tc1, fr1, tt1, q3, q4, q5⟩
  · have hq2 := hq.2.2.2.1
    refine ⟨(b, σ1), ?_, hq⟩
    show (m_X3_isSign 60 σ1).bind _ = _
    rw [dm_sign hq.2.1 (by omega), Option.bind_some, if_pos rfl, dm_sign hq.2.1 (by omega), Option.bind_some, if_pos rfl, dm_key hq.2.1 (by omega), Option.bind_some, if_pos rfl]
end EX
