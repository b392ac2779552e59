/-! LEVEL B2: expressions of both sides: or, and (printed by tools/mkor.py) -/
set_option maxRecDepth 100000
section EX
variable {g : State} {P r L S n C1 C2 : Nat} {f : Nat → Nat} {w : ch_W} {σ : ch_S} {fr op : Nat}
/-- value and expression: the loop -/
theorem lp_or {d d' : Nat} (IH : VP g P r L S n f C1 C2 1 8 1 13 d d') (hd : 9 * (30 - op) + 8 ≤ d) (hd' : 14 * (30 - op) + 13 ≤ d') (hd8 : 14 ≤ d' + 2) (hA : pjA L n C1 C2 w σ fr) (hn31 : n < 2 ^ 31) : ∀ (N : Nat) (w1 : ch_W) (σ1 : ch_S) (tc1 fr1 tt1 a1 nd1 : Nat), 1500 - nd1 ≤ N → pj g P r L S n f C1 C2 w1 σ1 tc1 fr1 tt1 op op fr1 → pr g P r L 2 0 w σ fr w1 σ1 fr1 → fr < fr1 → vt g r L P w1 σ1 a1 (nn σ fX3_nodes) nd1 → nd1 + 1 = nn σ1 fX3_nodes →
    po P n C1 C2 0 w σ fr (ch_loop (fun (s : (Option Nat) × ch_W) => c_X4_value_5 (cr_PA g d) g r s.1 s.2) (some a1, w1)) (ch_loop (fun (s : Int32 × ch_S) => m_X3_expression_5 (cr_ME d') s.1 s.2) (Int32.ofNat nd1, σ1)) (vQ g P r L S n f C1 C2 op w σ fr) := by
  have stuck : ∀ (b : Int32) (σ1 : ch_S) (q : Nat), pd n 0 σ fr σ1 q → ∃ p, ch_loop (fun (s : Int32 × ch_S) => m_X3_expression_5 (cr_ME d') s.1 s.2) (b, σ1) = some p ∧ pd n 0 σ fr p.2 q := by
    intro b σ1 q hq
    refine ⟨(b, σ1), ch_loop_inr ?_, hq⟩
    show m_X3_expression_5 (cr_ME d') b σ1 = _
    unfold m_X3_expression_5
    have hq2 := hq.2.2.2.1
    rw [dm_sign hq.2.1 (by omega), Option.bind_some, if_pos rfl]
  have eC : ∀ (x : Option Nat) (w1 : ch_W) (σ1 : ch_S) (tc1 fr1 tt1 : Nat), pj g P r L S n f C1 C2 w1 σ1 tc1 fr1 tt1 op op fr1 → c_X4_value_5 (cr_PA g d) g r x w1 = if tc1 = 1380 then (ch_tb (c_X4_next g r w1) (fun a w => Sum.inr (Except.error a, w)) fun _ w6 => (ch_rc w6 (some r) 5).bind fun _ => ch_tb (cr_PA g d 1 r w6) (fun a w => Sum.inr (Except.error a, w)) fun v8 w9 => (c_X4_joined 17 0 x v8 w9).bind fun p10 => some (Sum.inl (p10.1, p10.2))) else some (Sum.inr (Except.ok x, w1)) := by
    intro x w1 σ1 tc1 fr1 tt1 h
    unfold c_X4_value_5
    rw [d_rc h.1.2.2.2.2.2.2.1.1.1, it_277 h.1.2.2.2.2.2.2.1 h.1.1, Option.bind_some]
    by_cases hq : tc1 = 1380
    · rw [if_pos hq, if_neg (by decide), if_pos hq, d_rc h.1.2.2.2.2.2.2.1.1.1]
    · rw [if_neg hq, if_pos rfl, if_neg hq]
  have eM : ∀ (x : Int32) (w1 : ch_W) (σ1 : ch_S) (tc1 fr1 tt1 : Nat), pj g P r L S n f C1 C2 w1 σ1 tc1 fr1 tt1 op op fr1 → m_X3_expression_5 (cr_ME d') x σ1 = if tc1 = 1380 then ((m_X3_next σ1).bind fun p3 => (cr_ME d' 1 0 0 0 p3).bind fun p5 => (m_X3_node 17 x p5.1 0 p5.2).bind fun p7 => some (Sum.inl (p7.1, p7.2))) else some (Sum.inr (x, σ1)) := by
    intro x w1 σ1 tc1 fr1 tt1 h
    have hs : m_X3_isSign 380 σ1 = _ := ms_sign (c := 380) h.2.1 h.1.2.2.2.2.2.2.1.2.2.2 (by decide)
    unfold m_X3_expression_5
    rw [hs, Option.bind_some]
    by_cases hq : tc1 = 1380
    · rw [if_pos hq, if_neg (by decide), if_pos hq]
    · rw [if_neg hq, if_pos rfl, if_neg hq]
  generalize hBC : (fun (s : (Option Nat) × ch_W) => c_X4_value_5 (cr_PA g d) g r s.1 s.2) = BC
  generalize hBM : (fun (s : Int32 × ch_S) => m_X3_expression_5 (cr_ME d') s.1 s.2) = BM at stuck
  intro N
  induction N with
  | zero =>
    intro w1 σ1 tc1 fr1 tt1 a1 nd1 hN h hpr hlt ht hn
    have := h.2.2.2.2.2.2.1
    omega
  | succ N ih =>
    intro w1 σ1 tc1 fr1 tt1 a1 nd1 hN h hpr hlt ht hn
    rw [lp_eq, lp_eq]
    have htk := h.1.2.2.2.2.2.2.1.2.2.2
    have e1 : BC (some a1, w1) = c_X4_value_5 (cr_PA g d) g r (some a1) w1 := by rw [← hBC]
    have e2 : BM (Int32.ofNat nd1, σ1) = m_X3_expression_5 (cr_ME d') (Int32.ofNat nd1) σ1 := by rw [← hBM]
    rw [e1, e2, eC (some a1) w1 σ1 tc1 fr1 tt1 h, eM (Int32.ofNat nd1) w1 σ1 tc1 fr1 tt1 h]
    by_cases hq : tc1 = 1380
    · rw [if_pos hq, if_pos hq, tb_lp]
      have e3 : (fun (_ : Unit) (w6 : ch_W) => ((ch_rc w6 (some r) 5).bind fun _ => ch_tb (cr_PA g d 1 r w6) (fun a w => Sum.inr (Except.error a, w)) fun v8 w9 => (c_X4_joined 17 0 (some a1) v8 w9).bind fun p10 => some (Sum.inl (p10.1, p10.2))).bind (lpc BC)) = fun _ w6 => (ch_rc w6 (some r) 5).bind fun _ => ch_tb (ch_tb (cr_PA g d 1 r w6) (fun a w => (Except.error a, w)) (fun v8 w9 => (c_X4_joined 17 0 (some a1) v8 w9).bind fun p10 => some (Except.ok p10.1, p10.2))) (fun a w => (Except.error a, w)) (fun v w => ch_loop BC (v, w)) := by
        funext _ w6
        cases ch_rc w6 (some r) 5 with
        | none => rfl
        | some z =>
          rw [Option.bind_some, Option.bind_some, tb_lp, ← tb_j]
          congr 1
          funext v8 w9
          cases c_X4_joined 17 0 (some a1) v8 w9 <;> rfl
      have e4 : (((m_X3_next σ1).bind fun p3 => (cr_ME d' 1 0 0 0 p3).bind fun p5 => (m_X3_node 17 (Int32.ofNat nd1) p5.1 0 p5.2).bind fun p7 => some (Sum.inl (p7.1, p7.2))).bind (lpc BM)) = ((m_X3_next σ1).bind fun p => some ((0 : Int32), p)).bind fun p3 => ((cr_ME d' 1 0 0 0 p3.2).bind fun p5 => m_X3_node 17 (Int32.ofNat nd1) p5.1 0 p5.2).bind fun p7 => ch_loop BM p7 := by
        cases m_X3_next σ1 with
        | none => rfl
        | some p3 =>
          rw [Option.bind_some, Option.bind_some, Option.bind_some]
          cases cr_ME d' 1 0 0 0 p3 with
          | none => rfl
          | some p5 =>
            rw [Option.bind_some, Option.bind_some]
            cases m_X3_node 17 (Int32.ofNat nd1) p5.1 0 p5.2 <;> rfl
      rw [e3, e4]
      refine po.tb2 (po_next h (by omega) (Nat.le_refl _) htk.1) hpr.1 (fun _ w2 b σ2 q => ?_) (fun b σ2 q hq2 => ?_)
      · obtain ⟨rfl, ⟨tc2, fr2, tt2, q1, q2, q3⟩, q4⟩ := q
        rw [d_rc q1.1.2.2.2.2.2.2.1.1.1]
        have hnn : nn σ2 fX3_nodes = nn σ1 fX3_nodes := nn_fr q4 (by decide)
        have hll : nn σ2 fX3_listed ≤ 1500 := by have := q1.2.2.2.2.2.2.2.1; omega
        have hnb : nn σ2 fX3_nodes ≤ 1500 := by have := q1.2.2.2.2.2.2.1; omega
        have ht2 := vt.keep q2.1 q2.2.1 hnb hll (nd1 + 1) a1 _ _ (by omega) ht
        refine po.tb (po_bin IH (u := 2 + 4) (s := 0 + 1) hA q1 (hpr.trans q2) (by decide) (by decide) (by omega) ht2 (hn.trans hnn.symm) hd hd' (fun w' σ' a m z1 z2 z3 z4 => ?_)) (fun x w3 y σ3 z => ?_) stuck
        · exact Or.inr (Or.inr (Or.inl ⟨z1, z3⟩))
        · obtain ⟨⟨a3, nd3, rfl, rfl, z1, z2, tc3, fr3, tt3, z3, z4, z5⟩, z6⟩ := z
          exact ih w3 σ3 tc3 fr3 tt3 a3 nd3 (by omega) z3 z4 z5 z2 z1
      · have hq3 := hq2.2.2.2.1
        obtain ⟨σ3, d1, d2⟩ := dm_1 (d := d' - 8) hq2.2.1 (show q < 2 ^ 31 by omega)
        rw [show d' - 8 + 8 = d' by omega] at d1
        have hpd := hq2.dr d2 (by omega)
        obtain ⟨p, p1, p2⟩ := pd_node (k := 17) (a := Int32.ofNat nd1) (b := -1) (c := 0) hpd hpr.2.1 hpr.2.2 (by decide) hA.2.2.2.2.1
        show ∃ p, ((cr_ME d' 1 0 0 0 σ2).bind _).bind _ = some p ∧ _
        rw [d1, Option.bind_some, p1, Option.bind_some]
        exact stuck p.1 p.2 q p2
    · rw [if_neg hq, if_neg hq]
      exact Or.inl ⟨some a1, w1, Int32.ofNat nd1, σ1, rfl, rfl, a1, nd1, rfl, rfl, hn, ht, tc1, fr1, tt1, h, hpr, hlt⟩
theorem st_or {d : Nat} (IH : ∀ d', VP g P r L S n f C1 C2 1 8 1 13 d d') (hn31 : n < 2 ^ 31) : ∀ d', VP g P r L S n f C1 C2 0 (8 + 1) 0 (13 + 1) (d + 1) d' := by
  intro d' w σ tc fr tt op h hd hd'
  obtain ⟨e, rfl⟩ : ∃ e, d' = e + 1 := ⟨d' - 1, by omega⟩
  show po P n C1 C2 0 w σ fr (c_X4_value (cr_PA g d) g r w) (m_X3_expression (cr_ME e) σ) _
  unfold c_X4_value m_X3_expression
  rw [d_rc h.1.2.2.2.2.2.2.1.1.1]
  refine po.tb (IH e w σ tc fr tt op h (by omega) (by omega)) (fun x w1 y σ1 q => ?_) (fun b σ1 q hq => ?_)
  · obtain ⟨a1, nd1, rfl, rfl, q1, q2, tc1, fr1, tt1, q3, q4, q5⟩ := q
    exact lp_or (IH e) (by omega) (by omega) (by omega) h.2.2 hn31 1500 w1 σ1 tc1 fr1 tt1 a1 nd1 (by omega) q3 q4 q5 q2 q1
  · refine ⟨(b, σ1), ch_loop_inr ?_, hq⟩
    show m_X3_expression_5 (cr_ME e) b σ1 = _
    unfold m_X3_expression_5
    have hq2 := hq.2.2.2.1
    rw [dm_sign hq.2.1 (by omega), Option.bind_some, if_pos rfl]
/-- anded and both: the loop -/
theorem lp_and {d d' : Nat} (IH : VP g P r L S n f C1 C2 2 7 2 12 d d') (hd : 9 * (30 - op) + 7 ≤ d) (hd' : 14 * (30 - op) + 12 ≤ d') (hd8 : 14 ≤ d' + 2) (hA : pjA L n C1 C2 w σ fr) (hn31 : n < 2 ^ 31) : ∀ (N : Nat) (w1 : ch_W) (σ1 : ch_S) (tc1 fr1 tt1 a1 nd1 : Nat), 1500 - nd1 ≤ N → pj g P r L S n f C1 C2 w1 σ1 tc1 fr1 tt1 op op fr1 → pr g P r L 2 0 w σ fr w1 σ1 fr1 → fr < fr1 → vt g r L P w1 σ1 a1 (nn σ fX3_nodes) nd1 → nd1 + 1 = nn σ1 fX3_nodes →
    po P n C1 C2 0 w σ fr (ch_loop (fun (s : (Option Nat) × ch_W) => c_X4_anded_5 (cr_PA g d) g r s.1 s.2) (some a1, w1)) (ch_loop (fun (s : Int32 × ch_S) => m_X3_both_5 (cr_ME d') s.1 s.2) (Int32.ofNat nd1, σ1)) (vQ g P r L S n f C1 C2 op w σ fr) := by
  have stuck : ∀ (b : Int32) (σ1 : ch_S) (q : Nat), pd n 0 σ fr σ1 q → ∃ p, ch_loop (fun (s : Int32 × ch_S) => m_X3_both_5 (cr_ME d') s.1 s.2) (b, σ1) = some p ∧ pd n 0 σ fr p.2 q := by
    intro b σ1 q hq
    refine ⟨(b, σ1), ch_loop_inr ?_, hq⟩
    show m_X3_both_5 (cr_ME d') b σ1 = _
    unfold m_X3_both_5
    have hq2 := hq.2.2.2.1
    rw [dm_sign hq.2.1 (by omega), Option.bind_some, if_pos rfl]
  have eC : ∀ (x : Option Nat) (w1 : ch_W) (σ1 : ch_S) (tc1 fr1 tt1 : Nat), pj g P r L S n f C1 C2 w1 σ1 tc1 fr1 tt1 op op fr1 → c_X4_anded_5 (cr_PA g d) g r x w1 = if tc1 = 1294 then (ch_tb (c_X4_next g r w1) (fun a w => Sum.inr (Except.error a, w)) fun _ w6 => (ch_rc w6 (some r) 5).bind fun _ => ch_tb (cr_PA g d 2 r w6) (fun a w => Sum.inr (Except.error a, w)) fun v8 w9 => (c_X4_joined 16 0 x v8 w9).bind fun p10 => some (Sum.inl (p10.1, p10.2))) else some (Sum.inr (Except.ok x, w1)) := by
    intro x w1 σ1 tc1 fr1 tt1 h
    unfold c_X4_anded_5
    rw [d_rc h.1.2.2.2.2.2.2.1.1.1, it_286 h.1.2.2.2.2.2.2.1 h.1.1, Option.bind_some]
    by_cases hq : tc1 = 1294
    · rw [if_pos hq, if_neg (by decide), if_pos hq, d_rc h.1.2.2.2.2.2.2.1.1.1]
    · rw [if_neg hq, if_pos rfl, if_neg hq]
  have eM : ∀ (x : Int32) (w1 : ch_W) (σ1 : ch_S) (tc1 fr1 tt1 : Nat), pj g P r L S n f C1 C2 w1 σ1 tc1 fr1 tt1 op op fr1 → m_X3_both_5 (cr_ME d') x σ1 = if tc1 = 1294 then ((m_X3_next σ1).bind fun p3 => (cr_ME d' 2 0 0 0 p3).bind fun p5 => (m_X3_node 16 x p5.1 0 p5.2).bind fun p7 => some (Sum.inl (p7.1, p7.2))) else some (Sum.inr (x, σ1)) := by
    intro x w1 σ1 tc1 fr1 tt1 h
    have hs : m_X3_isSign 294 σ1 = _ := ms_sign (c := 294) h.2.1 h.1.2.2.2.2.2.2.1.2.2.2 (by decide)
    unfold m_X3_both_5
    rw [hs, Option.bind_some]
    by_cases hq : tc1 = 1294
    · rw [if_pos hq, if_neg (by decide), if_pos hq]
    · rw [if_neg hq, if_pos rfl, if_neg hq]
  generalize hBC : (fun (s : (Option Nat) × ch_W) => c_X4_anded_5 (cr_PA g d) g r s.1 s.2) = BC
  generalize hBM : (fun (s : Int32 × ch_S) => m_X3_both_5 (cr_ME d') s.1 s.2) = BM at stuck
  intro N
  induction N with
  | zero =>
    intro w1 σ1 tc1 fr1 tt1 a1 nd1 hN h hpr hlt ht hn
    have := h.2.2.2.2.2.2.1
    omega
  | succ N ih =>
    intro w1 σ1 tc1 fr1 tt1 a1 nd1 hN h hpr hlt ht hn
    rw [lp_eq, lp_eq]
    have htk := h.1.2.2.2.2.2.2.1.2.2.2
    have e1 : BC (some a1, w1) = c_X4_anded_5 (cr_PA g d) g r (some a1) w1 := by rw [← hBC]
    have e2 : BM (Int32.ofNat nd1, σ1) = m_X3_both_5 (cr_ME d') (Int32.ofNat nd1) σ1 := by rw [← hBM]
    rw [e1, e2, eC (some a1) w1 σ1 tc1 fr1 tt1 h, eM (Int32.ofNat nd1) w1 σ1 tc1 fr1 tt1 h]
    by_cases hq : tc1 = 1294
    · rw [if_pos hq, if_pos hq, tb_lp]
      have e3 : (fun (_ : Unit) (w6 : ch_W) => ((ch_rc w6 (some r) 5).bind fun _ => ch_tb (cr_PA g d 2 r w6) (fun a w => Sum.inr (Except.error a, w)) fun v8 w9 => (c_X4_joined 16 0 (some a1) v8 w9).bind fun p10 => some (Sum.inl (p10.1, p10.2))).bind (lpc BC)) = fun _ w6 => (ch_rc w6 (some r) 5).bind fun _ => ch_tb (ch_tb (cr_PA g d 2 r w6) (fun a w => (Except.error a, w)) (fun v8 w9 => (c_X4_joined 16 0 (some a1) v8 w9).bind fun p10 => some (Except.ok p10.1, p10.2))) (fun a w => (Except.error a, w)) (fun v w => ch_loop BC (v, w)) := by
        funext _ w6
        cases ch_rc w6 (some r) 5 with
        | none => rfl
        | some z =>
          rw [Option.bind_some, Option.bind_some, tb_lp, ← tb_j]
          congr 1
          funext v8 w9
          cases c_X4_joined 16 0 (some a1) v8 w9 <;> rfl
      have e4 : (((m_X3_next σ1).bind fun p3 => (cr_ME d' 2 0 0 0 p3).bind fun p5 => (m_X3_node 16 (Int32.ofNat nd1) p5.1 0 p5.2).bind fun p7 => some (Sum.inl (p7.1, p7.2))).bind (lpc BM)) = ((m_X3_next σ1).bind fun p => some ((0 : Int32), p)).bind fun p3 => ((cr_ME d' 2 0 0 0 p3.2).bind fun p5 => m_X3_node 16 (Int32.ofNat nd1) p5.1 0 p5.2).bind fun p7 => ch_loop BM p7 := by
        cases m_X3_next σ1 with
        | none => rfl
        | some p3 =>
          rw [Option.bind_some, Option.bind_some, Option.bind_some]
          cases cr_ME d' 2 0 0 0 p3 with
          | none => rfl
          | some p5 =>
            rw [Option.bind_some, Option.bind_some]
            cases m_X3_node 16 (Int32.ofNat nd1) p5.1 0 p5.2 <;> rfl
      rw [e3, e4]
      refine po.tb2 (po_next h (by omega) (Nat.le_refl _) htk.1) hpr.1 (fun _ w2 b σ2 q => ?_) (fun b σ2 q hq2 => ?_)
      · obtain ⟨rfl, ⟨tc2, fr2, tt2, q1, q2, q3⟩, q4⟩ := q
        rw [d_rc q1.1.2.2.2.2.2.2.1.1.1]
        have hnn : nn σ2 fX3_nodes = nn σ1 fX3_nodes := nn_fr q4 (by decide)
        have hll : nn σ2 fX3_listed ≤ 1500 := by have := q1.2.2.2.2.2.2.2.1; omega
        have hnb : nn σ2 fX3_nodes ≤ 1500 := by have := q1.2.2.2.2.2.2.1; omega
        have ht2 := vt.keep q2.1 q2.2.1 hnb hll (nd1 + 1) a1 _ _ (by omega) ht
        refine po.tb (po_bin IH (u := 2 + 4) (s := 0 + 1) hA q1 (hpr.trans q2) (by decide) (by decide) (by omega) ht2 (hn.trans hnn.symm) hd hd' (fun w' σ' a m z1 z2 z3 z4 => ?_)) (fun x w3 y σ3 z => ?_) stuck
        · exact Or.inr (Or.inl ⟨z1, z3⟩)
        · obtain ⟨⟨a3, nd3, rfl, rfl, z1, z2, tc3, fr3, tt3, z3, z4, z5⟩, z6⟩ := z
          exact ih w3 σ3 tc3 fr3 tt3 a3 nd3 (by omega) z3 z4 z5 z2 z1
      · have hq3 := hq2.2.2.2.1
        obtain ⟨σ3, d1, d2⟩ := dm_2 (d := d' - 7) hq2.2.1 (show q < 2 ^ 31 by omega)
        rw [show d' - 7 + 7 = d' by omega] at d1
        have hpd := hq2.dr d2 (by omega)
        obtain ⟨p, p1, p2⟩ := pd_node (k := 16) (a := Int32.ofNat nd1) (b := -1) (c := 0) hpd hpr.2.1 hpr.2.2 (by decide) hA.2.2.2.2.1
        show ∃ p, ((cr_ME d' 2 0 0 0 σ2).bind _).bind _ = some p ∧ _
        rw [d1, Option.bind_some, p1, Option.bind_some]
        exact stuck p.1 p.2 q p2
    · rw [if_neg hq, if_neg hq]
      exact Or.inl ⟨some a1, w1, Int32.ofNat nd1, σ1, rfl, rfl, a1, nd1, rfl, rfl, hn, ht, tc1, fr1, tt1, h, hpr, hlt⟩
theorem st_and {d : Nat} (IH : ∀ d', VP g P r L S n f C1 C2 2 7 2 12 d d') (hn31 : n < 2 ^ 31) : ∀ d', VP g P r L S n f C1 C2 1 (7 + 1) 1 (12 + 1) (d + 1) d' := by
  intro d' w σ tc fr tt op h hd hd'
  obtain ⟨e, rfl⟩ : ∃ e, d' = e + 1 := ⟨d' - 1, by omega⟩
  show po P n C1 C2 0 w σ fr (c_X4_anded (cr_PA g d) g r w) (m_X3_both (cr_ME e) σ) _
  unfold c_X4_anded m_X3_both
  rw [d_rc h.1.2.2.2.2.2.2.1.1.1]
  refine po.tb (IH e w σ tc fr tt op h (by omega) (by omega)) (fun x w1 y σ1 q => ?_) (fun b σ1 q hq => ?_)
  · obtain ⟨a1, nd1, rfl, rfl, q1, q2, tc1, fr1, tt1, q3, q4, q5⟩ := q
    exact lp_and (IH e) (by omega) (by omega) (by omega) h.2.2 hn31 1500 w1 σ1 tc1 fr1 tt1 a1 nd1 (by omega) q3 q4 q5 q2 q1
  · refine ⟨(b, σ1), ch_loop_inr ?_, hq⟩
    show m_X3_both_5 (cr_ME e) b σ1 = _
    unfold m_X3_both_5
    have hq2 := hq.2.2.2.1
    rw [dm_sign hq.2.1 (by omega), Option.bind_some, if_pos rfl]
end EX
