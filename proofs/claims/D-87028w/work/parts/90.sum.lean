/-! LEVEL B2: expressions of both sides: sum, product (printed by tools/mksum.py) -/
set_option maxRecDepth 100000
theorem tb_tb {α β γ : Type} {x : Option (Except Nat α × ch_W)} {k : α → ch_W → Option (Except Nat β × ch_W)} {K : β → ch_W → Option (Except Nat γ × ch_W)} : ch_tb (ch_tb x (fun a w => (Except.error a, w)) k) (fun a w => (Except.error a, w)) K = ch_tb x (fun a w => (Except.error a, w)) (fun v w => ch_tb (k v w) (fun a w => (Except.error a, w)) K) := by
  unfold ch_tb
  cases x with
  | none => rfl
  | some p =>
    obtain ⟨a, w⟩ := p
    cases a <;> rfl
section EX
variable {g : State} {P r L S n C1 C2 : Nat} {f : Nat → Nat} {w : ch_W} {σ : ch_S} {fr op : Nat}
/-- sum: the loop -/
theorem lp_sum {d e : Nat} (IH : VP g P r L S n f C1 C2 5 4 6 6 d e) (hd : 9 * (30 - op) + 4 ≤ d) (hd' : 14 * (30 - op) + 6 ≤ e) (hA : pjA L n C1 C2 w σ fr) (hn31 : n < 2 ^ 31) : ∀ (N : Nat) (w1 : ch_W) (σ1 : ch_S) (tc1 fr1 tt1 a1 nd1 : Nat), 1500 - nd1 ≤ N → pj g P r L S n f C1 C2 w1 σ1 tc1 fr1 tt1 op op fr1 → pr g P r L 2 0 w σ fr w1 σ1 fr1 → fr < fr1 → vt g r L P w1 σ1 a1 (nn σ fX3_nodes) nd1 → nd1 + 1 = nn σ1 fX3_nodes →
    po P n C1 C2 0 w σ fr (ch_loop (fun (s : (Option Nat) × ch_W) => c_X4_sum_5 (cr_PA g d) g r s.1 s.2) (some a1, w1)) (ch_loop (fun (s : Int32 × ch_S) => m_X3_sum_5 (cr_ME (e + 1)) s.1 s.2) (Int32.ofNat nd1, σ1)) (vQ g P r L S n f C1 C2 op w σ fr) := by
  have hdm : ∀ (σ : ch_S) (q : Nat), dk σ q → q < 2 ^ 31 → ∃ σ', cr_ME e 6 0 0 0 σ = some (-1, σ') ∧ dr q σ σ' := by
    intro σ q z1 z2
    have := dm_6 (d := e - 4) z1 z2
    rw [show e - 4 + 4 = e by omega] at this
    exact this
  have stuck : ∀ (b : Int32) (σ1 : ch_S) (q : Nat), pd n 0 σ fr σ1 q → ∃ p, ch_loop (fun (s : Int32 × ch_S) => m_X3_sum_5 (cr_ME (e + 1)) s.1 s.2) (b, σ1) = some p ∧ pd n 0 σ fr p.2 q := by
    intro b σ1 q hq
    refine ⟨(b, σ1), ch_loop_inr ?_, hq⟩
    show m_X3_sum_5 (cr_ME (e + 1)) b σ1 = _
    unfold m_X3_sum_5
    have hq2 := hq.2.2.2.1
    rw [dm_sign hq.2.1 (by omega), Option.bind_some, if_pos rfl, dm_sign hq.2.1 (by omega), Option.bind_some, if_pos rfl]
  have eC : ∀ (x : Option Nat) (w1 : ch_W) (σ1 : ch_S) (tc1 fr1 tt1 : Nat), pj g P r L S n f C1 C2 w1 σ1 tc1 fr1 tt1 op op fr1 → c_X4_sum_5 (cr_PA g d) g r x w1 = if tc1 = 1043 then (ch_tb (c_X4_next g r w1) (fun a w => Sum.inr (Except.error a, w)) fun _ w6 => (ch_rc w6 (some r) 5).bind fun _ => ch_tb (cr_PA g d 5 r w6) (fun a w => Sum.inr (Except.error a, w)) fun v8 w9 => (c_X4_joined 15 43 x v8 w9).bind fun p10 => some (Sum.inl (p10.1, p10.2))) else (if tc1 = 1045 then (ch_tb (c_X4_next g r w1) (fun a w => Sum.inr (Except.error a, w)) fun _ w6 => (ch_rc w6 (some r) 5).bind fun _ => ch_tb (cr_PA g d 5 r w6) (fun a w => Sum.inr (Except.error a, w)) fun v8 w9 => (c_X4_joined 15 45 x v8 w9).bind fun p10 => some (Sum.inl (p10.1, p10.2))) else (some (Sum.inr (Except.ok x, w1)))) := by
    intro x w1 σ1 tc1 fr1 tt1 h
    have hr := h.1.2.2.2.2.2.2.1.1.1
    have htk := h.1.2.2.2.2.2.2.1.2.2.2
    unfold c_X4_sum_5
    rw [d_rc hr, it_306 h.1.2.2.2.2.2.2.1 h.1.1, Option.bind_some]
    by_cases z0 : tc1 = 1043
    · rw [if_pos z0, if_neg (by decide), if_pos z0]
      unfold c_X4_sum_25
      rw [lc_byte h (by omega) (lx_b1 (c := 43) htk z0 (by decide)) (by decide), d_rc hr]
      rfl
    rw [if_neg z0, if_pos rfl, if_neg z0]
    rw [d_rc hr, it_308 h.1.2.2.2.2.2.2.1 h.1.1, Option.bind_some]
    by_cases z1 : tc1 = 1045
    · rw [if_pos z1, if_neg (by decide), if_pos z1]
      unfold c_X4_sum_25
      rw [lc_byte h (by omega) (lx_b1 (c := 45) htk z1 (by decide)) (by decide), d_rc hr]
      rfl
    rw [if_neg z1, if_pos rfl, if_neg z1]
  have eM : ∀ (x : Int32) (w1 : ch_W) (σ1 : ch_S) (tc1 fr1 tt1 : Nat), pj g P r L S n f C1 C2 w1 σ1 tc1 fr1 tt1 op op fr1 → m_X3_sum_5 (cr_ME (e + 1)) x σ1 = if tc1 = 1043 then (((m_X3_next σ1).bind fun p1 => (cr_ME e 6 0 0 0 p1).bind fun p => m_X3_node 15 x p.1 43 p.2).bind fun p1 => some (Sum.inl (p1.1, p1.2))) else (if tc1 = 1045 then (((m_X3_next σ1).bind fun p1 => (cr_ME e 6 0 0 0 p1).bind fun p => m_X3_node 15 x p.1 45 p.2).bind fun p1 => some (Sum.inl (p1.1, p1.2))) else (some (Sum.inr (x, σ1)))) := by
    intro x w1 σ1 tc1 fr1 tt1 h
    have htk := h.1.2.2.2.2.2.2.1.2.2.2
    unfold m_X3_sum_5
    have s0 : m_X3_isSign 43 σ1 = _ := ms_sign (c := 43) h.2.1 htk (by decide)
    rw [s0, Option.bind_some]
    by_cases z0 : tc1 = 1043
    · rw [if_pos z0, if_neg (by decide), if_pos z0]
      unfold m_X3_sum_23
      rw [msg_43 h.2.1 z0]
    rw [if_neg z0, if_pos rfl, if_neg z0]
    have s1 : m_X3_isSign 45 σ1 = _ := ms_sign (c := 45) h.2.1 htk (by decide)
    rw [s1, Option.bind_some]
    by_cases z1 : tc1 = 1045
    · rw [if_pos z1, if_neg (by decide), if_pos z1]
      unfold m_X3_sum_23
      rw [msg_45 h.2.1 z1]
    rw [if_neg z1, if_pos rfl, if_neg z1]
  generalize hBC : (fun (s : (Option Nat) × ch_W) => c_X4_sum_5 (cr_PA g d) g r s.1 s.2) = BC
  generalize hBM : (fun (s : Int32 × ch_S) => m_X3_sum_5 (cr_ME (e + 1)) s.1 s.2) = BM at stuck
  intro N
  induction N with
  | zero =>
    intro w1 σ1 tc1 fr1 tt1 a1 nd1 hN h hpr hlt ht hn
    have := h.2.2.2.2.2.2.1
    omega
  | succ N ih =>
    intro w1 σ1 tc1 fr1 tt1 a1 nd1 hN h hpr hlt ht hn
    rw [lp_eq, lp_eq]
    have htk := h.1.2.2.2.2.2.2.1.2.2.2
    have e1 : BC (some a1, w1) = c_X4_sum_5 (cr_PA g d) g r (some a1) w1 := by rw [← hBC]
    have e2 : BM (Int32.ofNat nd1, σ1) = m_X3_sum_5 (cr_ME (e + 1)) (Int32.ofNat nd1) σ1 := by rw [← hBM]
    rw [e1, e2, eC (some a1) w1 σ1 tc1 fr1 tt1 h, eM (Int32.ofNat nd1) w1 σ1 tc1 fr1 tt1 h]
    have key : ∀ c : Int32, tc1 ≠ 0 → v_sg c c → po P n C1 C2 0 w σ fr ((ch_tb (c_X4_next g r w1) (fun a w => Sum.inr (Except.error a, w)) fun _ w6 => (ch_rc w6 (some r) 5).bind fun _ => ch_tb (cr_PA g d 5 r w6) (fun a w => Sum.inr (Except.error a, w)) fun v8 w9 => (c_X4_joined 15 c (some a1) v8 w9).bind fun p10 => some (Sum.inl (p10.1, p10.2))).bind (lpc BC)) ((((m_X3_next σ1).bind fun p1 => (cr_ME e 6 0 0 0 p1).bind fun p => m_X3_node 15 (Int32.ofNat nd1) p.1 c p.2).bind fun p1 => some (Sum.inl (p1.1, p1.2))).bind (lpc BM)) (vQ g P r L S n f C1 C2 op w σ fr) := by
      intro c h0 hc
      have e3 : (ch_tb (c_X4_next g r w1) (fun a w => Sum.inr (Except.error a, w)) fun _ w6 => (ch_rc w6 (some r) 5).bind fun _ => ch_tb (cr_PA g d 5 r w6) (fun a w => Sum.inr (Except.error a, w)) fun v8 w9 => (c_X4_joined 15 c (some a1) v8 w9).bind fun p10 => some (Sum.inl (p10.1, p10.2))).bind (lpc BC) = ch_tb (ch_tb (c_X4_next g r w1) (fun a w => (Except.error a, w)) (fun _ w6 => (ch_rc w6 (some r) 5).bind fun _ => ch_tb (cr_PA g d 5 r w6) (fun a w => (Except.error a, w)) (fun v8 w9 => (c_X4_joined 15 c (some a1) v8 w9).bind fun p10 => some (Except.ok p10.1, p10.2)))) (fun a w => (Except.error a, w)) (fun v w => ch_loop BC (v, w)) := by
        rw [tb_lp, tb_tb]
        congr 1
        funext _ w6
        cases ch_rc w6 (some r) 5 with
        | none => rfl
        | some z =>
          rw [Option.bind_some, Option.bind_some, tb_lp, ← tb_j]
          congr 1
          funext v8 w9
          cases c_X4_joined 15 c (some a1) v8 w9 <;> rfl
      have e4 : ((((m_X3_next σ1).bind fun p1 => (cr_ME e 6 0 0 0 p1).bind fun p => m_X3_node 15 (Int32.ofNat nd1) p.1 c p.2).bind fun p1 => some (Sum.inl (p1.1, p1.2))).bind (lpc BM)) = ((m_X3_next σ1).bind fun p1 => (cr_ME e 6 0 0 0 p1).bind fun p => m_X3_node 15 (Int32.ofNat nd1) p.1 c p.2).bind fun p7 => ch_loop BM p7 := by
        cases ((m_X3_next σ1).bind fun p1 => (cr_ME e 6 0 0 0 p1).bind fun p => m_X3_node 15 (Int32.ofNat nd1) p.1 c p.2) <;> rfl
      rw [e3, e4]
      refine po.tb (po_sgn IH hdm hA h h0 hpr hlt ht hn hd hd' hn31 (fun w' σ' a m y1 y2 y3 y4 => Or.inr (Or.inr (Or.inr ⟨y1, y3, by rw [y2, y4]; exact hc⟩)))) (fun x w3 y σ3 z => ?_) stuck
      obtain ⟨⟨a3, nd3, rfl, rfl, z1, z2, tc3, fr3, tt3, z3, z4, z5⟩, z6⟩ := z
      exact ih w3 σ3 tc3 fr3 tt3 a3 nd3 (by omega) z3 z4 z5 z2 z1
    by_cases z0 : tc1 = 1043
    · rw [if_pos z0, if_pos z0]
      exact key 43 (by omega) (by unfold v_sg; decide)
    rw [if_neg z0, if_neg z0]
    by_cases z1 : tc1 = 1045
    · rw [if_pos z1, if_pos z1]
      exact key 45 (by omega) (by unfold v_sg; decide)
    rw [if_neg z1, if_neg z1]
    exact Or.inl ⟨some a1, w1, Int32.ofNat nd1, σ1, rfl, rfl, a1, nd1, rfl, rfl, hn, ht, tc1, fr1, tt1, h, hpr, hlt⟩
theorem st_sum {d : Nat} (IH : ∀ d', VP g P r L S n f C1 C2 5 4 6 6 d d') (hn31 : n < 2 ^ 31) : ∀ d', VP g P r L S n f C1 C2 4 (4 + 1) 5 (6 + 2) (d + 1) d' := by
  intro d' w σ tc fr tt op h hd hd'
  obtain ⟨e, rfl⟩ : ∃ e, d' = e + 2 := ⟨d' - 2, by omega⟩
  show po P n C1 C2 0 w σ fr (c_X4_sum (cr_PA g d) g r w) (m_X3_sum (cr_ME (e + 1)) σ) _
  unfold c_X4_sum m_X3_sum
  rw [d_rc h.1.2.2.2.2.2.2.1.1.1]
  refine po.tb (IH (e + 1) w σ tc fr tt op h (by omega) (by omega)) (fun x w1 y σ1 q => ?_) (fun b σ1 q hq => ?_)
  · obtain ⟨a1, nd1, rfl, rfl, q1, q2, tc1, fr1, tt1, q3, q4, q5⟩ := q
    exact lp_sum (IH e) (by omega) (by omega) h.2.2 hn31 1500 w1 σ1 tc1 fr1 tt1 a1 nd1 (by omega) q3 q4 q5 q2 q1
  · refine ⟨(b, σ1), ch_loop_inr ?_, hq⟩
    show m_X3_sum_5 (cr_ME (e + 1)) b σ1 = _
    unfold m_X3_sum_5
    have hq2 := hq.2.2.2.1
    rw [dm_sign hq.2.1 (by omega), Option.bind_some, if_pos rfl, dm_sign hq.2.1 (by omega), Option.bind_some, if_pos rfl]
/-- product: the loop -/
theorem lp_prod {d e : Nat} (IH : VP g P r L S n f C1 C2 6 3 7 4 d e) (hd : 9 * (30 - op) + 3 ≤ d) (hd' : 14 * (30 - op) + 4 ≤ e) (hA : pjA L n C1 C2 w σ fr) (hn31 : n < 2 ^ 31) : ∀ (N : Nat) (w1 : ch_W) (σ1 : ch_S) (tc1 fr1 tt1 a1 nd1 : Nat), 1500 - nd1 ≤ N → pj g P r L S n f C1 C2 w1 σ1 tc1 fr1 tt1 op op fr1 → pr g P r L 2 0 w σ fr w1 σ1 fr1 → fr < fr1 → vt g r L P w1 σ1 a1 (nn σ fX3_nodes) nd1 → nd1 + 1 = nn σ1 fX3_nodes →
    po P n C1 C2 0 w σ fr (ch_loop (fun (s : (Option Nat) × ch_W) => c_X4_product_5 (cr_PA g d) g r s.1 s.2) (some a1, w1)) (ch_loop (fun (s : Int32 × ch_S) => m_X3_product_5 (cr_ME (e + 1)) s.1 s.2) (Int32.ofNat nd1, σ1)) (vQ g P r L S n f C1 C2 op w σ fr) := by
  have hdm : ∀ (σ : ch_S) (q : Nat), dk σ q → q < 2 ^ 31 → ∃ σ', cr_ME e 7 0 0 0 σ = some (-1, σ') ∧ dr q σ σ' := by
    intro σ q z1 z2
    have := dm_7 (d := e - 3) z1 z2
    rw [show e - 3 + 3 = e by omega] at this
    exact this
  have stuck : ∀ (b : Int32) (σ1 : ch_S) (q : Nat), pd n 0 σ fr σ1 q → ∃ p, ch_loop (fun (s : Int32 × ch_S) => m_X3_product_5 (cr_ME (e + 1)) s.1 s.2) (b, σ1) = some p ∧ pd n 0 σ fr p.2 q := by
    intro b σ1 q hq
    refine ⟨(b, σ1), ch_loop_inr ?_, hq⟩
    show m_X3_product_5 (cr_ME (e + 1)) b σ1 = _
    unfold m_X3_product_5
    have hq2 := hq.2.2.2.1
    rw [dm_sign hq.2.1 (by omega), Option.bind_some, if_pos rfl, dm_sign hq.2.1 (by omega), Option.bind_some, if_pos rfl, dm_sign hq.2.1 (by omega), Option.bind_some, if_pos rfl]
  have eC : ∀ (x : Option Nat) (w1 : ch_W) (σ1 : ch_S) (tc1 fr1 tt1 : Nat), pj g P r L S n f C1 C2 w1 σ1 tc1 fr1 tt1 op op fr1 → c_X4_product_5 (cr_PA g d) g r x w1 = if tc1 = 1042 then (ch_tb (c_X4_next g r w1) (fun a w => Sum.inr (Except.error a, w)) fun _ w6 => (ch_rc w6 (some r) 5).bind fun _ => ch_tb (cr_PA g d 6 r w6) (fun a w => Sum.inr (Except.error a, w)) fun v8 w9 => (c_X4_joined 15 42 x v8 w9).bind fun p10 => some (Sum.inl (p10.1, p10.2))) else (if tc1 = 1047 then (ch_tb (c_X4_next g r w1) (fun a w => Sum.inr (Except.error a, w)) fun _ w6 => (ch_rc w6 (some r) 5).bind fun _ => ch_tb (cr_PA g d 6 r w6) (fun a w => Sum.inr (Except.error a, w)) fun v8 w9 => (c_X4_joined 15 47 x v8 w9).bind fun p10 => some (Sum.inl (p10.1, p10.2))) else (if tc1 = 1037 then (ch_tb (c_X4_next g r w1) (fun a w => Sum.inr (Except.error a, w)) fun _ w6 => (ch_rc w6 (some r) 5).bind fun _ => ch_tb (cr_PA g d 6 r w6) (fun a w => Sum.inr (Except.error a, w)) fun v8 w9 => (c_X4_joined 15 37 x v8 w9).bind fun p10 => some (Sum.inl (p10.1, p10.2))) else (some (Sum.inr (Except.ok x, w1))))) := by
    intro x w1 σ1 tc1 fr1 tt1 h
    have hr := h.1.2.2.2.2.2.2.1.1.1
    have htk := h.1.2.2.2.2.2.2.1.2.2.2
    unfold c_X4_product_5
    rw [d_rc hr, it_313 h.1.2.2.2.2.2.2.1 h.1.1, Option.bind_some]
    by_cases z0 : tc1 = 1042
    · rw [if_pos z0, if_neg (by decide), if_pos z0]
      unfold c_X4_product_35
      rw [lc_byte h (by omega) (lx_b1 (c := 42) htk z0 (by decide)) (by decide), d_rc hr]
      rfl
    rw [if_neg z0, if_pos rfl, if_neg z0]
    rw [d_rc hr, it_315 h.1.2.2.2.2.2.2.1 h.1.1, Option.bind_some]
    by_cases z1 : tc1 = 1047
    · rw [if_pos z1, if_neg (by decide), if_pos z1]
      unfold c_X4_product_35
      rw [lc_byte h (by omega) (lx_b1 (c := 47) htk z1 (by decide)) (by decide), d_rc hr]
      rfl
    rw [if_neg z1, if_pos rfl, if_neg z1]
    rw [d_rc hr, it_317 h.1.2.2.2.2.2.2.1 h.1.1, Option.bind_some]
    by_cases z2 : tc1 = 1037
    · rw [if_pos z2, if_neg (by decide), if_pos z2]
      unfold c_X4_product_35
      rw [lc_byte h (by omega) (lx_b1 (c := 37) htk z2 (by decide)) (by decide), d_rc hr]
      rfl
    rw [if_neg z2, if_pos rfl, if_neg z2]
  have eM : ∀ (x : Int32) (w1 : ch_W) (σ1 : ch_S) (tc1 fr1 tt1 : Nat), pj g P r L S n f C1 C2 w1 σ1 tc1 fr1 tt1 op op fr1 → m_X3_product_5 (cr_ME (e + 1)) x σ1 = if tc1 = 1042 then (((m_X3_next σ1).bind fun p1 => (cr_ME e 7 0 0 0 p1).bind fun p => m_X3_node 15 x p.1 42 p.2).bind fun p1 => some (Sum.inl (p1.1, p1.2))) else (if tc1 = 1047 then (((m_X3_next σ1).bind fun p1 => (cr_ME e 7 0 0 0 p1).bind fun p => m_X3_node 15 x p.1 47 p.2).bind fun p1 => some (Sum.inl (p1.1, p1.2))) else (if tc1 = 1037 then (((m_X3_next σ1).bind fun p1 => (cr_ME e 7 0 0 0 p1).bind fun p => m_X3_node 15 x p.1 37 p.2).bind fun p1 => some (Sum.inl (p1.1, p1.2))) else (some (Sum.inr (x, σ1))))) := by
    intro x w1 σ1 tc1 fr1 tt1 h
    have htk := h.1.2.2.2.2.2.2.1.2.2.2
    unfold m_X3_product_5
    have s0 : m_X3_isSign 42 σ1 = _ := ms_sign (c := 42) h.2.1 htk (by decide)
    rw [s0, Option.bind_some]
    by_cases z0 : tc1 = 1042
    · rw [if_pos z0, if_neg (by decide), if_pos z0]
      unfold m_X3_product_32
      rw [msg_42 h.2.1 z0]
    rw [if_neg z0, if_pos rfl, if_neg z0]
    have s1 : m_X3_isSign 47 σ1 = _ := ms_sign (c := 47) h.2.1 htk (by decide)
    rw [s1, Option.bind_some]
    by_cases z1 : tc1 = 1047
    · rw [if_pos z1, if_neg (by decide), if_pos z1]
      unfold m_X3_product_32
      rw [msg_47 h.2.1 z1]
    rw [if_neg z1, if_pos rfl, if_neg z1]
    have s2 : m_X3_isSign 37 σ1 = _ := ms_sign (c := 37) h.2.1 htk (by decide)
    rw [s2, Option.bind_some]
    by_cases z2 : tc1 = 1037
    · rw [if_pos z2, if_neg (by decide), if_pos z2]
      unfold m_X3_product_32
      rw [msg_37 h.2.1 z2]
    rw [if_neg z2, if_pos rfl, if_neg z2]
  generalize hBC : (fun (s : (Option Nat) × ch_W) => c_X4_product_5 (cr_PA g d) g r s.1 s.2) = BC
  generalize hBM : (fun (s : Int32 × ch_S) => m_X3_product_5 (cr_ME (e + 1)) s.1 s.2) = BM at stuck
  intro N
  induction N with
  | zero =>
    intro w1 σ1 tc1 fr1 tt1 a1 nd1 hN h hpr hlt ht hn
    have := h.2.2.2.2.2.2.1
    omega
  | succ N ih =>
    intro w1 σ1 tc1 fr1 tt1 a1 nd1 hN h hpr hlt ht hn
    rw [lp_eq, lp_eq]
    have htk := h.1.2.2.2.2.2.2.1.2.2.2
    have e1 : BC (some a1, w1) = c_X4_product_5 (cr_PA g d) g r (some a1) w1 := by rw [← hBC]
    have e2 : BM (Int32.ofNat nd1, σ1) = m_X3_product_5 (cr_ME (e + 1)) (Int32.ofNat nd1) σ1 := by rw [← hBM]
    rw [e1, e2, eC (some a1) w1 σ1 tc1 fr1 tt1 h, eM (Int32.ofNat nd1) w1 σ1 tc1 fr1 tt1 h]
    have key : ∀ c : Int32, tc1 ≠ 0 → v_sg c c → po P n C1 C2 0 w σ fr ((ch_tb (c_X4_next g r w1) (fun a w => Sum.inr (Except.error a, w)) fun _ w6 => (ch_rc w6 (some r) 5).bind fun _ => ch_tb (cr_PA g d 6 r w6) (fun a w => Sum.inr (Except.error a, w)) fun v8 w9 => (c_X4_joined 15 c (some a1) v8 w9).bind fun p10 => some (Sum.inl (p10.1, p10.2))).bind (lpc BC)) ((((m_X3_next σ1).bind fun p1 => (cr_ME e 7 0 0 0 p1).bind fun p => m_X3_node 15 (Int32.ofNat nd1) p.1 c p.2).bind fun p1 => some (Sum.inl (p1.1, p1.2))).bind (lpc BM)) (vQ g P r L S n f C1 C2 op w σ fr) := by
      intro c h0 hc
      have e3 : (ch_tb (c_X4_next g r w1) (fun a w => Sum.inr (Except.error a, w)) fun _ w6 => (ch_rc w6 (some r) 5).bind fun _ => ch_tb (cr_PA g d 6 r w6) (fun a w => Sum.inr (Except.error a, w)) fun v8 w9 => (c_X4_joined 15 c (some a1) v8 w9).bind fun p10 => some (Sum.inl (p10.1, p10.2))).bind (lpc BC) = ch_tb (ch_tb (c_X4_next g r w1) (fun a w => (Except.error a, w)) (fun _ w6 => (ch_rc w6 (some r) 5).bind fun _ => ch_tb (cr_PA g d 6 r w6) (fun a w => (Except.error a, w)) (fun v8 w9 => (c_X4_joined 15 c (some a1) v8 w9).bind fun p10 => some (Except.ok p10.1, p10.2)))) (fun a w => (Except.error a, w)) (fun v w => ch_loop BC (v, w)) := by
        rw [tb_lp, tb_tb]
        congr 1
        funext _ w6
        cases ch_rc w6 (some r) 5 with
        | none => rfl
        | some z =>
          rw [Option.bind_some, Option.bind_some, tb_lp, ← tb_j]
          congr 1
          funext v8 w9
          cases c_X4_joined 15 c (some a1) v8 w9 <;> rfl
      have e4 : ((((m_X3_next σ1).bind fun p1 => (cr_ME e 7 0 0 0 p1).bind fun p => m_X3_node 15 (Int32.ofNat nd1) p.1 c p.2).bind fun p1 => some (Sum.inl (p1.1, p1.2))).bind (lpc BM)) = ((m_X3_next σ1).bind fun p1 => (cr_ME e 7 0 0 0 p1).bind fun p => m_X3_node 15 (Int32.ofNat nd1) p.1 c p.2).bind fun p7 => ch_loop BM p7 := by
        cases ((m_X3_next σ1).bind fun p1 => (cr_ME e 7 0 0 0 p1).bind fun p => m_X3_node 15 (Int32.ofNat nd1) p.1 c p.2) <;> rfl
      rw [e3, e4]
      refine po.tb (po_sgn IH hdm hA h h0 hpr hlt ht hn hd hd' hn31 (fun w' σ' a m y1 y2 y3 y4 => Or.inr (Or.inr (Or.inr ⟨y1, y3, by rw [y2, y4]; exact hc⟩)))) (fun x w3 y σ3 z => ?_) stuck
      obtain ⟨⟨a3, nd3, rfl, rfl, z1, z2, tc3, fr3, tt3, z3, z4, z5⟩, z6⟩ := z
      exact ih w3 σ3 tc3 fr3 tt3 a3 nd3 (by omega) z3 z4 z5 z2 z1
    by_cases z0 : tc1 = 1042
    · rw [if_pos z0, if_pos z0]
      exact key 42 (by omega) (by unfold v_sg; decide)
    rw [if_neg z0, if_neg z0]
    by_cases z1 : tc1 = 1047
    · rw [if_pos z1, if_pos z1]
      exact key 47 (by omega) (by unfold v_sg; decide)
    rw [if_neg z1, if_neg z1]
    by_cases z2 : tc1 = 1037
    · rw [if_pos z2, if_pos z2]
      exact key 37 (by omega) (by unfold v_sg; decide)
    rw [if_neg z2, if_neg z2]
    exact Or.inl ⟨some a1, w1, Int32.ofNat nd1, σ1, rfl, rfl, a1, nd1, rfl, rfl, hn, ht, tc1, fr1, tt1, h, hpr, hlt⟩
theorem st_prod {d : Nat} (IH : ∀ d', VP g P r L S n f C1 C2 6 3 7 4 d d') (hn31 : n < 2 ^ 31) : ∀ d', VP g P r L S n f C1 C2 5 (3 + 1) 6 (4 + 2) (d + 1) d' := by
  intro d' w σ tc fr tt op h hd hd'
  obtain ⟨e, rfl⟩ : ∃ e, d' = e + 2 := ⟨d' - 2, by omega⟩
  show po P n C1 C2 0 w σ fr (c_X4_product (cr_PA g d) g r w) (m_X3_product (cr_ME (e + 1)) σ) _
  unfold c_X4_product m_X3_product
  rw [d_rc h.1.2.2.2.2.2.2.1.1.1]
  refine po.tb (IH (e + 1) w σ tc fr tt op h (by omega) (by omega)) (fun x w1 y σ1 q => ?_) (fun b σ1 q hq => ?_)
  · obtain ⟨a1, nd1, rfl, rfl, q1, q2, tc1, fr1, tt1, q3, q4, q5⟩ := q
    exact lp_prod (IH e) (by omega) (by omega) h.2.2 hn31 1500 w1 σ1 tc1 fr1 tt1 a1 nd1 (by omega) q3 q4 q5 q2 q1
  · refine ⟨(b, σ1), ch_loop_inr ?_, hq⟩
    show m_X3_product_5 (cr_ME (e + 1)) b σ1 = _
    unfold m_X3_product_5
    have hq2 := hq.2.2.2.1
    rw [dm_sign hq.2.1 (by omega), Option.bind_some, if_pos rfl, dm_sign hq.2.1 (by omega), Option.bind_some, if_pos rfl, dm_sign hq.2.1 (by omega), Option.bind_some, if_pos rfl]
end EX
