/-! LEVEL B2: expressions of both sides: one, whole -/
set_option maxRecDepth 100000
def cvt (x2 : Int32) (p : Except Nat (Option Nat) × ch_W) : ((Option Nat) × Int32 × ch_W) ⊕ (Except Nat (Option Nat) × ch_W) := match p.1 with
  | .ok v => .inl (v, x2, p.2)
  | .error e => .inr (.error e, p.2)
theorem tb_cvt {α : Type} {x2 : Int32} {x : Option (Except Nat α × ch_W)} {K : α → ch_W → Option (Except Nat (Option Nat) × ch_W)} : (ch_tb x (fun a w => (Except.error a, w)) K).bind (fun p => some (cvt x2 p)) = ch_tb x (fun a w => Sum.inr (Except.error a, w)) (fun v w => (K v w).bind fun p => some (cvt x2 p)) := by
  unfold ch_tb
  cases x with
  | none => rfl
  | some p =>
    obtain ⟨a, w⟩ := p
    cases a <;> rfl
theorem ite_bd {α β : Type} {c : Prop} {x : Decidable c} {a b : Option α} {F : α → Option β} : (if c then a else b).bind F = if c then a.bind F else b.bind F := by
  split <;> rfl
theorem cvt_lp {BC : (Option Nat) × Int32 × ch_W → Option (((Option Nat) × Int32 × ch_W) ⊕ (Except Nat (Option Nat) × ch_W))} {x2 : Int32} {X : Option (Except Nat (Option Nat) × ch_W)} : (X.bind fun p => some (cvt x2 p)).bind (lpc BC) = ch_tb X (fun a w => (Except.error a, w)) (fun v w => ch_loop BC (v, x2, w)) := by
  unfold ch_tb
  cases X with
  | none => rfl
  | some p =>
    obtain ⟨a, w⟩ := p
    cases a <;> rfl
section EX
variable {g : State} {P r L S n C1 C2 : Nat} {f : Nat → Nat} {w w' : ch_W} {σ : ch_S} {tc fr tt op om : Nat}
def xM (g : State) (r d : Nat) (x : Option Nat) (w1 : ch_W) : Option (Except Nat (Option Nat) × ch_W) := ch_tb (c_X4_next g r w1) (fun a w => (Except.error a, w)) fun _ w31 => (ch_rc w31 (some r) 5).bind fun _ => ch_tb (c_X4_nextName g r w31) (fun a w => (Except.error a, w)) fun v33 w34 => (c_X4_joined 10 v33 x none w34).bind fun p35 => (ch_rc p35.2 (some r) 5).bind fun _ => (c_X4_isThe g r (some (ch_sa g RX4 171)) p35.2).bind fun v38 => if v38 = 0 then some (Except.ok p35.1, p35.2) else ((ch_gI p35.2 p35.1 11 fX10_what).bind fun v40 => (ch_gR p35.2 p35.1 11 fX10_left).bind fun v41 => (c_X4_joined 11 v40 v41 none p35.2).bind fun p42 => (ch_rc p42.2 (some r) 5).bind fun _ => ch_tb (cr_PA g d 8 r p42.2) (fun a w => (Except.error a, w)) fun v45 w46 => (ch_pR w46 p42.1 11 fX10_arguments v45).bind fun w47 => some (Except.ok p42.1, w47))
def xI (g : State) (r d : Nat) (x : Option Nat) (w1 : ch_W) : Option (Except Nat (Option Nat) × ch_W) := ch_tb (c_X4_opens g r (some (ch_sa g RX4 335)) w1) (fun a w => (Except.error a, w)) fun _ w20 => (ch_rc w20 (some r) 5).bind fun _ => ch_tb (cr_PA g d 0 r w20) (fun a w => (Except.error a, w)) fun v22 w23 => (c_X4_joined 12 0 x v22 w23).bind fun p24 => (ch_rc p24.2 (some r) 5).bind fun _ => ch_tb (c_X4_closes g r (some (ch_sa g RX4 337)) p24.2) (fun a w => (Except.error a, w)) fun _ w28 => some (Except.ok p24.1, w28)
def xA (g : State) (r : Nat) (x : Option Nat) (w1 : ch_W) : Option (Except Nat (Option Nat) × ch_W) := ch_tb (c_X4_next g r w1) (fun a w => (Except.error a, w)) (fun _ w6 => (ch_rc w6 (some r) 5).bind fun _ => ch_tb (c_X4_nextName g r w6) (fun a w => (Except.error a, w)) (fun v8 w9 => (c_X4_joined 13 v8 x none w9).bind fun p10 => some (Except.ok p10.1, p10.2)))
def yM (d' : Nat) (x : Int32) (σ1 : ch_S) : Option (Int32 × ch_S) := (m_X3_next σ1).bind fun p15 => (m_X3_name p15).bind fun p17 => (m_X3_isSign 40 p17.2).bind fun v19 => if v19 = 0 then m_X3_node 6 x 0 p17.1 p17.2 else cr_ME d' 9 8 x p17.1 p17.2
def yI (d' : Nat) (x : Int32) (σ1 : ch_S) : Option (Int32 × ch_S) := (m_X3_opens 1 σ1).bind fun p11 => if p11.1 = 0 then ((m_X3_closes 93 p11.2).bind fun p1 => m_X3_node 7 x (-1) 0 p1) else (cr_ME d' 0 0 0 0 p11.2).bind fun p13 => (m_X3_closes 93 p13.2).bind fun p1 => m_X3_node 7 x p13.1 0 p1
def yA (x : Int32) (σ1 : ch_S) : Option (Int32 × ch_S) := (m_X3_next σ1).bind fun p3 => (m_X3_name p3).bind fun p5 => m_X3_node 10 x 0 p5.1 p5.2
theorem c96 {d ps : Nat} {x : Option Nat} (h : pj g P r L S n f C1 C2 w σ tc fr tt op om ps) : c_X4_one_96 (cr_PA g d) g r x 1 w = if tc = 1046 then (xM g r d x w).bind (fun p => some (cvt 1 p)) else if tc = 1091 then (xI g r d x w).bind (fun p => some (cvt 1 p)) else if tc = 2020 then (xA g r x w).bind (fun p => some (cvt 1 p)) else some (Sum.inl (x, 0, w)) := by
  have hat := h.1.2.2.2.2.2.2.1
  have hr := hat.1.1
  unfold c_X4_one_96
  rw [if_neg (show ¬ (1 : Int32) = 0 by decide), d_rc hr, it_323 hat h.1.1, Option.bind_some]
  by_cases z1 : tc = 1046
  · rw [if_pos z1, if_neg (show ¬ (1 : Int32) = 0 by decide), if_pos z1, d_rc hr]
    unfold xM
    simp only [tb_cvt, Option.bind_assoc, ite_bd, Option.bind_some]
    rfl
  · rw [if_neg z1, if_pos rfl, if_neg z1, d_rc hr, it_335 hat h.1.1, Option.bind_some]
    by_cases z2 : tc = 1091
    · rw [if_pos z2, if_neg (show ¬ (1 : Int32) = 0 by decide), if_pos z2, d_rc hr]
      unfold xI
      simp only [tb_cvt, Option.bind_assoc, ite_bd, Option.bind_some]
      rfl
    · rw [if_neg z2, if_pos rfl, if_neg z2, d_rc hr, it_339 hat h.1.1, Option.bind_some]
      by_cases z3 : tc = 2020
      · rw [if_pos z3, if_neg (show ¬ (1 : Int32) = 0 by decide), if_pos z3, d_rc hr]
        unfold xA
        simp only [tb_cvt, Option.bind_assoc, ite_bd, Option.bind_some]
        rfl
      · rw [if_neg z3, if_pos rfl, if_neg z3]
theorem m5 {d' : Nat} {x : Int32} (h : pjM n f σ tc fr tt om) (htk : lx_tk f n tc fr tt) : m_X3_chain_5 (cr_ME d') x σ = if tc = 1046 then (yM d' x σ).bind (fun p => some (Sum.inl (p.1, p.2))) else if tc = 1091 then (yI d' x σ).bind (fun p => some (Sum.inl (p.1, p.2))) else if tc = 2020 then (yA x σ).bind (fun p => some (Sum.inl (p.1, p.2))) else some (Sum.inr (x, σ)) := by
  have s1 : m_X3_isSign 46 σ = _ := ms_sign (c := 46) h htk (by decide)
  have s2 : m_X3_isSign 91 σ = _ := ms_sign (c := 91) h htk (by decide)
  have s3 : m_X3_isKey 20 σ = _ := ms_key (c := 20) h htk (by decide) (by decide)
  unfold m_X3_chain_5
  rw [h.2.2.1, if_pos bn_m1, s1, Option.bind_some]
  by_cases z1 : tc = 1046
  · rw [if_pos z1, if_neg (show ¬ (1 : Int32) = 0 by decide), if_pos z1]
    unfold m_X3_chain_39 yM
    rw [s1, Option.bind_some, if_pos z1, if_neg (show ¬ (1 : Int32) = 0 by decide)]
    simp only [Option.bind_assoc, ite_bd]
  · rw [if_neg z1, if_pos rfl, if_neg z1, s2, Option.bind_some]
    by_cases z2 : tc = 1091
    · rw [if_pos z2, if_neg (show ¬ (1 : Int32) = 0 by decide), if_pos z2]
      unfold m_X3_chain_39 yI
      rw [s1, Option.bind_some, if_neg z1, if_pos rfl, s2, Option.bind_some, if_pos z2, if_neg (show ¬ (1 : Int32) = 0 by decide)]
      unfold m_X3_chain_117
      simp only [Option.bind_assoc, ite_bd]
    · rw [if_neg z2, if_pos rfl, if_neg z2, s3, Option.bind_some]
      by_cases z3 : tc = 2020
      · rw [if_pos z3, if_neg (show ¬ (1 : Int32) = 0 by decide), if_pos z3]
        unfold m_X3_chain_39 yA
        rw [s1, Option.bind_some, if_neg z1, if_pos rfl, s2, Option.bind_some, if_neg z2, if_pos rfl]
        simp only [Option.bind_assoc, ite_bd]
      · rw [if_neg z3, if_pos rfl, if_neg z3]
/-- the loop -/
theorem lp_one {d e : Nat} (IH : ∀ d', VP g P r L S n f C1 C2 0 9 0 14 d d') (IA : ∀ d', VA g P r L S n f C1 C2 d d') (hd : 9 * (30 - op) + 1 ≤ d) (hd' : 14 * (30 - op) + 1 ≤ e) (hA : pjA L n C1 C2 w σ fr) (hn31 : n < 2 ^ 31) : ∀ (N : Nat) (w1 : ch_W) (σ1 : ch_S) (tc1 fr1 tt1 a1 nd1 : Nat), 1500 - nd1 ≤ N → pj g P r L S n f C1 C2 w1 σ1 tc1 fr1 tt1 op op fr1 → pr g P r L 2 0 w σ fr w1 σ1 fr1 → fr < fr1 → vt g r L P w1 σ1 a1 (nn σ fX3_nodes) nd1 → nd1 + 1 = nn σ1 fX3_nodes →
    po P n C1 C2 0 w σ fr (ch_loop (fun (s : (Option Nat) × Int32 × ch_W) => c_X4_one_96 (cr_PA g d) g r s.1 s.2.1 s.2.2) (some a1, 1, w1)) (ch_loop (fun (s : Int32 × ch_S) => m_X3_chain_5 (cr_ME e) s.1 s.2) (Int32.ofNat nd1, σ1)) (vQ g P r L S n f C1 C2 op w σ fr) := by
  have stuck : ∀ (b : Int32) (σ1 : ch_S) (q : Nat), pd n 0 σ fr σ1 q → ∃ p, ch_loop (fun (s : Int32 × ch_S) => m_X3_chain_5 (cr_ME e) s.1 s.2) (b, σ1) = some p ∧ pd n 0 σ fr p.2 q := by
    intro b σ1 q hq
    refine ⟨(b, σ1), ch_loop_inr ?_, hq⟩
    show m_X3_chain_5 (cr_ME e) b σ1 = _
    unfold m_X3_chain_5
    have hq2 := hq.2.2.2.1
    have hq9 : q < 2 ^ 31 := by omega
    rcases hq.2.1 with h1 | ⟨h1, h2, h3⟩
    · rw [h1, if_neg (bn_nn hq9)]
    · rw [h1, if_pos bn_m1, dm_sign hq.2.1 hq9, Option.bind_some, if_pos rfl, dm_sign hq.2.1 hq9, Option.bind_some, if_pos rfl, dm_key hq.2.1 hq9, Option.bind_some, if_pos rfl]
  have stop : ∀ (x : Option Nat) (w1 : ch_W), ch_loop (fun (s : (Option Nat) × Int32 × ch_W) => c_X4_one_96 (cr_PA g d) g r s.1 s.2.1 s.2.2) (x, 0, w1) = some (Except.ok x, w1) := by
    intro x w1
    refine ch_loop_inr ?_
    show c_X4_one_96 (cr_PA g d) g r x 0 w1 = _
    unfold c_X4_one_96
    rw [if_pos rfl]
  generalize hBC : (fun (s : (Option Nat) × Int32 × ch_W) => c_X4_one_96 (cr_PA g d) g r s.1 s.2.1 s.2.2) = BC at stop
  generalize hBM : (fun (s : Int32 × ch_S) => m_X3_chain_5 (cr_ME e) s.1 s.2) = BM at stuck
  intro N
  induction N with
  | zero =>
    intro w1 σ1 tc1 fr1 tt1 a1 nd1 hN h hpr hlt ht hn
    have := h.2.2.2.2.2.2.1
    omega
  | succ N ih =>
    intro w1 σ1 tc1 fr1 tt1 a1 nd1 hN h hpr hlt ht hn
    rw [lp_eq, lp_eq]
    have htk := h.1.2.2.2.2.2.2.1.2.2.2
    have e1 : BC (some a1, 1, w1) = c_X4_one_96 (cr_PA g d) g r (some a1) 1 w1 := by rw [← hBC]
    have e2 : BM (Int32.ofNat nd1, σ1) = m_X3_chain_5 (cr_ME e) (Int32.ofNat nd1) σ1 := by rw [← hBM]
    rw [e1, e2, c96 h, m5 h.2.1 htk]
    have key : ∀ (X : Option (Except Nat (Option Nat) × ch_W)) (Y : Option (Int32 × ch_S)), po P n C1 C2 0 w σ fr X Y (fun x w' y σ' => vQ g P r L S n f C1 C2 op w σ fr x w' y σ' ∧ nd1 + 1 < nn σ' fX3_nodes) → po P n C1 C2 0 w σ fr ((X.bind fun p => some (cvt 1 p)).bind (lpc BC)) ((Y.bind fun p => some (Sum.inl (p.1, p.2))).bind (lpc BM)) (vQ g P r L S n f C1 C2 op w σ fr) := by
      intro X Y hXY
      have e4 : ((Y.bind fun p => some (Sum.inl (p.1, p.2))).bind (lpc BM)) = Y.bind fun p7 => ch_loop BM p7 := by
        cases Y <;> rfl
      rw [cvt_lp, e4]
      refine po.tb hXY (fun x w3 y σ3 z => ?_) stuck
      obtain ⟨⟨a3, nd3, rfl, rfl, z1, z2, tc3, fr3, tt3, z3, z4, z5⟩, z6⟩ := z
      exact ih w3 σ3 tc3 fr3 tt3 a3 nd3 (by omega) z3 z4 z5 z2 z1
    by_cases z1 : tc1 = 1046
    · rw [if_pos z1, if_pos z1]
      exact key _ _ (po_member IA hA h (by omega) hpr hlt ht hn hd hd' hn31)
    rw [if_neg z1, if_neg z1]
    by_cases z2 : tc1 = 1091
    · rw [if_pos z2, if_pos z2]
      exact key _ _ ((po_index IH hA h z2 hpr hlt ht hn (by omega) (by omega) hn31).mono (Int.le_refl _) (fun _ _ _ _ q => ⟨q.1, by omega⟩))
    rw [if_neg z2, if_neg z2]
    by_cases z3 : tc1 = 2020
    · rw [if_pos z3, if_pos z3]
      exact key _ _ (po_isas hA h (by omega) hpr hlt ht hn hn31 (Or.inr (Or.inl ⟨rfl, rfl⟩)))
    rw [if_neg z3, if_neg z3]
    have e5 : (Option.bind (some (Sum.inl (some a1, 0, w1))) (lpc BC)) = some (Except.ok (some a1), w1) := stop (some a1) w1
    rw [e5]
    exact Or.inl ⟨some a1, w1, Int32.ofNat nd1, σ1, rfl, rfl, a1, nd1, rfl, rfl, hn, ht, tc1, fr1, tt1, h, hpr, hlt⟩
/-- ONE -/
theorem st_one {d : Nat} (IH : ∀ d', VP g P r L S n f C1 C2 0 9 0 14 d d') (IA : ∀ d', VA g P r L S n f C1 C2 d d') (I1 : ∀ d', VP g P r L S n f C1 C2 6 3 7 4 d d') (I7 : ∀ d', VP g P r L S n f C1 C2 7 2 10 2 d d') (hn31 : n < 2 ^ 31) : ∀ d', VP g P r L S n f C1 C2 6 3 7 4 (d + 1) d' := by
  intro d' w σ tc fr tt op h hd hd'
  obtain ⟨e, rfl⟩ : ∃ e, d' = e + 2 := ⟨d' - 2, by omega⟩
  show po P n C1 C2 0 w σ fr (c_X4_one (cr_PA g d) g r w) (m_X3_single (cr_ME (e + 1)) σ) _
  have hat := h.1.2.2.2.2.2.2.1
  have hr := hat.1.1
  have htk := hat.2.2.2
  have h30 := h.1.2.2.2.2.2.2.2.2.1
  have s1 : m_X3_isSign 45 σ = _ := ms_sign (c := 45) h.2.1 htk (by decide)
  have s2 : m_X3_isSign 33 σ = _ := ms_sign (c := 33) h.2.1 htk (by decide)
  unfold c_X4_one m_X3_single
  rw [d_rc hr, it_308 hat h.1.1, Option.bind_some, s1, Option.bind_some]
  by_cases z1 : tc = 1045
  · rw [if_pos z1, if_neg (show ¬ (1 : Int32) = 0 by decide), if_neg (show ¬ (1 : Int32) = 0 by decide)]
    exact po_unary I1 h (by omega) (by omega) (by omega) hn31 (Or.inl z1)
  rw [if_neg z1, if_pos rfl, if_pos rfl, d_rc hr, it_319 hat h.1.1, Option.bind_some, s2, Option.bind_some]
  by_cases z2 : tc = 1033
  · rw [if_pos z2, if_neg (show ¬ (1 : Int32) = 0 by decide), if_neg (show ¬ (1 : Int32) = 0 by decide)]
    exact po_unary I1 h (by omega) (by omega) (by omega) hn31 (Or.inr z2)
  rw [if_neg z2, if_pos rfl, if_pos rfl, d_rc hr, pe_id]
  show po P n C1 C2 0 w σ fr _ (m_X3_chain (cr_ME e) σ) _
  unfold m_X3_chain
  refine po.tb (I7 e w σ tc fr tt op h (by omega) (by omega)) (fun x w1 y σ1 q => ?_) (fun b σ1 q hq => ?_)
  · obtain ⟨a1, nd1, rfl, rfl, q1, q2, tc1, fr1, tt1, q3, q4, q5⟩ := q
    exact lp_one IH IA (by omega) (by omega) h.2.2 hn31 1500 w1 σ1 tc1 fr1 tt1 a1 nd1 (by omega) q3 q4 q5 q2 q1
  · refine ⟨(b, σ1), ch_loop_inr ?_, hq⟩
    show m_X3_chain_5 (cr_ME e) b σ1 = _
    unfold m_X3_chain_5
    have hq2 := hq.2.2.2.1
    have hq9 : q < 2 ^ 31 := by omega
    rcases hq.2.1 with h1 | ⟨h1, h2, h3⟩
    · rw [h1, if_neg (bn_nn hq9)]
    · rw [h1, if_pos bn_m1, dm_sign hq.2.1 hq9, Option.bind_some, if_pos rfl, dm_sign hq.2.1 hq9, Option.bind_some, if_pos rfl, dm_key hq.2.1 hq9, Option.bind_some, if_pos rfl]
end EX
