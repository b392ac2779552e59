/-! LEVEL B2: classes: cells of one's own, new members -/
set_option maxRecDepth 100000
section OWN
variable {g : State} {P r L S n K hA : Nat} {f : Nat → Nat} {w w' : ch_W} {tc fr tt op ps : Nat}
/-- some cells of one's own from hA on are others -/
theorem own_gen (hC : pjC g P r L S n f w tc fr tt op ps) (hk : ∀ x : Nat, x < ch_nx w → (ow r L P w x ∧ hA ≤ x ∧ ch_tg w x ≠ 22 ∧ ch_tg w x ≠ 10 ∧ ch_tg w x ≠ 11 ∧ ch_tg w x ≠ 27 ∧ ch_tg w x ≠ 28) ∨ w'.1 x = w.1 x) (hP : P ≤ hA) (hK : K < hA) (hKn : K < ch_nx w) (hx : ch_nx w ≤ ch_nx w') (hwf : ∀ b, ch_tg w' b ≠ 0 → b < ch_nx w') : pjC g P r L S n f w' tc fr tt op ps ∧ cpN w' L = cpN w L ∧ (∀ b : Nat, ow r L P w b → ow r L P w' b) ∧ (∀ (i : Nat) (t : List Nat), cn g w L i t → cn g w' L i t) ∧ cf g r L K P hA w w' ∧ ∀ w0, pf g r L P w0 w → (∀ a : Nat, a < ch_nx w0 → w'.1 a = w.1 a) → pf g r L P w0 w' := by
  have hnP : P ≤ ch_nx w := by
    have h1 := hC.2.2.1
    have := hC.2.2.2.2.2.1 r (by rw [hC.2.2.2.2.2.2.1.1.1]; decide)
    omega
  have hch : ∀ a : Nat, a < ch_nx w → (P ≤ a ∧ a ≠ r ∧ a ≠ L ∧ ch_gr w L fJ5_elementData ≠ some a ∧ ch_tg w a ≠ 22) ∨ w'.1 a = w.1 a := by
    intro a ha
    rcases hk a ha with ⟨q1, q2, q3, -⟩ | q
    · left
      rcases q1 with z | ⟨-, z1, z2, z3⟩
      · omega
      · exact ⟨by omega, z1, z2, z3, q3⟩
    · exact Or.inr q
  obtain ⟨p1, p2, p3, p4, p5⟩ := pjC_gen hC hch hx hwf
  have low : ∀ x : Nat, x < hA → x < ch_nx w → w'.1 x = w.1 x := fun x h1 h2 => by
    rcases hk x h2 with q | q
    · omega
    · exact q
  refine ⟨p1, p2, p3, p4, ⟨hx, fun x hx2 hl => ?_, fun x hx2 ht => ⟨?_, p3 x hx2⟩, p4, fun x hx2 => low x (by omega) (by omega), fun z => ⟨low K hK hKn, p3 K z⟩, fun x z hl => ⟨low x hl (by rcases z with y | y; omega; exact y.1), p3 x z⟩⟩, p5⟩
  · have hxn : x < ch_nx w := by
      rcases hx2.1 with z | z
      · omega
      · exact z.1
    refine ⟨low x hl hxn, p3 x hx2.1, hx2.2.1, hx2.2.2.1, ?_⟩
    rw [(b_cell (low K hK hKn)).2.2.2.1]
    exact hx2.2.2.2
  · have hxn : x < ch_nx w := by
      rcases hx2 with z | z
      · omega
      · exact z.1
    rcases hk x hxn with q | q
    · omega
    · exact q
/-- a Row of one's own, a number more -/
theorem own_add {R A q cap : Nat} {F : Nat → Int32} {v : Int32} (hC : pjC g P r L S n f w tc fr tt op ps) (h : rwA w R A q cap F) (hR : ow r L P w R) (hA1 : ow r L P w A) (hPR : hA ≤ R) (hPA : hA ≤ A) (hP : P ≤ hA) (hK : K < hA) (hn : hA ≤ ch_nx w) (hc1 : ch_cs w + 1 ≤ 601024) (hc2 : ch_sl w + 2 * cap ≤ 7293034) (hcp : cap < 2 ^ 27) :
    ∃ w' A' cap', c_X8_add R v w = some w' ∧ rwA w' R A' (q + 1) cap' (up1 F q v) ∧ pjC g P r L S n f w' tc fr tt op ps ∧ cpN w' L = cpN w L ∧ cf g r L K P hA w w' ∧ (∀ x : Nat, ow r L P w x → ow r L P w' x) ∧ (A' = A ∨ A' = ch_nx w) ∧ ow r L P w' A' ∧ hA ≤ A' ∧ (∀ x : Nat, x ≠ R → x ≠ A' → w'.1 x = w.1 x) ∧ ch_nx w ≤ ch_nx w' ∧ ch_cs w' ≤ ch_cs w + 1 ∧ ch_sl w' + 2 * cap ≤ ch_sl w + 2 * cap' ∧ (cap ≤ 2 * q + 8 → cap' ≤ 2 * (q + 1) + 8) := by
  have hwf := hC.2.2.2.2.2.1
  obtain ⟨w', A', cap', g1, g2, g3, g4, g5⟩ := row_add (v := v) h hwf hc1 hc2 hcp
  have hRn := hwf R (by rw [h.1]; decide)
  have hAn := hwf A (by rw [h.2.2.2.1]; decide)
  have hz : ch_nx w ≤ ch_nx w' ∧ ch_cs w' ≤ ch_cs w + 1 ∧ ch_sl w' + 2 * cap ≤ ch_sl w + 2 * cap' ∧ (A' = A ∨ (A' = ch_nx w ∧ ch_nx w' = ch_nx w + 1)) ∧ (cap ≤ 2 * q + 8 → cap' ≤ 2 * (q + 1) + 8) := by
    rcases g3 with ⟨q1, q2, q3⟩ | ⟨q1, q2, q3, q4⟩
    · have e1 : ch_nx w' = ch_nx w := by unfold ch_nx; rw [q3]
      have e2 : ch_cs w' = ch_cs w := by unfold ch_cs; rw [q3]
      have e3 : ch_sl w' = ch_sl w := by unfold ch_sl; rw [q3]
      exact ⟨by omega, by omega, by omega, Or.inl q1, by omega⟩
    · have e1 : ch_nx w' = ch_nx w + 1 := by unfold ch_nx; rw [q4]; rfl
      have e2 : ch_cs w' = ch_cs w + 1 := by unfold ch_cs; rw [q4]; rfl
      have e3 : ch_sl w' = ch_sl w + cap' := by unfold ch_sl; rw [q4]; rfl
      exact ⟨by omega, by omega, by omega, Or.inr ⟨q1, e1⟩, by omega⟩
  obtain ⟨z1, z2, z3, z4, z5⟩ := hz
  have hwf' : ∀ b, ch_tg w' b ≠ 0 → b < ch_nx w' := by
    intro b hb
    by_cases b1 : b = R
    · omega
    · by_cases b2 : b = A'
      · omega
      · rw [(b_cell (g4 b b1 b2)).1] at hb
        have := hwf b hb
        omega
  obtain ⟨p1, p2, p3, p4, p5, p6⟩ := own_gen (w' := w') (K := K) (hA := hA) hC (fun x hx => by
    by_cases b1 : x = R
    · left
      rw [b1, h.1]
      exact ⟨hR, hPR, by decide, by decide, by decide, by decide, by decide⟩
    · by_cases b2 : x = A'
      · left
        have e : x = A := by omega
        rw [e, h.2.2.2.1]
        exact ⟨hA1, hPA, by decide, by decide, by decide, by decide, by decide⟩
      · exact Or.inr (g4 x b1 b2)) hP hK (by omega) z1 hwf'
  refine ⟨w', A', cap', g1, g2, p1, p2, p5, p3, by omega, ?_, by omega, g4, z1, z2, z3, z5⟩
  rcases z4 with q | ⟨q1, q2⟩
  · rw [q]; exact p3 A hA1
  · right
    have hLn := hwf L (by obtain ⟨_, _, _, _, _, z, _⟩ := hC.2.2.2.2.2.2.2.2.2.2; rw [z.1.1]; decide)
    have hrn := hwf r (by rw [hC.2.2.2.2.2.2.1.1.1]; decide)
    refine ⟨by omega, by omega, by omega, fun y => ?_⟩
    obtain ⟨A0, k0, cap0, E0, T0, n1, -, -⟩ := p1.2.2.2.2.2.2.2.2.2.2
    obtain ⟨A1, k1, cap1, E1, T1, m1, -, -⟩ := hC.2.2.2.2.2.2.2.2.2.2
    have hA1n := hwf A1 (by rcases m1.1.2.2.2.2.2.2.1 with q | q <;> omega)
    rw [(b_cell (g4 L (fun q => by have := m1.1.1; rw [q, h.1] at this; omega) (by omega))).2.2.2.1, m1.1.2.1] at y
    have := Option.some.inj y
    omega
/-- a new member -/
def mnew (w w' : ch_W) (im ty nm pl : Int32) : Prop := w'.2 = (ch_nx w + 7, ch_cs w + 7, ch_sl w + 42) ∧ (∀ x : Nat, x < ch_nx w ∨ ch_nx w + 7 ≤ x → w'.1 x = w.1 x) ∧ ch_tg w' (ch_nx w) = 8 ∧ ch_gi w' (ch_nx w) fX7_isMethod = im ∧ ch_gi w' (ch_nx w) fX7_type = ty ∧ ch_gi w' (ch_nx w) fX7_name = nm ∧ ch_gi w' (ch_nx w) fX7_place = pl ∧ ch_gi w' (ch_nx w) fX7_slots = 0 ∧ ch_gr w' (ch_nx w) fX7_code = none ∧ ch_gr w' (ch_nx w) fX7_types = some (ch_nx w + 1) ∧ ch_gr w' (ch_nx w) fX7_names = some (ch_nx w + 3) ∧ ch_gr w' (ch_nx w) fX7_catches = some (ch_nx w + 5) ∧ rwA w' (ch_nx w + 1) (ch_nx w + 2) 0 8 (fun _ => 0) ∧ rwA w' (ch_nx w + 3) (ch_nx w + 4) 0 8 (fun _ => 0) ∧ rwA w' (ch_nx w + 5) (ch_nx w + 6) 0 8 (fun _ => 0)
theorem row_all (hc1 : ch_cs w + 2 ≤ 601024) (hc2 : ch_sl w + 10 ≤ 7293034) : ∃ w', c_X8_init (ch_nx w) (ch_nw w (ch_new 9 2)) = some w' ∧ rwA w' (ch_nx w) (ch_nx w + 1) 0 8 (fun _ => 0) ∧ w'.2 = (ch_nx w + 2, ch_cs w + 2, ch_sl w + 10) ∧ ∀ a : Nat, a ≠ ch_nx w → a ≠ ch_nx w + 1 → w'.1 a = w.1 a := by
  obtain ⟨w', a1, a2, a3, a4⟩ := row_new (F := fun _ => 0) (w := ch_nw w (ch_new 9 2)) (b := ch_nx w) (by rw [b_tN, if_pos rfl]; rfl) (by rw [b_IN, if_pos rfl]; rfl) (by rw [b_xN]; omega) (by rw [b_cN]; omega) (by rw [b_sN]; show ch_sl w + 2 + 8 ≤ _; omega)
  refine ⟨w', a1, a2, ?_, fun a h1 h2 => by rw [a4 a h1 h2, b_oN h1]⟩
  rw [a3]
  rfl
theorem mem_new {im ty nm pl : Int32} (hb : ch_bit im = some im) (hc1 : ch_cs w + 7 ≤ 601024) (hc2 : ch_sl w + 42 ≤ 7293034) : ∃ w', c_X7_init (ch_nx w) im ty nm pl (ch_nw w (ch_new 8 12)) = some w' ∧ mnew w w' im ty nm pl := by
  have t0 : ch_tg (ch_nw w (ch_new 8 12)) (ch_nx w) = 8 := by rw [b_tN, if_pos rfl]; rfl
  have i0 : ∀ k : Nat, ch_gi (ch_nw w (ch_new 8 12)) (ch_nx w) k = 0 := fun k => by rw [b_IN, if_pos rfl]; rfl
  have r0 : ∀ k : Nat, ch_gr (ch_nw w (ch_new 8 12)) (ch_nx w) k = none := fun k => by rw [b_RN, if_pos rfl]; rfl
  have o0 : ∀ x : Nat, x ≠ ch_nx w → (ch_nw w (ch_new 8 12)).1 x = w.1 x := fun x hx => b_oN hx
  have z0 : (ch_nw w (ch_new 8 12)).2 = (ch_nx w + 1, ch_cs w + 1, ch_sl w + 12) := rfl
  generalize ch_nw w (ch_new 8 12) = w1 at *
  have x1 : ch_nx w1 = ch_nx w + 1 := by unfold ch_nx; rw [z0]; rfl
  have y1 : ch_cs w1 = ch_cs w + 1 := by unfold ch_cs; rw [z0]; rfl
  have s1 : ch_sl w1 = ch_sl w + 12 := by unfold ch_sl; rw [z0]; rfl
  unfold c_X7_init
  obtain ⟨w2, a1, a2, a3, a4⟩ := row_all (w := w1) (by omega) (by omega)
  have c2 := b_cell (a4 (ch_nx w) (by omega) (by omega))
  rw [d_nO (by omega) (by omega), a1, Option.bind_some, d_pR (by rw [c2.1]; exact t0)]
  have x3 : ch_nx (ch_sr w2 (ch_nx w) fX7_types (some (ch_nx w1))) = ch_nx w + 3 := by rw [b_xR]; unfold ch_nx at *; rw [a3]; show w1.2.1 + 2 = _; omega
  have y3 : ch_cs (ch_sr w2 (ch_nx w) fX7_types (some (ch_nx w1))) = ch_cs w + 3 := by rw [b_cR]; unfold ch_cs at *; rw [a3]; show w1.2.2.1 + 2 = _; omega
  have s3 : ch_sl (ch_sr w2 (ch_nx w) fX7_types (some (ch_nx w1))) = ch_sl w + 22 := by rw [b_sR]; unfold ch_sl at *; rw [a3]; show w1.2.2.2 + 10 = _; omega
  have t3 : ch_tg (ch_sr w2 (ch_nx w) fX7_types (some (ch_nx w1))) (ch_nx w) = 8 := by rw [b_tR, c2.1]; exact t0
  have i3 : ∀ k : Nat, ch_gi (ch_sr w2 (ch_nx w) fX7_types (some (ch_nx w1))) (ch_nx w) k = 0 := fun k => by rw [b_IR, c2.2.2.1]; exact i0 k
  have r3 : ∀ k : Nat, ch_gr (ch_sr w2 (ch_nx w) fX7_types (some (ch_nx w1))) (ch_nx w) k = if k = fX7_types then some (ch_nx w + 1) else none := fun k => by
    rw [b_RR, c2.2.2.2.1, r0, x1]
    by_cases hk : k = fX7_types
    · rw [if_pos ⟨rfl, hk⟩, if_pos hk]
    · rw [if_neg (fun z => hk z.2), if_neg hk]
  have o3 : ∀ x : Nat, x ≠ ch_nx w → x ≠ ch_nx w + 1 → x ≠ ch_nx w + 2 → (ch_sr w2 (ch_nx w) fX7_types (some (ch_nx w1))).1 x = w.1 x := fun x h1 h2 h3 => by rw [b_oR h1, a4 x (by omega) (by omega), o0 x h1]
  have q3 : rwA (ch_sr w2 (ch_nx w) fX7_types (some (ch_nx w1))) (ch_nx w + 1) (ch_nx w + 2) 0 8 (fun _ => 0) := by
    rw [x1] at a2
    exact a2.keep (b_oR (by omega)) (b_oR (by omega))
  generalize ch_sr w2 (ch_nx w) fX7_types (some (ch_nx w1)) = w3 at *
  obtain ⟨w4, e1, e2, e3, e4⟩ := row_all (w := w3) (by omega) (by omega)
  have c4 := b_cell (e4 (ch_nx w) (by omega) (by omega))
  rw [d_nO (by omega) (by omega), e1, Option.bind_some, d_pR (by rw [c4.1]; exact t3)]
  have x5 : ch_nx (ch_sr w4 (ch_nx w) fX7_names (some (ch_nx w3))) = ch_nx w + 5 := by rw [b_xR]; unfold ch_nx at *; rw [e3]; show w3.2.1 + 2 = _; omega
  have y5 : ch_cs (ch_sr w4 (ch_nx w) fX7_names (some (ch_nx w3))) = ch_cs w + 5 := by rw [b_cR]; unfold ch_cs at *; rw [e3]; show w3.2.2.1 + 2 = _; omega
  have s5 : ch_sl (ch_sr w4 (ch_nx w) fX7_names (some (ch_nx w3))) = ch_sl w + 32 := by rw [b_sR]; unfold ch_sl at *; rw [e3]; show w3.2.2.2 + 10 = _; omega
  have t5 : ch_tg (ch_sr w4 (ch_nx w) fX7_names (some (ch_nx w3))) (ch_nx w) = 8 := by rw [b_tR, c4.1]; exact t3
  have i5 : ∀ k : Nat, ch_gi (ch_sr w4 (ch_nx w) fX7_names (some (ch_nx w3))) (ch_nx w) k = 0 := fun k => by rw [b_IR, c4.2.2.1]; exact i3 k
  have r5 : ∀ k : Nat, ch_gr (ch_sr w4 (ch_nx w) fX7_names (some (ch_nx w3))) (ch_nx w) k = if k = fX7_names then some (ch_nx w + 3) else if k = fX7_types then some (ch_nx w + 1) else none := fun k => by
    rw [b_RR, c4.2.2.2.1, r3, x3]
    by_cases hk : k = fX7_names
    · rw [if_pos ⟨rfl, hk⟩, if_pos hk]
    · rw [if_neg (fun z => hk z.2), if_neg hk]
  have o5 : ∀ x : Nat, x ≠ ch_nx w → x ≠ ch_nx w + 1 → x ≠ ch_nx w + 2 → x ≠ ch_nx w + 3 → x ≠ ch_nx w + 4 → (ch_sr w4 (ch_nx w) fX7_names (some (ch_nx w3))).1 x = w.1 x := fun x h1 h2 h3 h4 h5 => by rw [b_oR h1, e4 x (by omega) (by omega), o3 x h1 h2 h3]
  have q5 : rwA (ch_sr w4 (ch_nx w) fX7_names (some (ch_nx w3))) (ch_nx w + 1) (ch_nx w + 2) 0 8 (fun _ => 0) := q3.keep (by rw [b_oR (by omega), e4 _ (by omega) (by omega)]) (by rw [b_oR (by omega), e4 _ (by omega) (by omega)])
  have q5b : rwA (ch_sr w4 (ch_nx w) fX7_names (some (ch_nx w3))) (ch_nx w + 3) (ch_nx w + 4) 0 8 (fun _ => 0) := by
    rw [x3] at e2
    exact e2.keep (b_oR (by omega)) (b_oR (by omega))
  generalize ch_sr w4 (ch_nx w) fX7_names (some (ch_nx w3)) = w5 at *
  obtain ⟨w6, g1, g2, g3, g4⟩ := row_all (w := w5) (by omega) (by omega)
  have c6 := b_cell (g4 (ch_nx w) (by omega) (by omega))
  have t6 : ch_tg w6 (ch_nx w) = 8 := by rw [c6.1]; exact t5
  rw [d_nO (by omega) (by omega), g1, Option.bind_some, d_pR t6, hb, Option.bind_some, d_pI (by rw [b_tR]; exact t6), d_pI (by rw [b_tI, b_tR]; exact t6), d_pI (by rw [b_tI, b_tI, b_tR]; exact t6), d_pI (by rw [b_tI, b_tI, b_tI, b_tR]; exact t6)]
  rw [x5] at g2 g4 ⊢
  have oz : ∀ x : Nat, x ≠ ch_nx w → (ch_si (ch_si (ch_si (ch_si (ch_sr w6 (ch_nx w) fX7_catches (some (ch_nx w + 5))) (ch_nx w) fX7_isMethod im) (ch_nx w) fX7_type ty) (ch_nx w) fX7_name nm) (ch_nx w) fX7_place pl).1 x = w6.1 x := fun x hx => by rw [b_oI hx, b_oI hx, b_oI hx, b_oI hx, b_oR hx]
  refine ⟨_, rfl, ?_, fun x hx => ?_, by rw [b_tI, b_tI, b_tI, b_tI, b_tR]; exact t6, ?_, ?_, ?_, ?_, ?_, ?_, ?_, ?_, ?_, ?_, ?_, ?_⟩
  · show w6.2 = _
    rw [g3]
    show (ch_nx w5 + 2, ch_cs w5 + 2, ch_sl w5 + 10) = _
    rw [x5, y5, s5]
  · rw [oz x (by omega), g4 x (by omega) (by omega), o5 x (by omega) (by omega) (by omega) (by omega) (by omega)]
  · rw [b_II, if_neg (fun z => absurd z.2 (by decide)), b_II, if_neg (fun z => absurd z.2 (by decide)), b_II, if_neg (fun z => absurd z.2 (by decide)), b_II, if_pos ⟨rfl, rfl⟩]
  · rw [b_II, if_neg (fun z => absurd z.2 (by decide)), b_II, if_neg (fun z => absurd z.2 (by decide)), b_II, if_pos ⟨rfl, rfl⟩]
  · rw [b_II, if_neg (fun z => absurd z.2 (by decide)), b_II, if_pos ⟨rfl, rfl⟩]
  · rw [b_II, if_pos ⟨rfl, rfl⟩]
  · rw [b_II, if_neg (fun z => absurd z.2 (by decide)), b_II, if_neg (fun z => absurd z.2 (by decide)), b_II, if_neg (fun z => absurd z.2 (by decide)), b_II, if_neg (fun z => absurd z.2 (by decide)), b_IR, c6.2.2.1]; exact i5 _
  · rw [b_RI, b_RI, b_RI, b_RI, b_RR, if_neg (fun z => absurd z.2 (by decide)), c6.2.2.2.1, r5]; rfl
  · rw [b_RI, b_RI, b_RI, b_RI, b_RR, if_neg (fun z => absurd z.2 (by decide)), c6.2.2.2.1, r5]; rfl
  · rw [b_RI, b_RI, b_RI, b_RI, b_RR, if_neg (fun z => absurd z.2 (by decide)), c6.2.2.2.1, r5]; rfl
  · rw [b_RI, b_RI, b_RI, b_RI, b_RR, if_pos ⟨rfl, rfl⟩]
  · exact q5.keep (by rw [oz _ (by omega), g4 _ (by omega) (by omega)]) (by rw [oz _ (by omega), g4 _ (by omega) (by omega)])
  · exact q5b.keep (by rw [oz _ (by omega), g4 _ (by omega) (by omega)]) (by rw [oz _ (by omega), g4 _ (by omega) (by omega)])
  · exact g2.keep (oz _ (by omega)) (oz _ (by omega))
end OWN
