/-! LEVEL B2: lists of one's own -/
set_option maxRecDepth 100000
section NEW
variable {g : State} {P r L S n : Nat} {f : Nat → Nat} {w w' : ch_W} {tc fr tt op ps a : Nat}
/-- cells of one's own are others -/
theorem pjC_gen (h : pjC g P r L S n f w tc fr tt op ps) (hk : ∀ a : Nat, a < ch_nx w → (P ≤ a ∧ a ≠ r ∧ a ≠ L ∧ ch_gr w L fJ5_elementData ≠ some a ∧ ch_tg w a ≠ 22) ∨ w'.1 a = w.1 a) (hx : ch_nx w ≤ ch_nx w') (hwf : ∀ b, ch_tg w' b ≠ 0 → b < ch_nx w') : pjC g P r L S n f w' tc fr tt op ps ∧ cpN w' L = cpN w L ∧ (∀ b : Nat, ow r L P w b → ow r L P w' b) ∧ (∀ (i : Nat) (t : List Nat), cn g w L i t → cn g w' L i t) ∧ ∀ w0, pf g r L P w0 w → (∀ a : Nat, a < ch_nx w0 → w'.1 a = w.1 a) → pf g r L P w0 w' := by
  obtain ⟨c1, c2, c3, c4, c5, c6, c7, c8, c9, c10, A, k0, cap, E, T, c11, c12, c13⟩ := h
  obtain ⟨d1, d2, d3, d4⟩ := id c7
  obtain ⟨s1, s2, s3, s4, s5, s6, s7, s8⟩ := id d1
  have hrn := c6 r (by rw [s1]; decide)
  have hLn := c6 L (by rw [c11.1.1]; decide)
  have lowP : ∀ a : Nat, a < P → w'.1 a = w.1 a := fun a ha => by
    rcases hk a (by omega) with q | q
    · omega
    · exact q
  have hr' : w'.1 r = w.1 r := by
    rcases hk r hrn with q | q
    · exact absurd rfl q.2.1
    · exact q
  have hL' : w'.1 L = w.1 L := by
    rcases hk L hLn with q | q
    · exact absurd rfl q.2.2.1
    · exact q
  have hN : ∀ (A0 k1 cap1 : Nat) (E0 : Nat → Nat) (T0 : Nat → List Nat), rd_N g w L A0 k1 cap1 E0 T0 → rd_N g w' L A0 k1 cap1 E0 T0 ∧ w'.1 A0 = w.1 A0 := by
    intro A0 k1 cap1 E0 T0 h1
    have hA0 := c6 A0 (by rcases h1.1.2.2.2.2.2.2.1 with q | q <;> omega)
    have e1 : w'.1 A0 = w.1 A0 := by
      rcases hk A0 hA0 with q | q
      · exact absurd h1.1.2.1 q.2.2.2.1
      · exact q
    refine ⟨h1.keep hL' e1 (fun i hi => ?_), e1⟩
    have ht := (h1.2.1 i hi).1
    rcases hk (E0 i) (c6 (E0 i) (by rw [ht]; decide)) with q | q
    · exact absurd ht q.2.2.2.2
    · exact q
  obtain ⟨b1, b2, b3, b4, b5⟩ := b_cell hr'
  obtain ⟨l1, l2, l3, l4, l5⟩ := b_cell hL'
  obtain ⟨u1, u2, u3, u4, u5⟩ := b_cell (lowP S c5)
  obtain ⟨hN', hA'⟩ := hN A k0 cap E T c11
  have how : ∀ b : Nat, ow r L P w b → ow r L P w' b := by
    intro b hb
    rcases hb with hb | ⟨e1, e2, e3, e4⟩
    · exact Or.inl hb
    · exact Or.inr ⟨by omega, e2, e3, by rw [l4]; exact e4⟩
  have hcn : ∀ (i : Nat) (t : List Nat), cn g w L i t → cn g w' L i t := by
    intro i t hc
    obtain ⟨A0, k1, cap1, E0, T0, h1, h2, h3⟩ := hc
    exact ⟨A0, k1, cap1, E0, T0, (hN A0 k1 cap1 E0 T0 h1).1, h2, h3⟩
  refine ⟨⟨c1.keep c2 lowP, c2, c3, c4, c5, hwf, ⟨⟨by rw [b1]; exact s1, by rw [b4]; exact s2, by rw [u1]; exact s3, by rw [u2]; exact s4, s5, by rw [b3]; exact s6, s7, fun i hi => by rw [u3]; exact s8 i hi⟩, ⟨by rw [b3]; exact d2.1, by rw [b3]; exact d2.2⟩, by rw [b3]; exact d3, d4⟩, by rw [b3]; exact c8, c9, c10.keep b4, A, k0, cap, E, T, hN', c12, by rw [(b_cell hA').1]; exact c13⟩, ?_, how, hcn, fun w0 hp hz => ⟨by have := hp.1; omega, fun b hb => ?_, fun i t hc => hcn i t (hp.2.2 i t hc)⟩⟩
  · unfold cpN
    rw [l4, c11.1.2.1]
    exact (b_cell hA').2.1
  · obtain ⟨e1, e2⟩ := hp.2.1 b hb
    refine ⟨?_, how b e2⟩
    rcases hb with hb | hb
    · rw [lowP b hb]; exact e1
    · rw [hz b hb.1]; exact e1
end NEW
/-- a list of one's own: at La, its row at A -/
def jo (g : State) (P r L : Nat) (w w0 : ch_W) (La A k cap T : Nat) (E : Nat → Nat) : Prop := jl g w La A k cap T E ∧ ow r L P w La ∧ P ≤ La ∧ ch_nx w0 ≤ La ∧ ((A < P ∧ ch_tg w A = 55) ∨ (ow r L P w A ∧ P ≤ A ∧ ch_nx w0 ≤ A ∧ ch_tg w A = 25))
section AD
variable {g : State} {P r L S n C1 C2 : Nat} {f : Nat → Nat} {w w0 : ch_W} {σ : ch_S} {tc fr tt op ps : Nat}
theorem jo.pf {w' : ch_W} {La A k cap T : Nat} {E : Nat → Nat} (h : jo g P r L w w0 La A k cap T E) (hp : pf g r L P w w') (hT : ∀ i : Nat, i < k → ow r L P w (E i)) : jo g P r L w' w0 La A k cap T E := by
  obtain ⟨h1, h2, h3, h4, h5⟩ := h
  obtain ⟨a1, a2⟩ := hp.2.1 La h2
  have hA : w'.1 A = w.1 A ∧ ow r L P w' A := by
    rcases h5 with q | q
    · exact hp.2.1 A (Or.inl q.1)
    · exact hp.2.1 A q.1
  refine ⟨h1.keep a1 hA.1 (fun i hi => ?_), a2, h3, h4, ?_⟩
  · rw [(b_cell (hp.2.1 _ (hT i hi)).1).1]; exact (h1.2.2.2.2.2.2.2 i hi).2
  · rw [(b_cell hA.1).1]
    rcases h5 with q | q
    · exact Or.inl q
    · exact Or.inr ⟨hA.2, q.2⟩
/-- an element more -/
theorem jo_add {La A k cap T x : Nat} {E : Nat → Nat} (hC : pjC g P r L S n f w tc fr tt op ps) (h : jo g P r L w w0 La A k cap T E) (hk : k < 100000) (hT : T = 10 ∨ T = 11) (hx : ch_tg w x = T) (hP0 : P ≤ ch_nx w0) (h0 : ch_nx w0 ≤ ch_nx w) (hc1 : ch_cs w + 1 ≤ 601024) (hc2 : ch_sl w + (2 * cap + 10) ≤ 7293034) :
    ∃ w' A' cap', c_J5_add g La (some x) w = some (1, w') ∧ jo g P r L w' w0 La A' (k + 1) cap' T (le_up E k x) ∧ pjC g P r L S n f w' tc fr tt op ps ∧ cpN w' L = cpN w L ∧ (∀ b : Nat, ow r L P w b → ow r L P w' b) ∧ (∀ (i : Nat) (t : List Nat), cn g w L i t → cn g w' L i t) ∧ (pf g r L P w0 w → pf g r L P w0 w') ∧ (∀ b : Nat, ch_tg w b = 10 ∨ ch_tg w b = 11 ∨ ch_tg w b = 27 ∨ ch_tg w b = 28 → w'.1 b = w.1 b) ∧ ch_nx w ≤ ch_nx w' ∧ ch_cs w' ≤ ch_cs w + 1 ∧ ch_sl w' + 4 * cap ≤ ch_sl w + 4 * cap' := by
  obtain ⟨j1, j2, j3, j4, j5⟩ := id h
  have hwf := hC.2.2.2.2.2.1
  have hTT : 0 < T ∧ T < 31 ∧ T ≠ 20 := by omega
  obtain ⟨w', g1, A', cap', g2, g3, g4⟩ := jl_add (g := g) j1 hwf hk hTT hx hc1 hc2
  have hLan := hwf La (by rw [j1.1]; decide)
  have hAn := hwf A (by rcases j1.2.2.2.2.2.2.1 with q | q <;> omega)
  have hk1 := g2.2.2.2.2.1
  obtain ⟨z1, z2, z3, z4⟩ : ch_nx w ≤ ch_nx w' ∧ ch_nx w' ≤ ch_nx w + 1 ∧ ch_cs w' ≤ ch_cs w + 1 ∧ ch_sl w' + 4 * cap ≤ ch_sl w + 4 * cap' := by
    rcases g3 with ⟨q1, q2, q3⟩ | ⟨q1, q2, q3, q4, q5⟩
    · have e1 : ch_nx w' = ch_nx w := by unfold ch_nx; rw [q3]
      have e2 : ch_cs w' = ch_cs w := by unfold ch_cs; rw [q3]
      have e3 : ch_sl w' = ch_sl w := by unfold ch_sl; rw [q3]
      omega
    · have e1 : ch_nx w' = ch_nx w + 1 := by unfold ch_nx; rw [q3]; rfl
      have e2 : ch_cs w' = ch_cs w + 1 := by unfold ch_cs; rw [q3]; rfl
      have e3 : ch_sl w' = ch_sl w + cap' := by unfold ch_sl; rw [q3]; rfl
      omega
  have hA' : (A' = A ∧ ow r L P w A ∧ P ≤ A ∧ ch_nx w0 ≤ A ∧ ch_tg w A = 25) ∨ (A' = ch_nx w ∧ ch_nx w' = ch_nx w + 1) := by
    rcases g3 with ⟨q1, q2, q3⟩ | ⟨q1, q2, q3, q4, q5⟩
    · left
      rcases j5 with q | q
      · exfalso
        rcases j1.2.2.2.2.2.2.1 with y | y <;> omega
      · exact ⟨q1, q⟩
    · right
      exact ⟨q1, by unfold ch_nx; rw [q3]; rfl⟩
  have hwf' : ∀ b, ch_tg w' b ≠ 0 → b < ch_nx w' := by
    intro b hb
    by_cases b1 : b = La
    · omega
    · by_cases b2 : b = A'
      · rcases hA' with q | q <;> omega
      · rw [(b_cell (g4 b b1 b2)).1] at hb
        have := hwf b hb
        omega
  have owD : ∀ b : Nat, ow r L P w b → P ≤ b → b ≠ r ∧ b ≠ L ∧ ch_gr w L fJ5_elementData ≠ some b := by
    intro b hb hPb
    rcases hb with q | q
    · omega
    · exact q.2
  have hch : ∀ a : Nat, a < ch_nx w → (P ≤ a ∧ a ≠ r ∧ a ≠ L ∧ ch_gr w L fJ5_elementData ≠ some a ∧ ch_tg w a ≠ 22) ∨ w'.1 a = w.1 a := by
    intro a ha
    by_cases b1 : a = La
    · left
      rw [b1]
      obtain ⟨y1, y2, y3⟩ := owD La j2 j3
      exact ⟨j3, y1, y2, y3, by rw [j1.1]; decide⟩
    · by_cases b2 : a = A'
      · rcases hA' with ⟨q1, q2, q3, q4, q5⟩ | q
        · left
          rw [b2, q1]
          obtain ⟨y1, y2, y3⟩ := owD A q2 q3
          exact ⟨q3, y1, y2, y3, by rw [q5]; decide⟩
        · omega
      · right
        exact g4 a b1 b2
  obtain ⟨p1, p2, p3, p4, p5⟩ := pjC_gen hC hch z1 hwf'
  have hlow : ∀ a : Nat, a < ch_nx w0 → w'.1 a = w.1 a := fun a ha => g4 a (by omega) (by rcases hA' with q | q <;> omega)
  refine ⟨w', A', cap', g1, ⟨g2, p3 La j2, j3, j4, ?_⟩, p1, p2, p3, p4, fun hp => p5 w0 hp hlow, fun b hb => ?_, z1, z3, z4⟩
  · right
    have ht25 : ch_tg w' A' = 25 := by
      rcases g2.2.2.2.2.2.2.1 with q | q <;> omega
    rcases hA' with ⟨q1, q2, q3, q4, q5⟩ | ⟨q1, q2⟩
    · rw [q1] at ht25 ⊢
      exact ⟨p3 A q2, q3, q4, ht25⟩
    · rw [q1] at ht25 ⊢
      refine ⟨Or.inr ⟨by omega, ?_, ?_, ?_⟩, by omega, h0, ht25⟩
      · have := hwf r (by rw [hC.2.2.2.2.2.2.1.1.1]; decide)
        omega
      · intro q
        obtain ⟨-, -, -, -, -, -, -, -, -, -, A0, k0, cap0, E0, T0, c11, -⟩ := hC
        have := hwf L (by rw [c11.1.1]; decide)
        omega
      · obtain ⟨-, -, -, -, -, -, -, -, -, -, A0, k0, cap0, E0, T0, c11, -⟩ := p1
        intro q
        rw [c11.1.2.1] at q
        have q2' := Option.some.inj q
        obtain ⟨-, -, -, -, -, -, -, -, -, -, A9, k9, cap9, E9, T9, c19, -⟩ := hC
        have hA9 := hwf A9 (by rcases c19.1.2.2.2.2.2.2.1 with y | y <;> omega)
        have hLL : L < ch_nx w := hwf L (by rw [c19.1.1]; decide)
        have hL1 : L ≠ La := fun y => (owD La j2 j3).2.1 y.symm
        have hL2 : L ≠ A' := by rw [q1]; omega
        have e9 := (b_cell (g4 L hL1 hL2)).2.2.2.1 fJ5_elementData
        rw [c11.1.2.1, c19.1.2.1] at e9
        have := Option.some.inj e9
        omega
  · refine g4 b (fun q => ?_) (fun q => ?_)
    · rw [q, j1.1] at hb; omega
    · rcases hA' with ⟨q1, q2, q3, q4, q5⟩ | q2
      · rw [q, q1, q5] at hb; omega
      · have := hwf b (by omega)
        omega
end AD
