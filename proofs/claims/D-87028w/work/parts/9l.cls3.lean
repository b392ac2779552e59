/-! LEVEL B2: classes: the members of a class, its end -/
set_option maxRecDepth 100000
/-- THE PROGRAM BETWEEN CLASSES: c of them are there -/
def cI (g : State) (P r L S n : Nat) (f : Nat → Nat) (C1 C2 : Nat) (wS : ch_W) (σS : ch_S) (frS c M Q : Nat) (w : ch_W) (σ : ch_S) (tc fr tt : Nat) (u : Int) : Prop :=
  pj g P r L S n f C1 C2 w σ tc fr tt 0 0 fr ∧ (∀ x : Nat, x < P → w.1 x = wS.1 x) ∧ ch_nx wS ≤ ch_nx w ∧ fc σS σ ∧ σ.1 fX3_classes = Int32.ofNat (5 + c) ∧ σ.1 fX3_members = Int32.ofNat M ∧ σ.1 fX3_parameters = Int32.ofNat Q ∧ σ.2 fX3_parameterFrom M = Int32.ofNat Q ∧ σ.2 fX3_memberFrom (5 + c) = Int32.ofNat M ∧ 4 * c ≤ fr ∧ 3 * M ≤ fr ∧ 2 * Q ≤ fr ∧
  ∃ (AK capK : Nat) (EK mF : Nat → Nat), jl g w (L + 1) AK c capK 7 EK ∧ ow r L P w (L + 1) ∧ P ≤ L + 1 ∧ lrw r L P w AK ∧ (∀ i : Nat, i < c → kin g r L (L + 1) P w σ (ch_nx w) (nn σ fX3_statements) (5 + c) M Q (EK i) (5 + i) (mF i) (mF (i + 1))) ∧ mF 0 = 0 ∧ mF c = M ∧ rmC L wS σS frS w σ fr (u + c) (4 * capK)
section KM
variable {g : State} {P r L S n C1 C2 : Nat} {f : Nat → Nat} {wS w w' : ch_W} {σS σ σ' : ch_S} {frS c m0 h0 a Lm op cl op' tc fr tt M Q tc' fr' tt' q j : Nat} {u u2 s2 t2 : Int}
theorem pe.low {e : Nat} {w0 : ch_W} (h : pe P C1 C2 w w' e q) (h1 : ∀ x : Nat, x < P → w.1 x = w0.1 x) (h2 : ch_nx w0 ≤ ch_nx w) : pe P C1 C2 w0 w' e q := by
  obtain ⟨z1, z2, z3, z4, z5⟩ := h
  exact ⟨z1, z2, fun a ha => (z3 a ha).trans (h1 a ha), Nat.le_trans h2 z4, z5⟩
/-- a member of the class -/
theorem kI_mem (hAS : pjA L n C1 C2 wS σS frS) (h : kI g P r L S n f C1 C2 wS σS frS c m0 h0 a Lm op cl w σ tc fr tt M Q u) (hu : 0 ≤ u) (hcl : cl ≤ 6 + c) (hq : tc ≠ 1125) :
    (∃ w' σ' tc' fr' tt' Q', c_X4_program_66 g r (some a) w = some (.inl w') ∧ m_X3_member σ = some σ' ∧ kI g P r L S n f C1 C2 wS σS frS c m0 h0 a Lm op cl w' σ' tc' fr' tt' (M + 1) Q' u ∧ fr < fr') ∨
    (∃ e w' σ' q, c_X4_program_66 g r (some a) w = some (.inr (.inr (.error e, w'))) ∧ m_X3_member σ = some σ' ∧ pe P C1 C2 wS w' e q ∧ dC n q 4 σ' ∧ fc σS σ') := by
  obtain ⟨a1, a2, a3, a4, a5, a6, a7, a8, a9, a10, a11, a12, a13, a14, a15, b1, b2, b3, b4, b5, b6, b7, b8, b9, AK, capK, EK, mF, A, cap, E, c1, c2, c3, c4, c5, c6, c7, c8, d1, d2, d3, d4, d5, d6⟩ := id h
  have hat := a1.1.2.2.2.2.2.2.1
  have hr := hat.1.1
  have hn12 := a1.2.1.2.2.2.2.1
  have hf1 := hat.2.2.2.1
  have hf2 := hat.2.2.2.2.1
  have hPn : P ≤ ch_nx w := by omega
  have hKn : L + 1 < ch_nx w := c2.lt hPn
  have hAKn : AK < ch_nx w := by
    rcases c4 with z | z
    · omega
    · exact z.1.lt hPn
  have hKd : ∀ x : Nat, ch_gr w (L + 1) fJ5_elementData = some x → x < ch_nx w := fun x hx => by
    rw [c1.2.1] at hx
    have := Option.some.inj hx
    omega
  unfold c_X4_program_66
  rw [d_rc hr, it_137 hat a1.1.1, Option.bind_some, if_neg hq, if_pos rfl, d_gR b3, b9, d_rc hr]
  rcases po_memb (K := L + 1) a1 c2 hKd ⟨cl, a5, by omega⟩ a6 a12 a7 a13 a8 with ⟨b, w1, σ1, k1, k2, tc1, fr1, tt1, Q1, m1, m2, m3, m4, m5, m6, m7, m8, m9, m10, m11, m12, m13, m14, m15, m16, m17⟩ | ⟨e, w1, σ1, q, k1, k2, k3, k4, k5⟩
  · left
    rw [tb_ok k1]
    have hat1 := m1.1.2.2.2.2.2.2.1
    have hf11 := hat1.2.2.2.1
    have hf12 := hat1.2.2.2.2.1
    have hn1 := m2.1
    have o1 : ∀ x : Nat, ow r L P w x → w1.1 x = w.1 x ∧ ow r L P w1 x := fun x hx => m2.2.2.2.2.2.2 x hx (hx.lt hPn)
    have o2 : ∀ x : Nat, ow2 r L (L + 1) P w x → w1.1 x = w.1 x ∧ ow2 r L (L + 1) P w1 x := fun x hx => m2.2.1 x hx (hx.1.lt hPn)
    have sAK : w1.1 AK = w.1 AK ∧ lrw r L P w1 AK := by
      rcases c4 with z | z
      · have := m2.2.2.2.2.1 AK z.1
        exact ⟨this, Or.inl ⟨z.1, by rw [(b_cell this).1]; exact z.2⟩⟩
      · have := o1 AK z.1
        exact ⟨this.1, Or.inr ⟨this.2, z.2.1, by rw [(b_cell this.1).1]; exact z.2.2⟩⟩
    have sA : w1.1 A = w.1 A := by
      rcases d4 with z | z
      · exact m2.2.2.2.2.1 A z.1
      · exact (o2 A z.1).1
    have d4' : (A < P ∧ ch_tg w1 A = 55) ∨ (ow2 r L (L + 1) P w1 A ∧ h0 ≤ A ∧ ch_tg w1 A = 25) := by
      rw [(b_cell sA).1]
      rcases d4 with z | z
      · exact Or.inl z
      · exact Or.inr ⟨(o2 A z.1).2, z.2⟩
    have hE1 : ∀ i : Nat, i < M - m0 → ch_tg w1 (E i) = 8 := fun i hi => by
      obtain ⟨z1, z2, z3, z4, -⟩ := d5 i hi
      rw [(b_cell (o2 _ z1).1).1]; exact z4
    have d1' := d1.keep (o2 _ d2).1 sA hE1
    have hK1 := o1 _ c2
    have hKr1 : ch_gr w1 (L + 1) fJ5_elementData = some AK := by rw [(b_cell hK1.1).2.2.2.1]; exact c1.2.1
    have hKd1 : ∀ x : Nat, ch_gr w1 (L + 1) fJ5_elementData = some x → x < ch_nx w1 := fun x hx => by
      rw [hKr1] at hx
      have := Option.some.inj hx
      omega
    obtain ⟨r1, r2⟩ := pjC_room m1 hf11
    have hcap := d1.2.2.2.2.2.1
    have hcapK := c1.2.2.2.2.2.1
    have htb : ch_tg w1 b = 8 := m17.2.2.2.1
    obtain ⟨w2, A', cap', g1, g2, g3, g4, g5, g6, g7, g8, g9, g10, g11, g12, g13, g14, g15⟩ := own_ladd (K := L + 1) (h0 := h0) m1.1 d1' (o2 _ d2).2 d3 d4' (by omega) hKd1 (by omega) a15 (by omega) (by decide) htb (by omega) (by omega)
    have hcap' := g2.2.2.2.2.2.1
    rw [d_rc d1'.1, g1, Option.bind_some]
    have hmst := m13
    have hAw := m1.2.2
    have hAS' := hAS
    unfold pjA at hAw hAS'
    unfold bds at m15
    unfold rmC at d6
    have sa1 := (o2 a b1)
    have sa2 : w2.1 a = w1.1 a := g10 a (fun z => by have h7 := d1'.1; rw [← z, (b_cell sa1.1).1, b3] at h7; omega) (fun z => by
      rcases g12 with y | y
      · rcases d4' with x | x
        · have := b1.2.1; omega
        · have h7 := x.2.2; rw [← y, ← z, (b_cell sa1.1).1, b3] at h7; omega
      · have := (b1.1.lt hPn); omega)
    obtain ⟨q1, q2, q3, q4, -⟩ := b_cell (sa2.trans sa1.1)
    have hcn : ∀ (i : Nat) (t : List Nat), cn g w L i t → cn g w2 L i t := fun i t z => g7.1.2.2.2.1 i t (m2.2.2.2.1 i t z)
    have kI' : ∀ x y : Int32, iota g w L σ x y → iota g w2 L σ1 x y := fun x y z => z.keep0 hcn m3.1
    have sAK2 : w2.1 AK = w1.1 AK := by
      rcases c4 with z | z
      · exact g7.1.2.2.2.2 AK z.1
      · refine g10 AK (fun y => ?_) (fun y => ?_)
        · have h7 := d1'.1; rw [← y, (b_cell sAK.1).1, z.2.2] at h7; omega
        · have := g11.1.2.2.2
          rw [(b_cell g9).2.2.2.1, hKr1, y] at this
          exact this rfl
    have tE : ∀ i : Nat, i < c + 1 → ch_tg w2 (EK i) = 7 := fun i hi => by
      by_cases hic : i = c
      · rw [hic, c5, q1]; exact b3
      · obtain ⟨z1, z2, z3, z4, -⟩ := c6 i (by omega)
        have y1 := o2 _ z1
        rw [(b_cell (g7.2 _ y1.2 z2 (Or.inl (by rw [(b_cell y1.1).1]; exact z4))).1).1, (b_cell y1.1).1]; exact z4
    have hMm : M + 1 - m0 = M - m0 + 1 := by omega
    refine ⟨w2, σ1, tc1, fr1, tt1, Q1, rfl, k2, ⟨⟨g3, m1.2.1, ?_⟩, fun x hx => (g7.1.2.2.2.2 x hx).trans ((m2.2.2.2.2.1 x hx).trans (a2 x hx)), by omega, a4.trans m4, by rw [m6]; exact a5, m7, m8, m12, by rw [m5 _ (by decide)]; exact a9, by omega, by omega, by omega, by omega, by omega, a15, g6 _ sa1.2, b2, by rw [q1]; exact b3, by rw [q3, m5 _ (by decide)]; exact kI' _ _ b4, by rw [q3, m5 _ (by decide)]; exact b5, by rw [m5 _ (by decide)]; exact b6, ?_, by rw [q4]; exact b8, by rw [q4]; exact b9, AK, capK, EK, mF, A', cap', le_up E (M - m0) b, c1.keep (g9.trans hK1.1) (sAK2.trans sAK.1) tE, g5 _ hK1.2, c3, ?_, c5, fun i hi => ?_, c7, c8, by rw [hMm]; exact g2, g6 _ (o2 _ d2).2, d3, Or.inr g11, fun k hk2 => ?_, ?_⟩, by omega⟩
    · unfold pjA
      rw [g4]
      omega
    · rw [q3, m5 _ (by decide)]
      rcases b7 with z | z
      · exact Or.inl z
      · exact Or.inr (kI' _ _ z)
    · rcases sAK.2 with z | z
      · exact Or.inl ⟨z.1, by rw [(b_cell sAK2).1]; exact z.2⟩
      · exact Or.inr ⟨g5 _ z.1, z.2.1, by rw [(b_cell sAK2).1]; exact z.2.2⟩
    · exact ((c6 i hi).keep (m2.c1.weak (by omega)) (m3.weak (Nat.le_refl _) (Nat.le_refl _) (Nat.le_refl _)) (kcc.of m5) (by omega) (by omega) (Nat.le_refl _) m13 (Nat.le_succ M) m9 (by omega) (Nat.le_refl _)).keep g7 mfk.refl kcc.refl (by omega) (by omega) (Nat.le_refl _) (Nat.le_refl _) (Nat.le_refl _) (Nat.le_refl _) (by omega) (Nat.le_refl _)
    · unfold le_up
      by_cases hkM : k = M - m0
      · rw [if_pos hkM, hkM, show m0 + (M - m0) = M by omega]
        exact m17.keep (g8 _) mfk.refl (by omega) (by omega) g13 (Nat.le_refl _) (Nat.le_refl _) (Nat.le_refl _) (by omega)
      · rw [if_neg hkM]
        exact ((d5 k (by omega)).keep m2.c0 m3 (by omega) (by omega) hn1 m13 (Nat.le_succ M) m9 (by omega)).keep (g8 _) mfk.refl (by omega) (by omega) g13 (Nat.le_refl _) (Nat.le_refl _) (Nat.le_refl _) (by omega)
    · unfold rmC
      rw [g4]
      omega
  · right
    rw [tb_er k1]
    exact ⟨e, w1, σ1, q, rfl, k2, k3.low a2 a3, k4, a4.trans k5⟩
end KM
