/-! LEVEL B2: classes: a class that is being read -/
set_option maxRecDepth 100000
section LB
variable {g : State} {P r L S n K h0 : Nat} {f : Nat → Nat} {w w' : ch_W} {tc fr tt op ps : Nat}
/-- a member more in a class' list -/
theorem own_ladd {La A k cap T x : Nat} {E : Nat → Nat} (hC : pjC g P r L S n f w tc fr tt op ps) (h : jl g w La A k cap T E) (hLa : ow2 r L K P w La) (h0L : h0 ≤ La) (hA1 : (A < P ∧ ch_tg w A = 55) ∨ (ow2 r L K P w A ∧ h0 ≤ A ∧ ch_tg w A = 25)) (hKn : K < ch_nx w) (hKd : ∀ y : Nat, ch_gr w K fJ5_elementData = some y → y < ch_nx w) (h0n : h0 ≤ ch_nx w) (hP0 : P ≤ h0) (hk : k < 100000) (hT : 0 < T ∧ T < 31 ∧ T ≠ 20) (hx : ch_tg w x = T) (hc1 : ch_cs w + 1 ≤ 601024) (hc2 : ch_sl w + (2 * cap + 10) ≤ 7293034) :
    ∃ w' A' cap', c_J5_add g La (some x) w = some (1, w') ∧ jl g w' La A' (k + 1) cap' T (le_up E k x) ∧ pjC g P r L S n f w' tc fr tt op ps ∧ cpN w' L = cpN w L ∧ (∀ b : Nat, ow r L P w b → ow r L P w' b) ∧ (∀ b : Nat, ow2 r L K P w b → ow2 r L K P w' b) ∧ cf1 g r L K P h0 w w' ∧ (∀ hA : Nat, cf0 g r L K P hA w w') ∧ w'.1 K = w.1 K ∧ (∀ a : Nat, a ≠ La → a ≠ A' → w'.1 a = w.1 a) ∧ (ow2 r L K P w' A' ∧ h0 ≤ A' ∧ ch_tg w' A' = 25) ∧ (A' = A ∨ A' = ch_nx w) ∧ ch_nx w ≤ ch_nx w' ∧ ch_cs w' ≤ ch_cs w + 1 ∧ ch_sl w' + 4 * cap ≤ ch_sl w + 4 * cap' := by
  have hlr : lrw r L P w A := by
    rcases hA1 with z | z
    · exact Or.inl z
    · exact Or.inr ⟨z.1.1, z.1.2.1, z.2.2⟩
  obtain ⟨w', A', cap', g1, g2, g3, g4, g5, g6, g7, g8, g9, g10, g11, g12, g13, g14⟩ := lst_add hC h hLa.1 hLa.2.1 hlr hk hT hx hc1 hc2
  have hPn : P ≤ ch_nx w := by omega
  have hA2 : A' ≠ K ∧ h0 ≤ A' ∧ ch_gr w K fJ5_elementData ≠ some A' ∧ (∀ y : Nat, y < ch_nx w → ch_tg w y ≠ 25 → y ≠ A') := by
    rcases g8 with ⟨q1, q2, q3⟩ | q
    · rcases hA1 with z | z
      · omega
      · rw [q1]; exact ⟨z.1.2.2.1, z.2.1, z.1.2.2.2, fun y _ hy e => hy (by rw [e]; exact z.2.2)⟩
    · refine ⟨by omega, by omega, fun y => ?_, fun y hy _ => by omega⟩
      have := hKd _ y
      omega
  have hK' : w'.1 K = w.1 K := g7 K (fun z => hLa.2.2.1 z.symm) (fun z => hA2.1 z.symm)
  have hKr : ch_gr w' K fJ5_elementData = ch_gr w K fJ5_elementData := (b_cell hK').2.2.2.1 _
  have o2 : ∀ b : Nat, ow2 r L K P w b → ow2 r L K P w' b := fun b hb => ⟨g5 b hb.1, hb.2.1, hb.2.2.1, by rw [hKr]; exact hb.2.2.2⟩
  have low : ∀ y : Nat, y < P → w'.1 y = w.1 y := fun y hy => g7 y (by have := hLa.2.1; omega) (by omega)
  have htr : ∀ y : Nat, ow r L P w y → ch_tg w y ≠ 14 → ch_tg w y ≠ 25 → w'.1 y = w.1 y := fun y hy h1 h2 => g7 y (fun z => h1 (by rw [z]; exact h.1)) (hA2.2.2.2 y (hy.lt hPn) h2)
  have hc0 : ∀ hA : Nat, cf0 g r L K P hA w w' := fun hA => ⟨g12, fun y hy _ ht => ⟨htr y hy.1 (by omega) (by omega), o2 y hy⟩, fun y hy ht => ⟨htr y hy (by omega) (by omega), g5 y hy⟩, g6, low⟩
  have hgA : ow r L P w' A' := by
    rcases g9 with z | z
    · omega
    · exact z.1
  have htA : ch_tg w' A' = 25 := by
    rcases g9 with z | z
    · omega
    · exact z.2.2
  refine ⟨w', A', cap', g1, g2, g3, g4, g5, o2, ⟨hc0 h0, fun y hy hl _ => ⟨g7 y (by omega) (by omega), o2 y hy⟩⟩, hc0, hK', g7, ⟨⟨hgA, g10, hA2.1, by rw [hKr]; exact hA2.2.2.1⟩, hA2.2.1, htA⟩, ?_, g12, g13, g14⟩
  rcases g8 with q | q
  · exact Or.inl q.1
  · exact Or.inr q
/-- a class more in the list of classes -/
theorem k_add {A k cap x : Nat} {E : Nat → Nat} (hC : pjC g P r L S n f w tc fr tt op ps) (h : jl g w K A k cap 7 E) (hKo : ow r L P w K) (hPK : P ≤ K) (hA1 : lrw r L P w A) (hk : k < 100000) (hx : ch_tg w x = 7) (hc1 : ch_cs w + 1 ≤ 601024) (hc2 : ch_sl w + (2 * cap + 10) ≤ 7293034) :
    ∃ w' A' cap', c_J5_add g K (some x) w = some (1, w') ∧ jl g w' K A' (k + 1) cap' 7 (le_up E k x) ∧ pjC g P r L S n f w' tc fr tt op ps ∧ cpN w' L = cpN w L ∧ (∀ b : Nat, ow r L P w b → ow r L P w' b) ∧ (∀ b : Nat, ow2 r L K P w b → w'.1 b = w.1 b ∧ ow2 r L K P w' b) ∧ (∀ hA : Nat, cf1 g r L K P hA w w') ∧ lrw r L P w' A' ∧ (A' = A ∨ A' = ch_nx w) ∧ ch_nx w ≤ ch_nx w' ∧ ch_cs w' ≤ ch_cs w + 1 ∧ ch_sl w' + 4 * cap ≤ ch_sl w + 4 * cap' := by
  obtain ⟨w', A', cap', g1, g2, g3, g4, g5, g6, g7, g8, g9, g10, g11, g12, g13, g14⟩ := lst_add hC h hKo hPK hA1 hk (by decide) hx hc1 hc2
  have hwf := hC.2.2.2.2.2.1
  have hPn : P ≤ ch_nx w := by
    have := hC.2.2.1
    have := hwf r (by rw [hC.2.2.2.2.2.2.1.1.1]; decide)
    omega
  have hdK : ch_gr w K fJ5_elementData = some A := h.2.1
  have hdK' : ch_gr w' K fJ5_elementData = some A' := g2.2.1
  have hne : ∀ b : Nat, ow2 r L K P w b → b ≠ A' := fun b hb z => by
    rcases g8 with ⟨q1, -⟩ | q
    · exact hb.2.2.2 (by rw [hdK, z, q1])
    · have := hb.1.lt hPn
      omega
  have o2 : ∀ b : Nat, ow2 r L K P w b → w'.1 b = w.1 b ∧ ow2 r L K P w' b := fun b hb => ⟨g7 b hb.2.2.1 (hne b hb), g5 b hb.1, hb.2.1, hb.2.2.1, fun z => by
    rw [hdK'] at z
    exact hne b hb (Option.some.inj z).symm⟩
  have htr : ∀ y : Nat, ow r L P w y → (ch_tg w y = 11 ∨ ch_tg w y = 27 ∨ ch_tg w y = 28 ∨ ch_tg w y = 10) → w'.1 y = w.1 y ∧ ow r L P w' y := fun y hy ht => ⟨g7 y (fun z => by rw [z, h.1] at ht; omega) (fun z => by
    rcases g8 with ⟨q1, q2, q3⟩ | q
    · rcases hA1 with q | q
      · omega
      · rw [z, q1, q.2.2] at ht; omega
    · have := hy.lt hPn
      omega), g5 y hy⟩
  have low : ∀ y : Nat, y < P → w'.1 y = w.1 y := fun y hy => g7 y (by omega) (by omega)
  refine ⟨w', A', cap', g1, g2, g3, g4, g5, o2, fun hA => ⟨⟨g12, fun y hy _ _ => o2 y hy, htr, g6, low⟩, fun y hy _ _ => o2 y hy⟩, g9, ?_, g12, g13, g14⟩
  rcases g8 with q | q
  · exact Or.inl q.1
  · exact Or.inr q
end LB
/-- room since the program's begin -/
def rmC (L : Nat) (wS : ch_W) (σS : ch_S) (frS : Nat) (w : ch_W) (σ : ch_S) (fr : Nat) (k s : Int) : Prop := frS ≤ fr ∧ (ch_cs w : Int) + 32 * k ≤ ch_cs wS + 128 * ((fr : Int) - frS) ∧ (ch_sl w : Int) + 4 * cpN wS L + 256 * k ≤ ch_sl wS + 1024 * ((fr : Int) - frS) + 4 * cpN w L + s ∧ (nn σ fX3_nodes : Int) ≤ nn σS fX3_nodes + ((fr : Int) - frS) ∧ (nn σ fX3_listed : Int) ≤ nn σS fX3_listed + ((fr : Int) - frS) ∧ (nn σ fX3_statements : Int) ≤ nn σS fX3_statements + ((fr : Int) - frS)
/-- A CLASS THAT IS BEING READ: a, the c-th; members m0..M -/
def kI (g : State) (P r L S n : Nat) (f : Nat → Nat) (C1 C2 : Nat) (wS : ch_W) (σS : ch_S) (frS c m0 h0 a Lm : Nat) (op cl : Nat) (w : ch_W) (σ : ch_S) (tc fr tt M Q : Nat) (u : Int) : Prop :=
  pj g P r L S n f C1 C2 w σ tc fr tt op op fr ∧ (∀ x : Nat, x < P → w.1 x = wS.1 x) ∧ ch_nx wS ≤ ch_nx w ∧ fc σS σ ∧ σ.1 fX3_classes = Int32.ofNat cl ∧ σ.1 fX3_members = Int32.ofNat M ∧ σ.1 fX3_parameters = Int32.ofNat Q ∧ σ.2 fX3_parameterFrom M = Int32.ofNat Q ∧ σ.2 fX3_memberFrom (5 + c) = Int32.ofNat m0 ∧ m0 ≤ M ∧ 4 * c + 2 ≤ fr ∧ 3 * M ≤ fr ∧ 2 * Q ≤ fr ∧ h0 ≤ ch_nx w ∧ P ≤ h0 ∧
  ow2 r L (L + 1) P w a ∧ h0 ≤ a ∧ ch_tg w a = 7 ∧ iota g w L σ (ch_gi w a fX6_name) (σ.2 fX3_classId (5 + c)) ∧ ch_gi w a fX6_place = σ.2 fX3_classAt (5 + c) ∧ (∃ p, σ.2 fX3_classAt (5 + c) = Int32.ofNat p ∧ p ≤ 3000) ∧ ((ch_gi w a fX6_parentName = -1 ∧ σ.2 fX3_parentId (5 + c) = -1) ∨ iota g w L σ (ch_gi w a fX6_parentName) (σ.2 fX3_parentId (5 + c))) ∧ ch_gr w a fX6_parent = none ∧ ch_gr w a fX6_members = some Lm ∧
  ∃ (AK capK : Nat) (EK mF : Nat → Nat) (A cap : Nat) (E : Nat → Nat), jl g w (L + 1) AK (c + 1) capK 7 EK ∧ ow r L P w (L + 1) ∧ P ≤ L + 1 ∧ lrw r L P w AK ∧ EK c = a ∧ (∀ i : Nat, i < c → kin g r L (L + 1) P w σ h0 (nn σ fX3_statements) (5 + c) M Q (EK i) (5 + i) (mF i) (mF (i + 1))) ∧ mF 0 = 0 ∧ mF c = m0 ∧
  jl g w Lm A (M - m0) cap 8 E ∧ ow2 r L (L + 1) P w Lm ∧ h0 ≤ Lm ∧ ((A < P ∧ ch_tg w A = 55) ∨ (ow2 r L (L + 1) P w A ∧ h0 ≤ A ∧ ch_tg w A = 25)) ∧ (∀ k : Nat, k < M - m0 → mem g r L (L + 1) P w σ (ch_nx w) (nn σ fX3_statements) M Q (E k) (m0 + k)) ∧
  rmC L wS σS frS w σ fr (u + (c + 1) + (M - m0 : Nat)) (4 * capK + 4 * cap)
section KJ
variable {g : State} {P r L S n C1 C2 : Nat} {f : Nat → Nat} {wS w w' : ch_W} {σS σ σ' : ch_S} {frS c m0 h0 a Lm op cl op' tc fr tt M Q tc' fr' tt' : Nat} {u u2 s2 t2 : Int}
/-- reading on -/
theorem kI.step (h : kI g P r L S n f C1 C2 wS σS frS c m0 h0 a Lm op cl w σ tc fr tt M Q u) (hj : pj g P r L S n f C1 C2 w' σ' tc' fr' tt' op' op' fr') (hp : prs g P r L u2 s2 t2 w σ fr w' σ' fr') (hs : 0 ≤ s2) (ht : 0 ≤ t2) : kI g P r L S n f C1 C2 wS σS frS c m0 h0 a Lm op' cl w' σ' tc' fr' tt' M Q (u + u2) := by
  obtain ⟨a1, a2, a3, a4, a5, a6, a7, a8, a9, a10, a11, a12, a13, a14, a15, b1, b2, b3, b4, b5, b6, b7, b8, b9, AK, capK, EK, mF, A, cap, E, c1, c2, c3, c4, c5, c6, c7, c8, d1, d2, d3, d4, d5, d6⟩ := h
  obtain ⟨p1, p2, p3⟩ := hp
  unfold bds at p3
  have hA' := hj.2.2
  unfold pjA at hA'
  have hf' := hj.1.2.2.2.2.2.2.1.2.2.2
  have hf1 := hf'.1
  have hf2 := hf'.2.1
  have hPn : P ≤ ch_nx w := by omega
  have e : ∀ a : Nat, a ∈ cla → σ'.2 a = σ.2 a := fun a ha => p2.1.2 a (by revert a; decide)
  have ek : ∀ a : Nat, a ∈ clk → σ'.1 a = σ.1 a := fun a ha => p2.1.1 a (by revert a; decide)
  have kI' : ∀ x y : Int32, iota g w L σ x y → iota g w' L σ' x y := fun x y z => z.keep0 p1.2.2 p2.mg
  have hcf : ∀ hA : Nat, cf g r L (L + 1) P hA w w' := fun hA => p1.cf c2
  have hk : ∀ hs : Nat, hs ≤ nn σ fX3_statements → mfk hs M Q σ σ' := fun hs hh => p2.k hh
  have hkc : ∀ Cn : Nat, kcc Cn σ σ' := fun Cn => kcc.of (fun a ha => e a (by revert a; decide))
  have hst := p2.2.2.2.1
  have sa := (p1.2.1 a b1.1).1
  obtain ⟨q1, q2, q3, q4, -⟩ := b_cell sa
  have o2 : ∀ x : Nat, ow2 r L (L + 1) P w x → w'.1 x = w.1 x ∧ ow2 r L (L + 1) P w' x := fun x hx => (hcf (ch_nx w)).2.1 x hx (hx.1.lt hPn)
  have sAK : w'.1 AK = w.1 AK ∧ lrw r L P w' AK := by
    rcases c4 with z | z
    · have := p1.2.1 AK (Or.inl z.1)
      exact ⟨this.1, Or.inl ⟨z.1, by rw [(b_cell this.1).1]; exact z.2⟩⟩
    · have := p1.2.1 AK z.1
      exact ⟨this.1, Or.inr ⟨this.2, z.2.1, by rw [(b_cell this.1).1]; exact z.2.2⟩⟩
  have sA : w'.1 A = w.1 A := by
    rcases d4 with z | z
    · exact (p1.2.1 A (Or.inl z.1)).1
    · exact (o2 A z.1).1
  have tE : ∀ i : Nat, i < c + 1 → ch_tg w' (EK i) = 7 := fun i hi => by
    by_cases hic : i = c
    · rw [hic, c5, q1]; exact b3
    · obtain ⟨z1, z2, z3, z4, -⟩ := c6 i (by omega)
      rw [(b_cell (o2 _ z1).1).1]; exact z4
  refine ⟨hj, fun x hx => ((p1.2.1 x (Or.inl hx)).1).trans (a2 x hx), by have := p1.1; omega, a4.trans p2.fc, by rw [ek _ (by decide)]; exact a5, by rw [ek _ (by decide)]; exact a6, by rw [ek _ (by decide)]; exact a7, by rw [e _ (by decide)]; exact a8, by rw [e _ (by decide)]; exact a9, a10, by omega, by omega, by omega, by have := p1.1; omega, a15, (o2 a b1).2, b2, by rw [q1]; exact b3, by rw [q3, e _ (by decide)]; exact kI' _ _ b4, by rw [q3, e _ (by decide)]; exact b5, by rw [e _ (by decide)]; exact b6, ?_, by rw [q4]; exact b8, by rw [q4]; exact b9, AK, capK, EK, mF, A, cap, E, c1.keep (p1.2.1 _ c2).1 sAK.1 tE, (p1.2.1 _ c2).2, c3, sAK.2, c5, fun i hi => ?_, c7, c8, d1.keep (o2 _ d2).1 sA (fun i hi => ?_), (o2 _ d2).2, d3, ?_, fun k hk2 => ?_, ?_⟩
  · rw [q3, e _ (by decide)]
    rcases b7 with z | z
    · exact Or.inl z
    · exact Or.inr (kI' _ _ z)
  · exact (c6 i hi).keep (hcf _).c1 (hk _ (Nat.le_refl _)) (hkc _) (by omega) (by omega) (Nat.le_refl _) hst (Nat.le_refl _) (Nat.le_refl _) (by omega) (Nat.le_refl _)
  · obtain ⟨z1, z2, z3, z4, -⟩ := d5 i hi
    rw [(b_cell (o2 _ z1).1).1]; exact z4
  · rw [(b_cell sA).1]
    rcases d4 with z | z
    · exact Or.inl z
    · exact Or.inr ⟨(o2 A z.1).2, z.2⟩
  · exact (d5 k hk2).keep (hcf _).c0 (hk _ (Nat.le_refl _)) (by omega) (by omega) p1.1 hst (Nat.le_refl _) (Nat.le_refl _) (by omega)
  · unfold rmC at *
    omega
theorem kI.cB (h : kI g P r L S n f C1 C2 wS σS frS c m0 h0 a Lm op cl w σ tc fr tt M Q u) (hcl : cl ≤ 6 + c) : cB 0 σ := by
  obtain ⟨a1, a2, a3, a4, a5, a6, a7, a8, a9, a10, a11, a12, a13, -⟩ := h
  have hf2 := a1.1.2.2.2.2.2.2.1.2.2.2.2.1
  have hf1 := a1.1.2.2.2.2.2.2.1.2.2.2.1
  have hn12 := a1.2.1.2.2.2.2.1
  exact ⟨cl, M, Q, a5, a6, a7, by omega, by omega, by omega⟩
end KJ
