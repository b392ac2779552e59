/-! LEVEL B2: classes: a class' end, the loop of its members -/
set_option maxRecDepth 100000
section KE
variable {g : State} {P r L S n C1 C2 : Nat} {f : Nat → Nat} {wS w w' : ch_W} {σS σ σ' : ch_S} {frS c m0 h0 a Lm op cl op' tc fr tt M Q tc' fr' tt' q j : Nat} {u u2 s2 t2 : Int}
theorem lx_kd0 : lx_kd tc = 0 ↔ tc = 0 := by
  unfold lx_kd
  by_cases h0 : tc = 0
  · rw [if_pos h0]
    exact ⟨fun _ => h0, fun _ => rfl⟩
  · rw [if_neg h0]
    refine ⟨fun z => ?_, fun z => absurd z h0⟩
    split at z
    · exact absurd z (by decide)
    · split at z <;> exact absurd z (by decide)
/-- the class is closed -/
theorem kI_end (hAS : pjA L n C1 C2 wS σS frS) (h : kI g P r L S n f C1 C2 wS σS frS c m0 h0 a Lm (0 + 1) (6 + c) w σ tc fr tt M Q u) (hu : 0 ≤ u) (h43 : 4 * c + 3 ≤ fr) (hq : tc = 1125) :
    (∃ w' σ' tc' fr' tt', c_X4_program_66 g r (some a) w = some (.inr (if tc' = 0 then .inr (.ok (), w') else .inl w')) ∧ m_X3_readClass_102 σ = some σ' ∧ cI g P r L S n f C1 C2 wS σS frS (c + 1) M Q w' σ' tc' fr' tt' 0 ∧ fr < fr') ∨
    (∃ e w' σ' q, c_X4_program_66 g r (some a) w = some (.inr (.inr (.error e, w'))) ∧ m_X3_readClass_102 σ = some σ' ∧ pe P C1 C2 wS w' e q ∧ dC n q 4 σ' ∧ fc σS σ') := by
  have hj := h.1
  have hat := hj.1.2.2.2.2.2.2.1
  have hr := hat.1.1
  have hn12 := hj.2.1.2.2.2.2.1
  have hcB := h.cB (by omega)
  have hlow := h.2.1
  have hnx := h.2.2.1
  have hfc := h.2.2.2.1
  have hf1 := hat.2.2.2.1
  have hf2 := hat.2.2.2.2.1
  have h4c := h.2.2.2.2.2.2.2.2.2.2.1
  unfold c_X4_program_66 m_X3_readClass_102
  rw [d_rc hr, it_137 hat hj.1.1, Option.bind_some, if_pos hq, if_neg (show ¬ (1 : Int32) = 0 by decide), d_rc hr]
  rcases po_closes (c := 125) (v := 0) hj (by decide) (it_137 hat hj.1.1) with ⟨x1, w1, y1, σ1, e1, e2, -, -, ⟨tc1, fr1, tt1, j1, p1, l1⟩, -⟩ | ⟨e, w1, y1, σ1, q, e1, e2, e3, e4⟩
  · left
    have hcls : m_X3_closes 125 σ = some σ1 := bnd_s e2
    have hat1 := j1.1.2.2.2.2.2.2.1
    have htk1 := hat1.2.2.2
    have h1 := h.step j1 p1.s0 (by omega) (by omega)
    obtain ⟨a1, a2, a3, a4, a5, a6, a7, a8, a9, a10, a11, a12, a13, a14, a15, b1, b2, b3, b4, b5, b6, b7, b8, b9, AK, capK, EK, mF, A, cap, E, c1, c2, c3, c4, c5, c6, c7, c8, d1, d2, d3, d4, d5, d6⟩ := id h1
    have hPn : P ≤ ch_nx w1 := by omega
    have hfn1 := htk1.1
    have hfn2 := htk1.2.1
    have hA1 := j1.2.2
    unfold pjA at hA1
    rw [tb_ok e1, d_gI hat1.1.1, hat1.2.2.1, hcls, Option.bind_some, a5, a6, m_mw (show 6 + c < 351 by omega) (by decide)]
    have hk : mfk (nn σ1 fX3_statements) M Q σ1 (md_sa σ1 fX3_memberFrom (6 + c) (Int32.ofNat M)) := mfk_sa (by decide) (Or.inr (Or.inr (Or.inr (Or.inr (Or.inr (Or.inr rfl))))))
    have ea : ∀ x : Nat, x ≠ fX3_memberFrom → (md_sa σ1 fX3_memberFrom (6 + c) (Int32.ofNat M)).2 x = σ1.2 x := fun x hx => md_an hx
    have hkc : kcc (5 + c) σ1 (md_sa σ1 fX3_memberFrom (6 + c) (Int32.ofNat M)) := ⟨fun k _ => ⟨by rw [ea _ (by decide)], by rw [ea _ (by decide)], by rw [ea _ (by decide)]⟩, fun k hk => by rw [md_ga, if_neg (fun z => by omega)]⟩
    have hcap := d1.2.2.2.2.2.1
    have kI' : ∀ x y : Int32, iota g w1 L σ1 x y → iota g w1 L (md_sa σ1 fX3_memberFrom (6 + c) (Int32.ofNat M)) x y := fun x y z => z.keep0 (fun _ _ h => h) hk.1
    refine ⟨w1, _, tc1, fr1, tt1, ?_, rfl, ⟨⟨j1.1, pjM_cl j1.2.1 (by decide), j1.2.2⟩, a2, a3, a4.trans (md_fr.refl.sa (List.mem_append_right _ (by decide))), by rw [md_gi, a5, show 6 + c = 5 + (c + 1) by omega], a6, a7, by rw [ea _ (by decide)]; exact a8, by rw [md_ga, if_pos ⟨rfl, by omega⟩], by omega, a12, a13, AK, capK, EK, fun i => if i = c + 1 then M else mF i, c1, c2, c3, c4, fun i hi => ?_, ?_, ?_, ?_⟩, by omega⟩
    · by_cases hz : tc1 = 0
      · rw [if_pos (lx_kd0.mpr hz), if_pos hz]
      · rw [if_neg (fun z => hz (lx_kd0.mp z)), if_neg hz]
    · dsimp only
      by_cases hic : i = c
      · rw [hic, if_neg (show ¬ c = c + 1 by omega), if_pos rfl, c5, c8]
        refine ⟨b1, b1.1.lt hPn, by omega, b3, by rw [ea _ (by decide)]; exact kI' _ _ b4, by rw [ea _ (by decide)]; exact b5, by rw [ea _ (by decide)]; exact b6, ?_, b8, a10, Nat.le_refl _, by rw [md_ga, if_neg (fun z => by omega)]; exact a9, by rw [md_ga, if_pos ⟨rfl, by omega⟩], Lm, A, cap, E, b9, d1, d2, d2.1.lt hPn, ?_, fun k hk2 => (d5 k hk2).keep cf.refl.c0 hk (by show nn σ1 _ ≤ _; omega) (by show nn σ1 _ ≤ _; omega) (Nat.le_refl _) (Nat.le_refl _) (Nat.le_refl _) (Nat.le_refl _) (by show nn σ1 _ ≤ _; omega)⟩
        · rw [ea _ (by decide)]
          rcases b7 with z | z
          · exact Or.inl z
          · exact Or.inr (kI' _ _ z)
        · rcases d4 with z | z
          · exact Or.inl z
          · exact Or.inr ⟨z.1, z.1.1.lt hPn, z.2.2⟩
      · rw [if_neg (show ¬ i = c + 1 by omega), if_neg (show ¬ i + 1 = c + 1 by omega)]
        exact (c6 i (by omega)).keep cf.refl.c1 hk hkc (by show nn σ1 _ ≤ _; omega) (by show nn σ1 _ ≤ _; omega) a14 (Nat.le_refl _) (Nat.le_refl _) (Nat.le_refl _) (by show nn σ1 _ ≤ _; omega) (by omega)
    · show (if 0 = c + 1 then M else mF 0) = 0
      rw [if_neg (show ¬ 0 = c + 1 by omega)]; exact c7
    · show (if c + 1 = c + 1 then M else mF (c + 1)) = M
      rw [if_pos rfl]
    · unfold rmC at *
      rw [nn_cl, nn_cl, nn_cl]
      omega
  · right
    rw [tb_er e1]
    have hcls : m_X3_closes 125 σ = some σ1 := bnd_s e2
    obtain ⟨d1, d2⟩ := dC_pds e4.s hn12 hcB
    obtain ⟨cc, MM, QQ, k1, k2, k3, k4, k5, k6⟩ := id d1.2.2.2.2
    obtain ⟨f1, f2⟩ := d1.sa (a := fX3_memberFrom) (i := cc) (v := σ1.1 fX3_members) (by decide)
    refine ⟨e, w1, _, q, rfl, ?_, e3.low hlow hnx, f1.mono (by omega), hfc.trans (d2.trans f2)⟩
    rw [hcls, Option.bind_some, k1, m_mw (show cc < 351 by omega) (by decide)]
/-- THE MEMBERS OF A CLASS -/
theorem lp_mem (hAS : pjA L n C1 C2 wS σS frS) : ∀ (N : Nat) (w : ch_W) (σ : ch_S) (tc fr tt M Q : Nat), n - fr ≤ N → 4 * c + 3 ≤ fr → kI g P r L S n f C1 C2 wS σS frS c m0 h0 a Lm (0 + 1) (6 + c) w σ tc fr tt M Q 0 →
    (∃ w' σ' tc' fr' tt' M' Q', ch_loop (fun (s : ch_W) => c_X4_program_66 g r (some a) s) w = some (if tc' = 0 then .inr (.ok (), w') else .inl w') ∧ ch_loop (fun (s : ch_S) => m_X3_readClass_79 s) σ = some σ' ∧ cI g P r L S n f C1 C2 wS σS frS (c + 1) M' Q' w' σ' tc' fr' tt' 0 ∧ fr < fr') ∨
    (∃ e w' σ' q, ch_loop (fun (s : ch_W) => c_X4_program_66 g r (some a) s) w = some (.inr (.error e, w')) ∧ ch_loop (fun (s : ch_S) => m_X3_readClass_79 s) σ = some σ' ∧ pe P C1 C2 wS w' e q ∧ dC n q 6 σ' ∧ fc σS σ') := by
  intro N
  induction N with
  | zero =>
    intro w σ tc fr tt M Q hN h43 h
    have hj := h.1
    have hat := hj.1.2.2.2.2.2.2.1
    have htk := hat.2.2.2
    have hwr := hj.2.1.2.2.1
    have htc : tc = 0 := Classical.byContradiction fun z => by
      have := htk.lt z
      have := htk.2.1
      omega
    have s125 : m_X3_isSign 125 σ = some (if tc = 1000 + 125 then 1 else 0) := ms_sign (c := 125) hj.2.1 htk (by decide)
    rcases kI_mem hAS h (by omega) (by omega) (by omega) with ⟨w1, σ1, tc1, fr1, tt1, Q1, k1, k2, k3, k4⟩ | ⟨e, w1, σ1, q, k1, k2, k3, k4, k5⟩
    · exfalso
      have h1 := k3.1.1.2.2.2.2.2.2.1.2.2.2
      have := h1.1
      have := h1.2.1
      have := htk.1
      have := htk.2.1
      omega
    · right
      obtain ⟨σ2, f1, f2, f3, -⟩ := dm_79 k4 (by omega)
      refine ⟨e, w1, σ2, q, ch_loop_inr k1, ?_, k3, f2.mono (by omega), k5.trans f3⟩
      rw [ch_loop_inl (a' := σ1), f1]
      show m_X3_readClass_79 σ = _
      unfold m_X3_readClass_79
      rw [hwr, if_pos bn_m1, s125, Option.bind_some, if_neg (show ¬ tc = 1000 + 125 by omega), if_pos rfl, k2]
      rfl
  | succ N ih =>
    intro w σ tc fr tt M Q hN h43 h
    have hj := h.1
    have hat := hj.1.2.2.2.2.2.2.1
    have htk := hat.2.2.2
    have hwr := hj.2.1.2.2.1
    have s125 : m_X3_isSign 125 σ = some (if tc = 1000 + 125 then 1 else 0) := ms_sign (c := 125) hj.2.1 htk (by decide)
    by_cases hq : tc = 1125
    · have h79 : ∀ σ', m_X3_readClass_102 σ = some σ' → ch_loop (fun (s : ch_S) => m_X3_readClass_79 s) σ = some σ' := fun σ' hσ => by
        refine ch_loop_inr ?_
        show m_X3_readClass_79 σ = _
        unfold m_X3_readClass_79
        rw [hwr, if_pos bn_m1, s125, Option.bind_some, if_pos (show tc = 1000 + 125 by omega), if_neg (show ¬ (1 : Int32) = 0 by decide), hσ]
        rfl
      rcases kI_end hAS h (by omega) h43 hq with ⟨w1, σ1, tc1, fr1, tt1, k1, k2, k3, k4⟩ | ⟨e, w1, σ1, q, k1, k2, k3, k4, k5⟩
      · exact Or.inl ⟨w1, σ1, tc1, fr1, tt1, M, Q, ch_loop_inr k1, h79 _ k2, k3, k4⟩
      · exact Or.inr ⟨e, w1, σ1, q, ch_loop_inr k1, h79 _ k2, k3, k4.mono (by omega), k5⟩
    · have h79 : ∀ σ1, m_X3_member σ = some σ1 → ch_loop (fun (s : ch_S) => m_X3_readClass_79 s) σ = ch_loop (fun (s : ch_S) => m_X3_readClass_79 s) σ1 := fun σ1 hσ => by
        refine ch_loop_inl ?_
        show m_X3_readClass_79 σ = _
        unfold m_X3_readClass_79
        rw [hwr, if_pos bn_m1, s125, Option.bind_some, if_neg (show ¬ tc = 1000 + 125 by omega), if_pos rfl, hσ]
        rfl
      rcases kI_mem hAS h (by omega) (by omega) hq with ⟨w1, σ1, tc1, fr1, tt1, Q1, k1, k2, k3, k4⟩ | ⟨e, w1, σ1, q, k1, k2, k3, k4, k5⟩
      · rw [ch_loop_inl (a' := w1) k1, h79 σ1 k2]
        have hfn := k3.1.1.2.2.2.2.2.2.1.2.2.2
        rcases ih w1 σ1 tc1 fr1 tt1 (M + 1) Q1 (by have := hfn.1; have := hfn.2.1; omega) (by omega) k3 with ⟨w2, σ2, tc2, fr2, tt2, M2, Q2, z1, z2, z3, z4⟩ | z
        · exact Or.inl ⟨w2, σ2, tc2, fr2, tt2, M2, Q2, z1, z2, z3, by omega⟩
        · exact Or.inr z
      · right
        obtain ⟨σ2, f1, f2, f3, -⟩ := dm_79 k4 (by omega)
        exact ⟨e, w1, σ2, q, ch_loop_inr k1, (h79 σ1 k2).trans f1, k3, f2.mono (by omega), k5.trans f3⟩
end KE
