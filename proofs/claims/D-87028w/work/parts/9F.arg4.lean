/-! LEVEL B2: arguments of both sides: the loop, whole -/
set_option maxRecDepth 100000
section ARG
variable {g : State} {P r L S n C1 C2 : Nat} {f : Nat → Nat} {w0 : ch_W} {σ0 : ch_S} {op fr0 : Nat}
/-- the state behind another argument -/
theorem aI_more {La F s i A cap : Nat} {E Y : Nat → Nat} {w w3 : ch_W} {σ σ3 : ch_S} {tc fr tt tc3 fr3 tt3 a3 nd3 : Nat} (hA0 : pjA L n C1 C2 w0 σ0 fr0) (hP0 : P ≤ ch_nx w0) (hI : aI g P r L S n f C1 C2 op w0 σ0 fr0 La F s w σ tc fr tt i A cap E Y) (hs : 1 ≤ s) (z1 : nd3 + 1 = nn σ3 fX3_nodes) (z2 : vt g r L P w3 σ3 a3 (nn σ fX3_nodes) nd3) (z3 : pj g P r L S n f C1 C2 w3 σ3 tc3 fr3 tt3 (op + 1) (op + 1) fr3) (z4 : pr g P r L 2 0 w σ fr w3 σ3 fr3) (z5 : fr < fr3) :
    ∃ w4 A' cap', ch_tg w3 La = 14 ∧ c_J5_add g La (some a3) w3 = some (1, w4) ∧ σ3.1 fX3_held = Int32.ofNat (F + i) ∧ F + i < 2999 ∧ aI g P r L S n f C1 C2 op w0 σ0 fr0 La F s w4 (ma_h σ3 F i (Int32.ofNat nd3)) tc3 fr3 tt3 (i + 1) A' cap' (le_up E i a3) (fun k => if k = i + 1 then nd3 + 1 else Y k) := by
  obtain ⟨j1, j2, j3, j4, j5, j6, j7, j8, j9, j10, j11, i1, i2, i3, i4, i5⟩ := hI
  have hb4 := z4.2.2
  unfold bd at hb4
  have hA3 := z3.2.2
  have hA03 := hA0
  unfold pjA at hA3 hA03
  have htk3 := z3.1.2.2.2.2.2.2.1.2.2.2
  have hfn := htk3.2.1
  have hff := htk3.1
  have hn12 := z3.2.1.2.2.2.2.1
  have hvow : ∀ k : Nat, k < i → ow r L P w (E k) := fun k hk => by
    have := (j11 k hk).2.2
    rw [vt] at this
    exact this.1
  have hjo := j1.pf z4.1 hvow
  have hcapb := hjo.1.2.2.2.2.2.1
  have hta3 : ch_tg w3 a3 = 11 := by rw [vt] at z2; exact z2.2.2.1
  have hlo3 : nn σ fX3_nodes ≤ nd3 := by rw [vt] at z2; exact z2.2.2.2.1
  obtain ⟨r1, r2⟩ := pjC_room z3 hff
  have hheld : σ3.1 fX3_held = Int32.ofNat (F + i) := z4.2.1.2.2.2.2.1.trans j7
  have hcapn : cap ≤ 2 * i + 10 := hcapb
  have hpf3 := j3.trans z4.1
  obtain ⟨w4, A', cap', g1, g2, g3, g4, g5, g6, g7, g8, g9, g10, g11⟩ := jo_add z3.1 hjo (by omega) (Or.inr rfl) hta3 hP0 hpf3.1 (by omega) (by omega)
  have hf := ma_fr (σ := σ3) (F := F) (i := i) (v := Int32.ofNat nd3)
  have m1 : nn (ma_h σ3 F i (Int32.ofNat nd3)) fX3_nodes = nn σ3 fX3_nodes := nn_fr hf (by decide)
  have m2 : nn (ma_h σ3 F i (Int32.ofNat nd3)) fX3_listed = nn σ3 fX3_listed := nn_fr hf (by decide)
  have m3 : nn (ma_h σ3 F i (Int32.ofNat nd3)) fX3_statements = nn σ3 fX3_statements := nn_fr hf (by decide)
  have m4 : nn (ma_h σ3 F i (Int32.ofNat nd3)) fX3_held = F + (i + 1) := by
    unfold nn ma_h
    rw [md_gs, lw_nat (by omega)]
  have hM4 : pjM n f (ma_h σ3 F i (Int32.ofNat nd3)) tc3 fr3 tt3 (op + 1) := by
    obtain ⟨p1, p2, p3, p4, p5, ⟨kM, TM, p6, p7, p8⟩, p9⟩ := z3.2.1
    exact ⟨p1.fr hf (by decide) (by decide), p2, p3, p4, p5, ⟨kM, TM, p6.fr hf (by decide) (by decide) (by decide) (by decide), p7, p8⟩, ⟨by rw [m1]; exact p9.1, by rw [m2]; exact p9.2.1, by rw [m4]; rfl, by rw [m3]; exact p9.2.2.2⟩⟩
  have hFle : F ≤ nn σ fX3_held := by unfold nn; rw [j7, lw_nat (by omega)]; omega
  have hmf3 : mf (mh σ F) (mh σ3 F) := mh_mf z4.2.1 hFle (by omega)
  have hmf4 : mf (mh σ3 F) (mh (ma_h σ3 F i (Int32.ofNat nd3)) F) := by
    refine ⟨⟨fun k hk => ?_, fun a ha => ?_⟩, Nat.le_refl _, Nat.le_refl _, Nat.le_refl _, rfl, fun a ha k _ => ?_, fun k _ => ?_, fun k hk => ?_, fun a ha k _ => ?_, fun j t q => ?_⟩
    · have hkh : k ≠ fX3_held := fun q => hk (by rw [q]; decide)
      unfold mh
      rw [md_get, if_neg hkh, md_get, if_neg hkh, hf.1 _ (by simp [hkh])]
    · have hah : a ≠ fX3_hold := fun q => ha (by rw [q]; decide)
      show (ma_h σ3 F i (Int32.ofNat nd3)).2 a = σ3.2 a
      exact hf.2 a (by simp [hah])
    · have hah : a ≠ fX3_hold := fun q => by rw [q] at ha; exact absurd ha (by decide)
      show (ma_h σ3 F i (Int32.ofNat nd3)).2 a k = σ3.2 a k
      rw [hf.2 a (by simp [hah])]
    · show (ma_h σ3 F i (Int32.ofNat nd3)).2 fX3_list k = σ3.2 fX3_list k
      rw [hf.2 _ (by decide)]
    · rw [nn_mh (by omega)] at hk
      show (ma_h σ3 F i (Int32.ofNat nd3)).2 fX3_hold k = σ3.2 fX3_hold k
      unfold ma_h
      rw [md_ia, md_ga, if_neg (fun q => by omega)]
    · have hah : a ≠ fX3_hold := fun q => by rw [q] at ha; exact absurd ha (by decide)
      show (ma_h σ3 F i (Int32.ofNat nd3)).2 a k = σ3.2 a k
      rw [hf.2 a (by simp [hah])]
    · obtain ⟨k, T, b1, b2, b3, b4⟩ := q
      have b1' : md_N σ3 k T := ⟨b1.1, b1.2⟩
      have b5 := b1'.fr hf (by decide) (by decide) (by decide) (by decide)
      exact ⟨k, T, ⟨b5.1, b5.2⟩, b2, b3, b4⟩
  have hvk : ∀ (b lo nd : Nat), vt g r L P w3 σ3 b lo nd → vt g r L P w4 (ma_h σ3 F i (Int32.ofNat nd3)) b lo nd := by
    intro b lo nd hv
    refine vt.keep0 (fun x hx hor => ⟨g8 x ?_, g5 x hx⟩) g6 ⟨by rw [m1]; exact Nat.le_refl _, by rw [m2]; exact Nat.le_refl _, fun a ha k _ => ?_, fun k _ => by rw [hf.2 _ (by decide)], fun j t q => mn_fr q hf (by decide) (by decide) (by decide) (by decide)⟩ (by omega) (by omega) (nd + 1) b lo nd (by omega) hv
    · rcases hor with ⟨lo', n', q⟩ | q
      · rw [vt] at q
        exact Or.inr (Or.inl q.2.2.1)
      · exact Or.inr (Or.inr (Or.inl q))
    · have hah : a ≠ fX3_hold := fun q => by rw [q] at ha; exact absurd ha (by decide)
      rw [hf.2 a (by simp [hah])]
  have hcap4 := g2.1.2.2.2.2.2.1
  refine ⟨w4, A', cap', hjo.1.1, g1, hheld, by omega, g2, ⟨g3, hM4, ?_⟩, g7 hpf3, (j4.trans hmf3).trans hmf4, by omega, j6, rfl, by omega, ?_, ?_, fun k hk => ?_, ?_, ?_, ?_, ?_, ?_⟩
  · unfold pjA
    rw [g4, m1, m2, m3, m4]
    omega
  · show (if 0 = i + 1 then _ else Y 0) = _
    rw [if_neg (by omega)]; exact j9
  · show (if i + 1 = i + 1 then nd3 + 1 else _) = _
    rw [if_pos rfl, m1]; exact z1
  · show (if k = i + 1 then _ else Y k) < (if k + 1 = i + 1 then nd3 + 1 else Y (k + 1)) ∧ _ = Int32.ofNat ((if k + 1 = i + 1 then nd3 + 1 else Y (k + 1)) - 1) ∧ vt g r L P w4 (ma_h σ3 F i (Int32.ofNat nd3)) (le_up E i a3 k) (if k = i + 1 then nd3 + 1 else Y k) ((if k + 1 = i + 1 then nd3 + 1 else Y (k + 1)) - 1)
    rw [if_neg (by omega)]
    by_cases hki : k = i
    · subst hki
      rw [if_pos rfl]
      refine ⟨by omega, ?_, ?_⟩
      · unfold ma_h
        rw [md_ia, md_ga, if_pos ⟨rfl, rfl⟩, Nat.add_sub_cancel]
      · unfold le_up
        rw [if_pos rfl, Nat.add_sub_cancel, j10]
        exact hvk _ _ _ z2
    · rw [if_neg (by omega)]
      obtain ⟨y1, y2, y3⟩ := j11 k (by omega)
      refine ⟨y1, ?_, ?_⟩
      · unfold ma_h
        rw [md_ia, md_ga, if_neg (fun q => by omega), z4.2.1.2.2.2.2.2.2.2.1 (F + k) (by unfold nn; rw [j7, lw_nat (by omega)]; omega)]
        exact y2
      · unfold le_up
        rw [if_neg hki]
        refine hvk _ _ _ (vt.keep z4.1 z4.2.1 (by omega) (by omega) (Y (k + 1) - 1 + 1) (E k) _ _ (by omega) y3)
  · omega
  · rw [g4]; omega
  · rw [m1]; omega
  · rw [m2]; omega
  · rw [m3]; omega
/-- THE LOOP -/
theorem lp_arg {d e : Nat} {La F : Nat} {kind x id : Int32} (IH : ∀ d', VP g P r L S n f C1 C2 0 9 0 14 d d') (hd : 9 * (30 - (op + 1)) + 9 ≤ d) (he : 14 * (30 - (op + 1)) + 14 ≤ e) (hA0 : pjA L n C1 C2 w0 σ0 fr0) (hP0 : P ≤ ch_nx w0) (hF0 : σ0.1 fX3_held = Int32.ofNat F) (hn31 : n < 2 ^ 31) : ∀ (N : Nat),
    (∀ (s i A cap : Nat) (E Y : Nat → Nat) (w : ch_W) (σ : ch_S) (tc fr tt : Nat), 1500 - nn σ fX3_nodes ≤ N → 1 ≤ i → i ≤ s → aI g P r L S n f C1 C2 op w0 σ0 fr0 La F s w σ tc fr tt i A cap E Y → po P n C1 C2 0 w0 σ0 fr0 (ch_loop (aBC g r d La) w) (aKK e kind x id F σ) (aQ g P r L S n f C1 C2 op w0 σ0 fr0 kind x id)) ∧
    (∀ (s i A cap : Nat) (E Y : Nat → Nat) (w : ch_W) (σ : ch_S) (tc fr tt : Nat), 1500 - nn σ fX3_nodes ≤ N → i + 1 ≤ s → aI g P r L S n f C1 C2 op w0 σ0 fr0 La F s w σ tc fr tt i A cap E Y → po P n C1 C2 0 w0 σ0 fr0 (aXR g r d La w) (aYR e kind x id F σ) (aQ g P r L S n f C1 C2 op w0 σ0 fr0 kind x id)) := by
  have hA03 := hA0
  unfold pjA at hA03
  have hmfr : ∀ {σ : ch_S}, mf σ0 (mh σ F) → md_fr pk pa σ0 σ := by
    intro σ j4
    refine ⟨fun k hk => ?_, fun a ha => j4.1.2 a ha⟩
    have hkh : k ≠ fX3_held := fun q => hk (by rw [q]; decide)
    have h9 := j4.1.1 k hk
    unfold mh at h9
    rw [md_get, if_neg hkh] at h9
    exact h9
  intro N
  induction N with
  | zero =>
    refine ⟨fun s i A cap E Y w σ tc fr tt hN _ _ hI => ?_, fun s i A cap E Y w σ tc fr tt hN _ hI => ?_⟩
    · have := hI.2.1.2.2.2.2.2.2.1
      omega
    · have := hI.2.1.2.2.2.2.2.2.1
      omega
  | succ N ih =>
    have hAR : ∀ (s i A cap : Nat) (E Y : Nat → Nat) (w : ch_W) (σ : ch_S) (tc fr tt : Nat), 1500 - nn σ fX3_nodes ≤ N + 1 → i + 1 ≤ s → aI g P r L S n f C1 C2 op w0 σ0 fr0 La F s w σ tc fr tt i A cap E Y → po P n C1 C2 0 w0 σ0 fr0 (aXR g r d La w) (aYR e kind x id F σ) (aQ g P r L S n f C1 C2 op w0 σ0 fr0 kind x id) := by
      intro s i A cap E Y w σ tc fr tt hN hs hI
      have hI' := hI
      obtain ⟨j1, j2, j3, j4, j5, j6, j7, j8, j9, j10, j11, i1, i2, i3, i4, i5⟩ := hI'
      unfold aXR aYR
      refine po.tb2 (IH e w σ tc fr tt (op + 1) j2 hd he) j3 (fun x3 w3 y3 σ3 z => ?_) (fun b σ3 q hq2 => ?_)
      · obtain ⟨a3, nd3, rfl, rfl, z1, z2, tc3, fr3, tt3, z3, z4, z5⟩ := z
        obtain ⟨w4, A', cap', k1, k2, k3, k4, k5⟩ := aI_more hA0 hP0 hI (by omega) z1 z2 z3 z4 z5
        have hlo3 : nn σ fX3_nodes ≤ nd3 := by rw [vt] at z2; exact z2.2.2.2.1
        have m1 : nn (ma_h σ3 F i (Int32.ofNat nd3)) fX3_nodes = nn σ3 fX3_nodes := nn_fr ma_fr (by decide)
        have hnb : nn σ3 fX3_nodes ≤ 1400 := by have := z3.2.2.2.2.2.2.1; omega
        dsimp only
        rw [d_rc k1, k2, Option.bind_some, ma_eq k3 (by omega)]
        exact ih.1 s (i + 1) A' cap' _ _ w4 _ tc3 fr3 tt3 (by omega) (by omega) (by omega) k5
      · obtain ⟨y1, y2, y3, y4, y5, y6, y7, y8, y9⟩ := hq2
        have g7 : (nn σ3 fX3_nodes : Int) + 1 ≤ nn σ0 fX3_nodes + ((q : Int) - fr0) + (if σ3.1 fX3_wrong = -1 then 0 else 1) := by
          generalize (if σ3.1 fX3_wrong = -1 then (0 : Int) else 1) = z at *
          omega
        have g8 : (nn σ3 fX3_listed : Int) + (i + 1 : Nat) ≤ nn σ0 fX3_listed + ((q : Int) - fr0) := by
          clear y7 y9
          omega
        have g9 : (nn σ3 fX3_statements : Int) ≤ nn σ0 fX3_statements + ((q : Int) - fr0) + (if σ3.1 fX3_wrong = -1 then 0 else 1) := by
          generalize (if σ3.1 fX3_wrong = -1 then (0 : Int) else 1) = z at *
          omega
        have hn12 := j2.2.1.2.2.2.2.1
        exact aYR_stuck (by omega) ((hmfr j4).trans y1) y2 (by omega) y4 y5 (y6.trans j7) j6 hF0 (by omega) g7 g8 g9 (by omega) hn31 b
    refine ⟨fun s i A cap E Y w σ tc fr tt hN h1 hs hI => ?_, hAR⟩
    have hI' := hI
    obtain ⟨j1, j2, j3, j4, j5, j6, j7, j8, j9, j10, j11, i1, i2, i3, i4, i5⟩ := hI'
    have hat := j2.1.2.2.2.2.2.2.1
    have hr := hat.1.1
    have htk := hat.2.2.2
    have s1 : m_X3_isSign 44 σ = _ := ms_sign (c := 44) j2.2.1 htk (by decide)
    have hjl := j1.1
    rw [lp_eq]
    show po P n C1 C2 0 w0 σ0 fr0 ((c_X4_arguments_14 (cr_PA g d) g r (some La) w).bind _) _ _
    have hbody : c_X4_arguments_14 (cr_PA g d) g r (some La) w = if tc = 1041 then (ch_tb (c_X4_closes g r (some (ch_sa g RX4 173)) w) (fun a w => Sum.inr (Except.error a, w)) fun _ w6 => (ch_rc w6 (some La) 14).bind fun b8 => (c_J5_size b8 w6).bind fun v9 => (ch_nA w6 27 v9).bind fun w11 => (ch_loop (fun (s : Int32 × ch_W) => c_X4_arguments_64 (cr_PA g d) g r (some La) (some (ch_nx w6)) s.1 s.2) (0, w11)).bind fun r => some (Sum.inr r)) else ch_tb (c_X4_want g r (some (ch_sa g RX4 182)) w) (fun a w => Sum.inr (Except.error a, w)) fun _ w18 => c_X4_arguments_36 (cr_PA g d) g r (some La) w18 := by
      unfold c_X4_arguments_14
      rw [d_rc hr, it_173 hat j2.1.1, Option.bind_some]
      by_cases z1 : tc = 1041
      · rw [if_pos z1, if_neg (show ¬ (1 : Int32) = 0 by decide), if_pos z1, d_rc hr]
      · rw [if_neg z1, if_pos rfl, if_neg z1, d_rc hjl.1, jl_empty hjl (by have := htk.1; have := htk.2.1; omega), Option.bind_some, if_neg (show ¬ i = 0 by omega), if_pos rfl, d_rc hr]
    rw [hbody]
    unfold aKK
    rw [s1, Option.bind_some]
    by_cases z1 : tc = 1041
    · rw [if_pos z1, if_neg (show ¬ tc = 1044 by omega), if_pos rfl, aBM0, tb_lp]
      have e1 : (fun (_ : Unit) (w6 : ch_W) => ((ch_rc w6 (some La) 14).bind fun b8 => (c_J5_size b8 w6).bind fun v9 => (ch_nA w6 27 v9).bind fun w11 => (ch_loop (fun (s : Int32 × ch_W) => c_X4_arguments_64 (cr_PA g d) g r (some La) (some (ch_nx w6)) s.1 s.2) (0, w11)).bind fun r => some (Sum.inr r)).bind (lpc (aBC g r d La))) = fun _ w6 => (ch_rc w6 (some La) 14).bind fun b8 => (c_J5_size b8 w6).bind fun v9 => (ch_nA w6 27 v9).bind fun w11 => ch_loop (fun (s : Int32 × ch_W) => c_X4_arguments_64 (cr_PA g d) g r (some La) (some (ch_nx w6)) s.1 s.2) (0, w11) := by
        funext _ w6
        simp only [Option.bind_assoc, Option.bind_some]
        cases ch_rc w6 (some La) 14 with
        | none => rfl
        | some b8 =>
          rw [Option.bind_some, Option.bind_some]
          cases c_J5_size b8 w6 with
          | none => rfl
          | some v9 =>
            rw [Option.bind_some, Option.bind_some]
            cases ch_nA w6 27 v9 with
            | none => rfl
            | some w11 =>
              rw [Option.bind_some, Option.bind_some]
              cases ch_loop (fun (s : Int32 × ch_W) => c_X4_arguments_64 (cr_PA g d) g r (some La) (some (ch_nx w6)) s.1 s.2) (0, w11) <;> rfl
      rw [e1]
      exact po_afin hI hA0 hF0 (by omega) hs hn31
    · rw [if_neg z1, tb_lp, lc_want hr (it_182 hat j2.1.1)]
      by_cases z2 : tc = 1044
      · rw [if_pos z2, if_pos z2, if_neg (show ¬ (1 : Int32) = 0 by decide), o_split 0]
        have hlt := htk.lt (by omega)
        refine po.tb2 (po_next j2 (by omega) (Nat.le_refl _) htk.1) j3 (fun _ w3 b σ3 z => ?_) (fun b σ3 q hq2 => ?_)
        · obtain ⟨rfl, ⟨tc3, fr3, tt3, y1, y2, y3⟩, y4⟩ := z
          have hwr : σ3.1 fX3_wrong < 0 := by rw [y1.2.1.2.2.1]; exact bn_m1
          have m1 : nn σ3 fX3_nodes = nn σ fX3_nodes := nn_fr y4 (by decide)
          have m2 : nn σ3 fX3_listed = nn σ fX3_listed := nn_fr y4 (by decide)
          have hvow : ∀ k : Nat, k < i → ow r L P w (E k) := fun k hk => by
            have := (j11 k hk).2.2
            rw [vt] at this
            exact this.1
          have hFle : F ≤ nn σ fX3_held := by
            have hn12 := j2.2.1.2.2.2.2.1
            have := htk.2.1
            unfold nn; rw [j7, lw_nat (by omega)]; omega
          have hb2 := y2.2.2
          unfold bd at hb2
          have hA3 := y1.2.2
          unfold pjA at hA3
          dsimp only
          rw [ax36 y1.1.2.2.2.2.2.2.1.1.1, aBM1 hwr]
          refine hAR (s + 1) i A cap E Y w3 σ3 tc3 fr3 tt3 (by omega) (by omega) ⟨j1.pf y2.1 hvow, y1, j3.trans y2.1, j4.trans (mh_mf y2.2.1 hFle (by have hn12 := j2.2.1.2.2.2.2.1; have := htk.2.1; omega)), by omega, j6, y2.2.1.2.2.2.2.1.trans j7, by omega, j9, by rw [m1]; exact j10, fun k hk => ⟨(j11 k hk).1, ?_, ?_⟩, by omega, by omega, by omega, by omega, by omega⟩
          · rw [y2.2.1.2.2.2.2.2.2.2.1 (F + k) (by
              have hn12 := j2.2.1.2.2.2.2.1
              have := htk.2.1
              unfold nn; rw [j7, lw_nat (by omega)]; omega)]
            exact (j11 k hk).2.1
          · exact vt.keep y2.1 y2.2.1 (by omega) (by omega) (Y (k + 1) - 1 + 1) (E k) _ _ (by omega) (j11 k hk).2.2
        · obtain ⟨y1, y2, y3, y4, y5, y6, y7, y8, y9⟩ := hq2
          have hn12 := j2.2.1.2.2.2.2.1
          have hq9 : q < 2 ^ 31 := by omega
          dsimp only
          have g7 : (nn σ3 fX3_nodes : Int) + 1 ≤ nn σ0 fX3_nodes + ((q : Int) - fr0) + (if σ3.1 fX3_wrong = -1 then 0 else 1) := by
            generalize (if σ3.1 fX3_wrong = -1 then (0 : Int) else 1) = z at *
            omega
          have g8 : (nn σ3 fX3_listed : Int) + (i + 1 : Nat) ≤ nn σ0 fX3_listed + ((q : Int) - fr0) := by
            clear y7 y9
            omega
          have g9 : (nn σ3 fX3_statements : Int) ≤ nn σ0 fX3_statements + ((q : Int) - fr0) + (if σ3.1 fX3_wrong = -1 then 0 else 1) := by
            generalize (if σ3.1 fX3_wrong = -1 then (0 : Int) else 1) = z at *
            omega
          by_cases hw : σ3.1 fX3_wrong < 0
          · rw [aBM1 hw]
            unfold aYR
            obtain ⟨σ4, d1, d2⟩ := dm_0 (d := e - 9) y2 hq9
            rw [show e - 9 + 9 = e by omega] at d1
            rw [d1, Option.bind_some]
            have e1 : nn σ4 fX3_nodes = nn σ3 fX3_nodes := nn_fr d2.1 (by decide)
            have e2 : nn σ4 fX3_listed = nn σ3 fX3_listed := nn_fr d2.1 (by decide)
            have e3 : nn σ4 fX3_statements = nn σ3 fX3_statements := nn_fr d2.1 (by decide)
            have hz : (if σ3.1 fX3_wrong = -1 then (0 : Int) else 1) ≤ 1 := by split <;> omega
            refine aYR_stuck (by omega) (((hmfr j4).trans y1).trans (d2.1.mono (by decide) (by decide))) d2.dk (by omega) y4 (pjN_fr y5 d2.1 (by decide) (by decide) (by decide) (by decide)) ((d2.1.1 _ (by decide)).trans (y6.trans j7)) j6 hF0 (by omega) ?_ (by rw [e2]; exact g8) ?_ (by omega) hn31 (-1)
            · rw [e1, d2.2, if_neg (bn_m1n hq9)]
              generalize (if σ3.1 fX3_wrong = -1 then (0 : Int) else 1) = z at *
              omega
            · rw [e3, d2.2, if_neg (bn_m1n hq9)]
              generalize (if σ3.1 fX3_wrong = -1 then (0 : Int) else 1) = z at *
              omega
          · rw [aBM1n hw]
            exact ml_stuck ((hmfr j4).trans y1) y2 (by omega) y4 y5 (y6.trans j7) j6 hF0 (by omega) g7 (by
              clear g7 g9 y7 y9
              omega) g9 (by omega) hn31
      · rw [if_neg z2, if_neg z2, if_pos rfl, aBM0]
        obtain ⟨w9, a1, a2⟩ := pj_must j2 htk.1
        have hcl : m_X3_closes 41 σ = some (dz σ fr) := by
          have s2 : m_X3_isSign 41 σ = _ := ms_sign (c := 41) j2.2.1 htk (by decide)
          unfold m_X3_closes
          rw [s2, Option.bind_some, if_neg z1, ms_passes j2.2.1.2.2.1, if_pos rfl, ms_fails j2.2.1.2.2.1 j2.2.1.2.1.1, Option.bind_some, Option.bind_some, if_pos rfl]
        have hn12 := j2.2.1.2.2.2.2.1
        have hfn := htk.2.1
        have hff := htk.1
        have hz : (if (dz σ fr).1 fX3_wrong = -1 then (0 : Int) else 1) = 1 := by
          show (if Int32.ofNat fr = -1 then (0 : Int) else 1) = 1
          rw [if_neg (bn_m1n (by omega))]
        have e1 : nn (dz σ fr) fX3_nodes = nn σ fX3_nodes := nn_fr dz_fr (by decide)
        have e2 : nn (dz σ fr) fX3_listed = nn σ fX3_listed := nn_fr dz_fr (by decide)
        have e3 : nn (dz σ fr) fX3_statements = nn σ fX3_statements := nn_fr dz_fr (by decide)
        obtain ⟨p, p1, p2⟩ := ml_stuck0 (rc := cr_ME e) (x1 := kind) (x2 := x) (x3 := id) (F := F) (i := i) (q := fr) (σ2 := dz σ fr) (n := n) (fr0 := fr0) (σ0 := σ0) ((hmfr j4).trans (dz_fr.mono (by decide) (by decide))) (Or.inl rfl) (by omega) (by omega) (pjN_fr j2.2.1.2.2.2.2.2.2 dz_fr (by decide) (by decide) (by decide) (by decide)) ((dz_fr.1 _ (by decide)).trans j7) hF0 (by omega) (by rw [e1, hz]; omega) (by rw [e2]; omega) (by rw [e3, hz]; omega) (by omega)
        rw [tb_tb, tb_er a1]
        refine Or.inr ⟨ch_nx w, w9, p.1, p.2, fr, rfl, ?_, a2.base j3, p2⟩
        unfold m_X3_called_91
        rw [hcl, Option.bind_some]
        exact p1
end ARG
