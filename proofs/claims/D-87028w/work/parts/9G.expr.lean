/-! LEVEL B2: expressions of both sides: all of them -/
set_option maxRecDepth 100000
section ARG
variable {g : State} {P r L S n C1 C2 : Nat} {f : Nat → Nat}
/-- ARGUMENTS -/
theorem st_arg {d : Nat} (IH : ∀ d', VP g P r L S n f C1 C2 0 9 0 14 d d') (hn31 : n < 2 ^ 31) : ∀ d', VA g P r L S n f C1 C2 (d + 1) d' := by
  intro d' w σ fr tt op kind x id h hd hd'
  obtain ⟨e, rfl⟩ : ∃ e, d' = e + 1 := ⟨d' - 1, by omega⟩
  show po P n C1 C2 0 w σ fr (c_X4_arguments (cr_PA g d) g r w) (m_X3_called (cr_ME e) kind x id σ) _
  have hat := h.1.2.2.2.2.2.2.1
  have hr := hat.1.1
  have htk := hat.2.2.2
  have h30 := h.1.2.2.2.2.2.2.2.2.1
  have hP0 : P ≤ ch_nx w := by
    have := h.1.2.2.1
    have := h.1.2.2.2.2.2.1 r (by rw [hr]; decide)
    omega
  have hF0 : σ.1 fX3_held = Int32.ofNat (nn σ fX3_held) := h.2.1.2.2.2.2.2.2.2.2.1
  have hA0 := h.2.2
  unfold pjA at hA0
  have hn12 := h.2.1.2.2.2.2.1
  have hfn := htk.2.1
  have hff := htk.1
  unfold c_X4_arguments m_X3_called
  rw [d_rc hr]
  by_cases hop30 : ¬ op < 30
  · obtain ⟨⟨w9, o1, o2⟩, o3⟩ := pj_op30 h hff (it_171 hat h.1.1) hop30
    rw [tb_er o1, o3, Option.bind_some, if_pos rfl]
    exact Or.inr ⟨_, w9, -1, dz σ fr, fr, rfl, rfl, o2, dz_pd h.2.1 htk⟩
  refine po.tb (po_opens1 h (Nat.le_refl _) hff (by decide) (it_171 hat h.1.1) rfl (by omega)) (fun _ w2 b σ2 q => ?_) (fun b σ2 q hq2 => ?_)
  · obtain ⟨rfl, z0, hlt30, ⟨tc2, fr2, tt2, q1, q2, q3⟩, q4⟩ := q
    have htk2 := q1.1.2.2.2.2.2.2.1.2.2.2
    have hf21 := htk2.1
    have hf22 := htk2.2.1
    obtain ⟨r1, r2⟩ := pjC_room q1 htk2.1
    have m1 : nn σ2 fX3_nodes = nn σ fX3_nodes := nn_fr q4 (by decide)
    have m2 : nn σ2 fX3_listed = nn σ fX3_listed := nn_fr q4 (by decide)
    have m3 : nn σ2 fX3_statements = nn σ fX3_statements := nn_fr q4 (by decide)
    have hwr : σ2.1 fX3_wrong < 0 := by rw [q1.2.1.2.2.1]; exact bn_m1
    have hheld : σ2.1 fX3_held = Int32.ofNat (nn σ fX3_held) := (q2.2.1.2.2.2.2.1).trans hF0
    -- the list
    obtain ⟨b1, b2, b3, b4, b5⟩ := pj_alloc2 (w4 := ch_nw w2 (ch_new 14 3)) h.2.2 q1 q2 (by decide) (by decide) (fun a ha => b_oN ha) rfl (show 3 ≤ 256 by decide)
    obtain ⟨w4, ae, k1, k2, k3, k4, k5⟩ := jl_init (g := g) (T := 11) (e := fun _ => 0) b1.1.1 (L := ch_nx w2) (by rw [b_tN, if_pos rfl]; rfl) (by rw [b_IN, if_pos rfl]; rfl)
    have htL : ch_tg (ch_nw w2 (ch_new 14 3)) (ch_nx w2) = 14 := by rw [b_tN, if_pos rfl]; rfl
    obtain ⟨c1, c2, c3, c4⟩ := pjC_set (w' := w4) b1.1 b4 b5 (by rw [htL]; decide) k4 (by unfold ch_nx; rw [k5])
    have hcs : ch_cs w4 = ch_cs w2 + 1 := by unfold ch_cs; rw [k5]; rfl
    have hsl : ch_sl w4 = ch_sl w2 + 3 := by unfold ch_sl; rw [k5]; rfl
    have hcp : cpN w4 L = cpN w2 L := by
      rw [c2]
      exact (pjC_new q1.1 (fun a ha => b_oN ha) rfl).2.2.1
    have hb2 := q2.2.2
    unfold bd at hb2
    have hA2 := q1.2.2
    unfold pjA at hA2
    have hGP := h.1.2.1
    have hI : aI g P r L S n f C1 C2 op w σ fr (ch_nx w2) (nn σ fX3_held) 1 w4 σ2 tc2 fr2 tt2 0 ae 0 (fun _ => 0) (fun _ => nn σ fX3_nodes) := by
      refine ⟨⟨k2, c3 _ b4, b5, q2.1.1, Or.inl ⟨by omega, ?_⟩⟩, ⟨c1, q1.2.1, ?_⟩, c4 w (q2.1.trans b2.1) q2.1.1, ?_, q3, rfl, hheld, by omega, rfl, by rw [m1], fun k hk => absurd hk (by omega), by rw [hcs]; omega, by rw [hsl, hcp]; omega, by omega, by omega, by omega⟩
      · rcases k2.2.2.2.2.2.2.1 with y | y <;> omega
      · unfold pjA
        rw [hcs, hsl, hcp]
        omega
      · have hmm : mh σ2 (nn σ fX3_held) = σ2 := md_same hheld
        rw [hmm]
        exact q2.2.1
    have hlp := lp_arg (op := op) (d := d) (e := e) (La := ch_nx w2) (F := nn σ fX3_held) (kind := kind) (x := x) (id := id) IH (by omega) (by omega) h.2.2 hP0 hF0 hn31 1500
    have s1 : m_X3_isSign 41 σ2 = _ := ms_sign (c := 41) q1.2.1 htk2 (by decide)
    rw [d_nO (by omega) (by omega), k1, Option.bind_some]
    dsimp only
    rw [if_neg (show ¬ (1 : Int32) = 0 by decide), s1, Option.bind_some, hheld]
    show po P n C1 C2 0 w σ fr (ch_loop (aBC g r d (ch_nx w2)) w4) (if (if tc2 = 1000 + 41 then (1 : Int32) else 0) = 0 then ch_loop (aBM e kind x id (nn σ fX3_held)) (1, σ2) else ch_loop (aBM e kind x id (nn σ fX3_held)) (0, σ2)) _
    have hat4 := hI.2.1.1.2.2.2.2.2.2.1
    have hr4 := hat4.1.1
    by_cases z1 : tc2 = 1041
    · rw [if_pos z1, if_neg (show ¬ (1 : Int32) = 0 by decide), aBM0, lp_eq]
      show po P n C1 C2 0 w σ fr ((c_X4_arguments_14 (cr_PA g d) g r (some (ch_nx w2)) w4).bind _) _ _
      have hbody : (c_X4_arguments_14 (cr_PA g d) g r (some (ch_nx w2)) w4).bind (lpc (aBC g r d (ch_nx w2))) = (ch_tb (c_X4_closes g r (some (ch_sa g RX4 173)) w4) (fun a w => (Except.error a, w)) fun _ w6 => (ch_rc w6 (some (ch_nx w2)) 14).bind fun b8 => (c_J5_size b8 w6).bind fun v9 => (ch_nA w6 27 v9).bind fun w11 => ch_loop (fun (s : Int32 × ch_W) => c_X4_arguments_64 (cr_PA g d) g r (some (ch_nx w2)) (some (ch_nx w6)) s.1 s.2) (0, w11)) := by
        unfold c_X4_arguments_14
        rw [d_rc hr4, it_173 hat4 hI.2.1.1.1, Option.bind_some, if_pos z1, if_neg (show ¬ (1 : Int32) = 0 by decide), d_rc hr4, tb_lp]
        congr 1
        funext _ w6
        simp only [Option.bind_assoc, Option.bind_some]
        cases ch_rc w6 (some (ch_nx w2)) 14 with
        | none => rfl
        | some b8 =>
          rw [Option.bind_some, Option.bind_some]
          cases c_J5_size b8 w6 with
          | none => rfl
          | some v9 =>
            rw [Option.bind_some, Option.bind_some]
            cases ch_nA w6 27 v9 with
            | none => rfl
            | some w11 =>
              rw [Option.bind_some, Option.bind_some]
              cases ch_loop (fun (s : Int32 × ch_W) => c_X4_arguments_64 (cr_PA g d) g r (some (ch_nx w2)) (some (ch_nx w6)) s.1 s.2) (0, w11) <;> rfl
      rw [hbody]
      exact po_afin hI h.2.2 hF0 (Nat.le_refl _) (by omega) hn31
    · rw [if_neg z1, if_pos rfl, aBM1 hwr, lp_eq]
      show po P n C1 C2 0 w σ fr ((c_X4_arguments_14 (cr_PA g d) g r (some (ch_nx w2)) w4).bind _) _ _
      have hbody : c_X4_arguments_14 (cr_PA g d) g r (some (ch_nx w2)) w4 = c_X4_arguments_36 (cr_PA g d) g r (some (ch_nx w2)) w4 := by
        unfold c_X4_arguments_14
        rw [d_rc hr4, it_173 hat4 hI.2.1.1.1, Option.bind_some, if_neg z1, if_pos rfl, d_rc k2.1, jl_empty k2 (by decide), Option.bind_some, if_pos rfl, if_neg (show ¬ (1 : Int32) = 0 by decide)]
      rw [hbody, ax36 hr4]
      exact hlp.2 1 0 ae 0 _ _ w4 σ2 tc2 fr2 tt2 (by omega) (by omega) hI
  · obtain ⟨y1, y2, y3, y4, y5, y6, y7, y8, y9⟩ := hq2
    have hq9 : q < 2 ^ 31 := by omega
    dsimp only
    by_cases hb : b = 0
    · rw [if_pos hb]
      exact ⟨_, rfl, (show pd n 1 σ fr σ2 q from ⟨y1, y2, y3, y4, y5, y6, y7, y8, y9⟩).weak (by decide)⟩
    · rw [if_neg hb, dm_sign y2 hq9, Option.bind_some, if_pos rfl]
      have hheld : σ2.1 fX3_held = Int32.ofNat (nn σ fX3_held + 0) := y6.trans hF0
      have hh2 : σ2.1 fX3_held = Int32.ofNat (nn σ fX3_held) := y6.trans hF0
      rw [hh2]
      show ∃ p, ch_loop (aBM e kind x id (nn σ fX3_held)) (1, σ2) = some p ∧ _
      have g7 : (nn σ2 fX3_nodes : Int) + 1 ≤ nn σ fX3_nodes + ((q : Int) - fr) + (if σ2.1 fX3_wrong = -1 then 0 else 1) := y7
      have g9 : (nn σ2 fX3_statements : Int) ≤ nn σ fX3_statements + ((q : Int) - fr) + (if σ2.1 fX3_wrong = -1 then 0 else 1) := by
        generalize (if σ2.1 fX3_wrong = -1 then (0 : Int) else 1) = z at *
        omega
      by_cases hw : σ2.1 fX3_wrong < 0
      · rw [aBM1 hw]
        unfold aYR
        obtain ⟨σ4, d1, d2⟩ := dm_0 (d := e - 9) y2 hq9
        rw [show e - 9 + 9 = e by omega] at d1
        rw [d1, Option.bind_some]
        have e1 : nn σ4 fX3_nodes = nn σ2 fX3_nodes := nn_fr d2.1 (by decide)
        have e2 : nn σ4 fX3_listed = nn σ2 fX3_listed := nn_fr d2.1 (by decide)
        have e3 : nn σ4 fX3_statements = nn σ2 fX3_statements := nn_fr d2.1 (by decide)
        have hz : (if σ2.1 fX3_wrong = -1 then (0 : Int) else 1) ≤ 1 := by split <;> omega
        refine aYR_stuck (i := 0) (by omega) (y1.trans (d2.1.mono (by decide) (by decide))) d2.dk (by omega) y4 (pjN_fr y5 d2.1 (by decide) (by decide) (by decide) (by decide)) ((d2.1.1 _ (by decide)).trans hheld) rfl hF0 (by omega) ?_ ?_ ?_ (by omega) hn31 (-1)
        · rw [e1, d2.2, if_neg (bn_m1n hq9)]
          generalize (if σ2.1 fX3_wrong = -1 then (0 : Int) else 1) = z at *
          omega
        · rw [e2]
          clear g7 g9 y7 y9 hz
          omega
        · rw [e3, d2.2, if_neg (bn_m1n hq9)]
          generalize (if σ2.1 fX3_wrong = -1 then (0 : Int) else 1) = z at *
          omega
      · rw [aBM1n hw]
        exact ml_stuck (i := 0) y1 y2 (by omega) y4 y5 hheld rfl hF0 (by omega) g7 (by
          clear g7 g9 y7 y9
          omega) g9 (by omega) hn31
/-- EXPRESSIONS: all of the component's against all of the model's -/
theorem st_all (hn31 : n < 2 ^ 31) : ∀ d : Nat, (∀ d', VP g P r L S n f C1 C2 0 9 0 14 d d') ∧ (∀ d', VP g P r L S n f C1 C2 1 8 1 13 d d') ∧ (∀ d', VP g P r L S n f C1 C2 2 7 2 12 d d') ∧ (∀ d', VP g P r L S n f C1 C2 3 6 4 10 d d') ∧ (∀ d', VP g P r L S n f C1 C2 4 5 5 8 d d') ∧ (∀ d', VP g P r L S n f C1 C2 5 4 6 6 d d') ∧ (∀ d', VP g P r L S n f C1 C2 6 3 7 4 d d') ∧ (∀ d', VP g P r L S n f C1 C2 7 2 10 2 d d') ∧ (∀ d', VA g P r L S n f C1 C2 d d') := by
  intro d
  induction d with
  | zero =>
    refine ⟨?_, ?_, ?_, ?_, ?_, ?_, ?_, ?_, ?_⟩
    all_goals first | (intro d' w σ tc fr tt op h hd; omega) | (intro d' w σ fr tt op kind x id h hd; omega)
  | succ d ih =>
    obtain ⟨i0, i1, i2, i3, i4, i5, i6, i7, i8⟩ := ih
    exact ⟨st_or i1 hn31, st_and i2 hn31, st_eq i3 hn31, st_rel i4 hn31, st_sum i5 hn31, st_prod i6 hn31, st_one i0 i8 i6 i7 hn31, st_first i0 i8 hn31, st_arg i0 hn31⟩
/-- AN EXPRESSION -/
theorem po_expr {w : ch_W} {σ : ch_S} {tc fr tt op : Nat} (h : pj g P r L S n f C1 C2 w σ tc fr tt op op fr) : po P n C1 C2 0 w σ fr (cr_PA g 300 0 r w) (cr_ME 450 0 0 0 0 σ) (vQ g P r L S n f C1 C2 op w σ fr) := by
  have hn := h.2.1.2.2.2.2.1
  exact (st_all (by omega) 300).1 450 w σ tc fr tt op h (by omega) (by omega)
end ARG
