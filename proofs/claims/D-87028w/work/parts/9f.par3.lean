/-! LEVEL B2: classes: a method's end -/
set_option maxRecDepth 100000
theorem bnd_s {y : Option ch_S} {v b : Int32} {σ : ch_S} (h : (y.bind fun p => some (v, p)) = some (b, σ)) : y = some σ := by
  cases y with
  | none => cases h
  | some p =>
    injection h with h
    injection h with h1 h2
    rw [h2]
section PE
variable {g : State} {P r L S n C1 C2 K op : Nat} {f : Nat → Nat} {w0 w w' : ch_W} {σ0 σ σ' : ch_S} {fr0 M Q b tc fr tt i m q j : Nat} {u : Int}
/-- behind the parameters: ), the block -/
theorem po_fin (hA0 : pjA L n C1 C2 w0 σ0 fr0) (hKo : ow r L P w0 K) (hK : K < ch_nx w0) (hP0 : P ≤ ch_nx w0) (hcl : ∃ c, σ0.1 fX3_classes = Int32.ofNat c ∧ c ≤ 330) (hM : M ≤ 430) (hKd : ∀ x : Nat, ch_gr w0 K fJ5_elementData = some x → x < ch_nx w0) (h : pIv g P r L S n f C1 C2 K (op + 1) w0 σ0 fr0 M Q b w σ tc fr tt u i i) (hu : (i : Int) + 1 ≤ u) (hq : tc = 1041) :
    (∃ w' σ', c_X4_member_91 g r (some b) w = some (.inr (.ok (some b), w')) ∧ m_X3_member_230 (Int32.ofNat M) σ = some σ' ∧ mQ g P r L S n f C1 C2 K op w0 σ0 fr0 M Q b w' σ') ∨
    (∃ e w' σ' q, c_X4_member_91 g r (some b) w = some (.inr (.error e, w')) ∧ m_X3_member_230 (Int32.ofNat M) σ = some σ' ∧ pe P C1 C2 w0 w' e q ∧ dC n q 3 σ' ∧ fc σ0 σ') := by
  have hj := h.1
  have hat := hj.1.2.2.2.2.2.2.1
  have hr := hat.1.1
  have hn12 := hj.2.1.2.2.2.2.1
  have hcB := h.cB hcl hM
  have e1M : Int32.ofNat M + 1 = Int32.ofNat (M + 1) := bn_add (b := 1)
  unfold c_X4_member_91
  rw [d_rc hr, it_173 hat hj.1.1, Option.bind_some, if_pos hq, if_neg (show ¬ (1 : Int32) = 0 by decide), d_rc hr]
  rcases po_closes (c := 41) (v := 0) hj (by decide) (it_173 hat hj.1.1) with ⟨x1, w1, y1, σ1, e1, e2, -, -, ⟨tc1, fr1, tt1, j1, p1, l1⟩, -⟩ | ⟨e, w1, y1, σ1, q, e1, e2, e3, e4⟩
  · have hcls : m_X3_closes 41 σ = some σ1 := bnd_s e2
    rw [tb_ok e1]
    have h1 := h.step hKo j1 p1.s0 (by omega) (by omega)
    have hr1 := j1.1.2.2.2.2.2.2.1.1.1
    rw [d_rc hr1]
    have hj2 : pj g P r L S n f C1 C2 w1 (md_sa σ1 fX3_parameterFrom (M + 1) (σ1.1 fX3_parameters)) tc1 fr1 tt1 op op fr1 := ⟨j1.1, pjM_cl j1.2.1 (by decide), j1.2.2⟩
    have hop := j1.1.2.2.2.2.2.2.2.2.1
    have hblk := po_blk (g := g) (P := P) (r := r) (L := L) (S := S) (n := n) (f := f) (C1 := C1) (C2 := C2) (by omega) hop w1 _ tc1 fr1 tt1 hj2
    generalize hσ2 : md_sa σ1 fX3_parameterFrom (M + 1) (σ1.1 fX3_parameters) = σ2 at *
    have f2s : σ2.1 = σ1.1 := by rw [← hσ2]; rfl
    have hk12 : mfk (nn σ0 fX3_statements) M Q σ1 σ2 := by rw [← hσ2]; exact mfk_sa (by decide) (Or.inr (Or.inl ⟨rfl, by omega⟩))
    have hfc12 : fc σ1 σ2 := by rw [← hσ2]; exact md_fr.refl.sa (List.mem_append_right _ (by decide))
    have ea2 : ∀ a : Nat, a ≠ fX3_parameterFrom → σ2.2 a = σ1.2 a := fun a ha => by rw [← hσ2, md_an ha]
    have epf : σ2.2 fX3_parameterFrom (M + 1) = σ1.1 fX3_parameters ∧ σ2.2 fX3_parameterFrom M = σ1.2 fX3_parameterFrom M := by
      rw [← hσ2, md_ga, if_pos ⟨rfl, rfl⟩, md_ga, if_neg (fun z => by omega)]
      exact ⟨rfl, rfl⟩
    have h230 : ∀ p : Int32 × ch_S, cr_MB 70 0 σ2 = some p → m_X3_member_230 (Int32.ofNat M) σ = some (md_sa (md_sa p.2 fX3_body M p.1) fX3_closeAt M (p.2.1 fX3_blockEnd)) := fun p hp => by
      unfold m_X3_member_230
      rw [hcls, Option.bind_some, e1M, m_mw (show M + 1 < 801 by omega) (by decide), hσ2, hp, Option.bind_some, m_mw (show M < 800 by omega) (by decide), m_mw (show M < 800 by omega) (by decide)]
      rfl
    rcases hblk with ⟨x2, w2, y2, σ3, k1, k2, bl, mm, Z, k3, k4, k5, ⟨cl, k6, k7, k8⟩, tc3, fr3, tt3, j3, p3, l3⟩ | ⟨e, w2, y2, σ3, q, k1, k2, k3, k4⟩
    · left
      obtain ⟨a1, a2, a3, a4, a5, a6, a7, a8, a9, a10, a11, a12, ty, nm, Rt, At, ct, Ft, Rn, An, kn, Fn, Rc, Ac, b1, b2, b3, b4, b5, b6, b7, b8, b9, b10, b11, b12, b13, b14, b15⟩ := id h1
      have c2 := b1.pf p3.1
      have hr3 := j3.1.2.2.2.2.2.2.1.1.1
      have hbr : b ≠ r := fun z => by have := c2.1; rw [z, hr3] at this; omega
      have hbow : ow r L P w2 b := (c2.2.2.2.2.2.2.2.2.2.2.2.2.2.1 b (by simp)).1
      have hbA : ch_nx w0 ≤ b := (c2.2.2.2.2.2.2.2.2.2.2.2.2.2.1 b (by simp)).2
      rw [tb_ok k1, k3, d_pR c2.1, d_gI (by rw [b_tR]; exact hr3), b_IR, k7, d_pI (by rw [b_tR]; exact c2.1)]
      refine ⟨_, _, rfl, h230 _ k2, ?_⟩
      rw [k8]
      have ow4 : ∀ x : Nat, x ≠ b → (ch_si (ch_sr w2 b fX7_block (some bl)) b fX7_closing (Int32.ofNat cl)).1 x = w2.1 x := fun x hx => by rw [b_oI hx, b_oR hx]
      have t4 : ∀ x : Nat, ch_tg (ch_si (ch_sr w2 b fX7_block (some bl)) b fX7_closing (Int32.ofNat cl)) x = ch_tg w2 x := fun x => by rw [b_tI, b_tR]
      have z4 : (ch_si (ch_sr w2 b fX7_block (some bl)) b fX7_closing (Int32.ofNat cl)).2 = w2.2 := rfl
      have i4 : ∀ k : Nat, k ≠ fX7_closing → ch_gi (ch_si (ch_sr w2 b fX7_block (some bl)) b fX7_closing (Int32.ofNat cl)) b k = ch_gi w2 b k := fun k hk => by rw [b_II, if_neg (fun z => hk z.2), b_IR]
      have i4c : ch_gi (ch_si (ch_sr w2 b fX7_block (some bl)) b fX7_closing (Int32.ofNat cl)) b fX7_closing = Int32.ofNat cl := by rw [b_II, if_pos ⟨rfl, rfl⟩]
      have r4 : ∀ k : Nat, k ≠ fX7_block → ch_gr (ch_si (ch_sr w2 b fX7_block (some bl)) b fX7_closing (Int32.ofNat cl)) b k = ch_gr w2 b k := fun k hk => by rw [b_RI, b_RR, if_neg (fun z => hk z.2)]
      have r4b : ch_gr (ch_si (ch_sr w2 b fX7_block (some bl)) b fX7_closing (Int32.ofNat cl)) b fX7_block = some bl := by rw [b_RI, b_RR, if_pos ⟨rfl, rfl⟩]
      generalize ch_si (ch_sr w2 b fX7_block (some bl)) b fX7_closing (Int32.ofNat cl) = w4 at *
      have nx4 : ch_nx w4 = ch_nx w2 := by unfold ch_nx; rw [z4]
      have cs4 : ch_cs w4 = ch_cs w2 := by unfold ch_cs; rw [z4]
      have sl4 : ch_sl w4 = ch_sl w2 := by unfold ch_sl; rw [z4]
      have hwf := j3.1.2.2.2.2.2.1
      have hn02 : ch_nx w0 ≤ ch_nx w2 := Nat.le_trans a2.1 p3.1.1
      obtain ⟨q1, q2, q3, q4, q5, q6⟩ := own_gen (w' := w4) (K := K) (hA := ch_nx w0) j3.1 (fun x hx => by
        by_cases hxb : x = b
        · left
          rw [hxb, c2.1]
          exact ⟨hbow, hbA, by decide, by decide, by decide, by decide, by decide⟩
        · exact Or.inr (ow4 x hxb)) hP0 hK (by omega) (by omega) (fun x hx => by rw [nx4]; rw [t4] at hx; exact hwf x hx)
      have hcf : cf g r L K P (ch_nx w0) w0 w4 := a2.trans ((p3.1.cf (a2.2.2.2.2.2.1 hKo).2).trans q5)
      have e3 : ∀ a : Nat, a ∈ cla → σ3.2 a = σ2.2 a := fun a ha => p3.2.1.1.2 a (by revert a; decide)
      have ek3 : ∀ a : Nat, a ∈ clk → σ3.1 a = σ1.1 a := fun a ha => by rw [p3.2.1.1.1 a (by revert a; decide), f2s]
      have hst2 : nn σ2 fX3_statements = nn σ1 fX3_statements := by unfold nn; rw [f2s]
      have hno2 : nn σ2 fX3_nodes = nn σ1 fX3_nodes := by unfold nn; rw [f2s]
      have hli2 : nn σ2 fX3_listed = nn σ1 fX3_listed := by unfold nn; rw [f2s]
      have hk35 : mfk (nn σ0 fX3_statements) M Q σ3 (md_sa (md_sa σ3 fX3_body M y2) fX3_closeAt M (Int32.ofNat cl)) := (mfk_sa (by decide) (Or.inl ⟨by decide, Nat.le_refl _⟩)).trans (mfk_sa (by decide) (Or.inl ⟨by decide, Nat.le_refl _⟩))
      have hmk : mfk (nn σ0 fX3_statements) M Q σ0 (md_sa (md_sa σ3 fX3_body M y2) fX3_closeAt M (Int32.ofNat cl)) := a3.trans (hk12.trans ((p3.2.1.k (by omega)).trans hk35))
      have ea5 : ∀ a : Nat, a ≠ fX3_body → a ≠ fX3_closeAt → (md_sa (md_sa σ3 fX3_body M y2) fX3_closeAt M (Int32.ofNat cl)).2 a = σ3.2 a := fun a h1 h2 => by rw [md_an h2, md_an h1]
      have eb5 : (md_sa (md_sa σ3 fX3_body M y2) fX3_closeAt M (Int32.ofNat cl)).2 fX3_body M = y2 := by rw [md_an (by decide), md_ga, if_pos ⟨rfl, rfl⟩]
      have ec5 : (md_sa (md_sa σ3 fX3_body M y2) fX3_closeAt M (Int32.ofNat cl)).2 fX3_closeAt M = Int32.ofNat cl := by rw [md_ga, if_pos ⟨rfl, rfl⟩]
      have hj5 : pjM n f (md_sa (md_sa σ3 fX3_body M y2) fX3_closeAt M (Int32.ofNat cl)) tc3 fr3 tt3 op := pjM_cl (pjM_cl j3.2.1 (by decide)) (by decide)
      have ei5 : (md_sa (md_sa σ3 fX3_body M y2) fX3_closeAt M (Int32.ofNat cl)).1 = σ3.1 := rfl
      have hfc35 : fc σ3 (md_sa (md_sa σ3 fX3_body M y2) fX3_closeAt M (Int32.ofNat cl)) := (md_fr.refl.sa (List.mem_append_right _ (by decide))).sa (List.mem_append_right _ (by decide))
      have hps5 : ∀ arr ∈ psa, (md_sa (md_sa σ3 fX3_body M y2) fX3_closeAt M (Int32.ofNat cl)).2 arr = σ3.2 arr := fun arr ha => ea5 arr (fun z => by subst z; revert ha; decide) (fun z => by subst z; revert ha; decide)
      generalize md_sa (md_sa σ3 fX3_body M y2) fX3_closeAt M (Int32.ofNat cl) = σ5 at *
      have en5 : ∀ k : Nat, nn σ5 k = nn σ3 k := fun k => by unfold nn; rw [ei5]
      have hbd := p3.2.2
      unfold bds at hbd
      have hA3 := j3.2.2
      have hA3' := hA3
      unfold pjA at hA3
      have hst02 := a11
      have hmst := p3.2.1.2.2.2.1
      have kT : ∀ x y : Int32, tyR g w1 L σ1 x y → tyR g w4 L σ5 x y := fun x y z => ((z.keep (r := r) (P := P) (fun _ _ h => h) hk12.1).keep (r := r) (P := P) p3.1.2.2 p3.2.1.mg).keep (r := r) (P := P) q4 hk35.1
      have kI : ∀ x y : Int32, iota g w1 L σ1 x y → iota g w4 L σ5 x y := fun x y z => ((z.keep0 (fun _ _ h => h) hk12.1).keep0 p3.1.2.2 p3.2.1.mg).keep0 q4 hk35.1
      have eA : ∀ a : Nat, a ∈ cla → a ≠ fX3_body → a ≠ fX3_closeAt → a ≠ fX3_parameterFrom → σ5.2 a = σ1.2 a := fun a h1 h2 h3 h4 => by rw [ea5 a h2 h3, e3 a h1, ea2 a h4]
      have hKd2 : ∀ x : Nat, ch_gr w4 K fJ5_elementData = some x → x < ch_nx w0 := by
        intro x hx
        rw [(b_cell (hcf.2.2.2.2.2.1 hKo).1).2.2.2.1] at hx
        exact hKd x hx
      have hfin : ∀ x ∈ [b, Rt, At, Rn, An, Rc, Ac], ow2 r L K P w4 x ∧ x < ch_nx w4 := fun x hx => by
        obtain ⟨m1, m2⟩ := c2.2.2.2.2.2.2.2.2.2.2.2.2.2.1 x hx
        refine ⟨⟨q3 x m1, by omega, by omega, fun z => ?_⟩, ?_⟩
        · have := hKd2 x z
          omega
        · rw [nx4]; exact m1.lt (by omega)
      obtain ⟨d1, d2, d3, d4, d5, d6, d7, d8, d9, d10, d11, d12, d13, d14, d15, d16, d17, d18, d19, d20⟩ := id c2
      have nb : ∀ x : Nat, ch_tg w2 x ≠ 8 → w4.1 x = w2.1 x := fun x hx => ow4 x (fun z => hx (by rw [z]; exact d1))
      refine ⟨tc3, fr3, tt3, Q + i, ⟨q1, hj5, ?_⟩, hcf, hmk, a4.trans (hfc12.trans (p3.2.1.fc.trans hfc35)), fun a ha => ?_, ?_, ?_, ?_, by omega, by omega, by omega, ?_, by rw [en5]; omega, ?_, ?_, hbA, ?_⟩
      · unfold pjA
        rw [cs4, sl4, q2, en5, en5, en5, en5]
        exact hA3
      · rw [eA a (by revert a; decide) (fun z => by subst z; revert ha; decide) (fun z => by subst z; revert ha; decide) (fun z => by subst z; revert ha; decide)]
        exact a5 a ha
      · rw [ei5, ek3 _ (by decide)]; exact a6
      · rw [ei5, ek3 _ (by decide)]; exact a7
      · rw [ei5, ek3 _ (by decide)]; exact a8
      · rw [ea5 _ (by decide) (by decide), e3 _ (by decide), epf.1]; exact a8
      · rw [ei5, p3.2.1.2.2.2.2.1, f2s]; exact a12
      · unfold bds
        rw [cs4, sl4, q2, en5, en5, en5]
        omega
      · refine ⟨(hfin b (by simp)).1, (hfin b (by simp)).2, by omega, by rw [t4]; exact d1, by rw [r4 _ (by decide)]; exact d7, by rw [i4 _ (by decide)]; exact d6, ?_, ?_, ?_, ?_, Q, i, Ft, Fn, ?_, ?_, Nat.le_refl _, ?_, ?_, ?_, fun k hk => ⟨?_, ?_⟩, Or.inr ⟨by rw [i4 _ (by decide)]; exact d2, ?_, ⟨bl, mm, Z, r4b, ?_, fun k hk => ?_⟩, cl, k6, i4c, ec5⟩⟩
        · rw [i4 _ (by decide), d5, eA _ (by decide) (by decide) (by decide) (by decide)]
        · rw [eA _ (by decide) (by decide) (by decide) (by decide)]; exact b2
        · rw [i4 _ (by decide), d4, eA _ (by decide) (by decide) (by decide) (by decide)]; exact kI _ _ b3
        · rw [i4 _ (by decide), d3, eA _ (by decide) (by decide) (by decide) (by decide)]
          rcases b4 with z | z
          · exact Or.inl z
          · exact Or.inr (kT _ _ z)
        · rw [ea5 _ (by decide) (by decide), e3 _ (by decide), epf.2]; exact b6
        · rw [ea5 _ (by decide) (by decide), e3 _ (by decide), epf.1]; exact a8
        · exact ⟨Rt, At, ct, by rw [r4 _ (by decide)]; exact d8, (hfin Rt (by simp)).1, (hfin Rt (by simp)).2, (hfin At (by simp)).1, (hfin At (by simp)).2, d11.keep (nb _ (by rw [d11.1]; decide)) (nb _ (by rw [d11.2.2.2.1]; decide))⟩
        · exact ⟨Rn, An, kn, by rw [r4 _ (by decide)]; exact d9, (hfin Rn (by simp)).1, (hfin Rn (by simp)).2, (hfin An (by simp)).1, (hfin An (by simp)).2, d12.keep (nb _ (by rw [d12.1]; decide)) (nb _ (by rw [d12.2.2.2.1]; decide))⟩
        · exact ⟨Rc, Ac, 8, by rw [r4 _ (by decide)]; exact d10, (hfin Rc (by simp)).1, (hfin Rc (by simp)).2, (hfin Ac (by simp)).1, (hfin Ac (by simp)).2, d13.keep (nb _ (by rw [d13.1]; decide)) (nb _ (by rw [d13.2.2.2.1]; decide))⟩
        · rw [eA _ (by decide) (by decide) (by decide) (by decide)]; exact kT _ _ (b7 k hk)
        · rw [eA _ (by decide) (by decide) (by decide) (by decide)]; exact kI _ _ (b8 k hk)
        · rw [eA _ (by decide) (by decide) (by decide) (by decide)]; exact b5
        · rw [eb5, en5]
          obtain ⟨s1, s2, s3, s4, s5, s6, s7⟩ := k4
          have hbl4 := b_cell (nb bl (by rw [s3]; decide))
          refine ⟨q3 bl s1, s2, by rw [t4]; exact s3, by rw [hbl4.2.1]; exact s4, s5, s6, fun k hk => ?_⟩
          obtain ⟨v1, v2, v3, v4⟩ := s7 k hk
          exact ⟨by omega, v2, v3, by rw [hps5 _ (by decide)]; exact v4⟩
        · obtain ⟨a', v1, v2, v3⟩ := k5 k hk
          have hbl4 := b_cell (nb bl (by rw [k4.2.2.1]; decide))
          refine ⟨a', by rw [hbl4.2.2.2.1]; exact v1, ?_⟩
          rw [en5]
          exact sth.keep0 (a0 := 0) (s1 := 0) (fun x hx ht => ⟨nb x (by omega), q3 x hx⟩) q4 hk35.1 (by rw [en5]; omega) (by rw [en5]; omega) (Nat.le_refl _) (by omega) (fun arr v1 _ kk _ hkk => by rw [hps5 arr v1]) (fun kk _ hkk => by rw [hps5 _ (by decide)]) 1600 a' (Z k) (by omega) (by omega) (by omega) v3
    · right
      rw [tb_er k1]
      have hcB1 := h1.cB hcl hM
      have hcB2 : cB 0 σ2 := by obtain ⟨c, m1, q1, z1, z2, z3, z4⟩ := hcB1; exact ⟨c, m1, q1, by rw [f2s]; exact z1, by rw [f2s]; exact z2, by rw [f2s]; exact z3, z4⟩
      obtain ⟨d1, d2⟩ := dC_pds k4 hn12 hcB2
      obtain ⟨c1, c2⟩ := d1.sa (a := fX3_body) (i := M) (v := y2) (by decide)
      obtain ⟨g1, g2⟩ := c1.sa (a := fX3_closeAt) (i := M) (v := σ3.1 fX3_blockEnd) (by decide)
      exact ⟨e, w2, _, q, rfl, h230 _ k2, k3.cf h1.2.1, g1.mono (by omega), h1.2.2.2.1.trans (hfc12.trans (d2.trans (c2.trans g2)))⟩
  · right
    rw [tb_er e1]
    obtain ⟨d1, d2⟩ := dC_pds e4.s hn12 hcB
    obtain ⟨σ', f1, f2, f3⟩ := dm_230c (m := M) (bnd_s e2) d1 (by omega)
    exact ⟨e, w1, σ', q, rfl, f1, e3.cf h.2.1, f2.mono (by omega), h.2.2.2.1.trans (d2.trans f3)⟩
end PE
