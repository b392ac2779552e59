/-! LEVEL B2: classes: a member -/
set_option maxRecDepth 100000
section PM
variable {g : State} {P r L S n C1 C2 K op : Nat} {f : Nat → Nat} {w0 w w' : ch_W} {σ0 σ σ' : ch_S} {fr0 M Q b tc fr tt i m q j : Nat} {u : Int} {ty nm pl : Int32}
theorem pMv.cB (h : pMv g P r L S n f C1 C2 K op w0 σ0 fr0 M Q ty nm pl w σ tc fr tt u) (hc : ∃ c, σ0.1 fX3_classes = Int32.ofNat c ∧ c ≤ 330) (hM : M ≤ 430) : cB 0 σ := by
  obtain ⟨a1, a2, a3, a4, a5, a6, a7, a8, a9, -⟩ := h
  obtain ⟨c, hc1, hc2⟩ := hc
  have hf2 := a1.1.2.2.2.2.2.2.1.2.2.2.2.1
  have hf1 := a1.1.2.2.2.2.2.2.1.2.2.2.1
  have hn12 := a1.2.1.2.2.2.2.1
  exact ⟨c, M + 1, Q, by rw [a6]; exact hc1, a7, a8, by omega, by omega, by omega⟩
/-- A METHOD, behind its name -/
theorem po_71 (hA0 : pjA L n C1 C2 w0 σ0 fr0) (hKo : ow r L P w0 K) (hK : K < ch_nx w0) (hP0 : P ≤ ch_nx w0) (hcl : ∃ c, σ0.1 fX3_classes = Int32.ofNat c ∧ c ≤ 330) (hM : M ≤ 430) (hKd : ∀ x : Nat, ch_gr w0 K fJ5_elementData = some x → x < ch_nx w0) (h : pMv g P r L S n f C1 C2 K op w0 σ0 fr0 M Q ty nm pl w σ tc fr tt u) (hu : 3 ≤ u) : pom g P r L S n f C1 C2 K op w0 σ0 fr0 M Q (c_X4_member_71 g r ty nm pl w) (m_X3_member_92 (Int32.ofNat M) 1 (Int32.ofNat M) σ) := by
  have e1M : Int32.ofNat M + 1 = Int32.ofNat (M + 1) := bn_add (b := 1)
  have hpf := h.2.2.2.2.2.2.2.2.2.2.2.2.2.2.2.2.1
  have hpar := h.2.2.2.2.2.2.2.1
  have hn12 := h.1.2.1.2.2.2.2.1
  obtain ⟨w1, o1, o2, h1⟩ := h.new hA0 hK hKo hP0 hu
  have hj1 := h1.1
  have hat1 := hj1.1.2.2.2.2.2.2.1
  have hr1 := hat1.1.1
  unfold c_X4_member_71 m_X3_member_92
  rw [o1, Option.bind_some, o2, Option.bind_some, d_rc hr1]
  have hb1 : ch_bit 1 = some 1 := rfl
  have hz1 : (md_sa σ fX3_isMethod M 1).1 fX3_parameters = Int32.ofNat Q := hpar
  have hz2 : (md_sa σ fX3_isMethod M 1).2 fX3_parameterFrom M = Int32.ofNat Q := by rw [md_an (by decide)]; exact hpf
  rw [hb1, Option.bind_some, m_mw (show M < 800 by omega) (by decide), m_mw (show M < 801 by omega) (by decide), hz1, md_sa_same hz2, e1M, m_mw (show M + 1 < 801 by omega) (by decide), hz1, d_ma (show M < 800 by omega) (by decide)]
  have hv : (md_sa (md_sa σ fX3_isMethod M 1) fX3_parameterFrom (M + 1) (Int32.ofNat Q)).2 fX3_isMethod M = 1 := by rw [md_an (by decide), md_ga, if_pos ⟨rfl, rfl⟩]
  rw [hv, if_neg (show ¬ (1 : Int32) = 0 by decide)]
  generalize hσ1 : md_sa (md_sa σ fX3_isMethod M 1) fX3_parameterFrom (M + 1) (Int32.ofNat Q) = σ1 at *
  have s40 : m_X3_isSign 40 σ1 = some (if tc = 1000 + 40 then 1 else 0) := ms_sign (c := 40) hj1.2.1 hat1.2.2.2 (by decide)
  rw [s40, Option.bind_some]
  rcases po_opens (c := 1040) hj1 (Nat.le_refl _) hat1.2.2.2.1 (by decide) (it_171 hat1 hj1.1.1) with ⟨x2, w2, y2, σ2, e1, e2, e3, e4, e5, ⟨tc2, fr2, tt2, j2, p2, l2⟩, -⟩ | ⟨e, w2, y2, σ2, q, e1, e2, e3, e4⟩
  · have h2 := h1.step hKo j2 p2.s0 (by omega) (by omega)
    have hat2 := j2.1.2.2.2.2.2.2.1
    have hr2 := hat2.1.1
    have s41 : m_X3_isSign 41 σ2 = some (if tc2 = 1000 + 41 then 1 else 0) := ms_sign (c := 41) j2.2.1 hat2.2.2.2 (by decide)
    rw [tb_ok e1]
    show pom g P r L S n f C1 C2 K op w0 σ0 fr0 M Q (ch_loop (cBd g r (ch_nx w)) w2) ((m_X3_opens (if tc = 1040 then 1 else 0) σ1).bind _)
    rw [e2, Option.bind_some, e3, if_neg (show ¬ (1 : Int32) = 0 by decide)]
    dsimp only
    rw [s41, Option.bind_some]
    by_cases hq : tc2 = 1041
    · rw [if_pos (show tc2 = 1000 + 41 by omega), if_neg (show ¬ (1 : Int32) = 0 by decide)]
      show pom g P r L S n f C1 C2 K op w0 σ0 fr0 M Q (ch_loop (cBd g r (ch_nx w)) w2) (ch_loop (pB M) (0, σ2))
      rw [ml_zero]
      rcases po_fin hA0 hKo hK hP0 hcl hM hKd h2 (by omega) hq with ⟨w', σ', k1, k2, k3⟩ | ⟨e, w', σ', q, k1, k2, k3, k4, k5⟩
      · exact Or.inl ⟨_, w', σ', ch_loop_inr k1, k2, k3⟩
      · exact Or.inr ⟨e, w', σ', q, ch_loop_inr k1, k2, k3, k4.mono (by omega), k5⟩
    · rw [if_neg (show ¬ tc2 = 1000 + 41 by omega), if_pos rfl]
      show pom g P r L S n f C1 C2 K op w0 σ0 fr0 M Q (ch_loop (cBd g r (ch_nx w)) w2) (ch_loop (pB M) (1, σ2))
      obtain ⟨ty2, nm2, Rt, At, ct, Ft, Rn, An, kn, Fn, Rc, Ac, hb, -⟩ := h2.2.2.2.2.2.2.2.2.2.2.2.2
      have h91 : c_X4_member_91 g r (some (ch_nx w)) w2 = c_X4_member_117 g r (some (ch_nx w)) w2 := by
        unfold c_X4_member_91
        rw [d_rc hr2, it_173 hat2 j2.1.1, Option.bind_some, if_neg hq, if_pos rfl, d_gR hb.1, hb.2.2.2.2.2.2.2.2.1, d_gI hb.2.2.2.2.2.2.2.2.2.2.2.1.1, hb.2.2.2.2.2.2.2.2.2.2.2.1.2.2.1, if_neg (by decide)]
      rcases po_117 hA0 hKo hK hP0 hcl hM h2 (by omega) with ⟨w3, σ3, tc3, fr3, tt3, k1, k2, k3, k4⟩ | ⟨e, w3, σ3, q, k1, k2, k3, k4, k5⟩
      · rw [k2 1 (by decide), ch_loop_inl (a' := w3)]
        · exact lp_par hA0 hKo hK hP0 hcl hM hKd n 1 w3 σ3 tc3 fr3 tt3 _ (by omega) (by omega) k3 (by omega)
        · show c_X4_member_91 g r (some (ch_nx w)) w2 = _
          rw [h91, k1]
      · refine Or.inr ⟨e, w3, σ3, q, ch_loop_inr ?_, k2 1 (by decide), k3, k4.mono (by omega), k5⟩
        show c_X4_member_91 g r (some (ch_nx w)) w2 = _
        rw [h91, k1]
  · right
    rw [tb_er e1]
    obtain ⟨d1, d2⟩ := dC_pds e4.s hn12 (h1.cB hcl hM)
    have hfin : ∃ σ', ((m_X3_opens (if tc = 1000 + 40 then 1 else 0) σ1).bind fun p7 => if p7.1 = 0 then some p7.2 else (m_X3_isSign 41 p7.2).bind fun v9 => if v9 = 0 then ch_loop (pB M) (1, p7.2) else ch_loop (pB M) (0, p7.2)) = some σ' ∧ dC n q 4 σ' ∧ fc σ2 σ' := by
      have e2' : m_X3_opens (if tc = 1000 + 40 then 1 else 0) σ1 = some (y2, σ2) := e2
      rw [e2', Option.bind_some]
      dsimp only
      by_cases hy : y2 = 0
      · rw [if_pos hy]
        exact ⟨σ2, rfl, d1.mono (by omega), fc.refl⟩
      · obtain ⟨σ', f1, f2, f3⟩ := dm_165 (m := M) (x := 1) d1 (by omega) (by omega)
        rw [if_neg hy, dm_sign d1.1 d1.lt, Option.bind_some, if_pos rfl]
        exact ⟨σ', f1, f2.mono (by omega), f3⟩
    obtain ⟨σ', f1, f2, f3⟩ := hfin
    exact ⟨e, w2, σ', q, rfl, f1, e3.cf h1.2.1, f2, h1.2.2.2.1.trans (d2.trans f3)⟩
/-- name, from, next: as the next name -/
theorem nm_split {β : Type} {F : Int32 → Int32 → ch_W → Option (Except Nat β × ch_W)} {om : Nat} (h : pj g P r L S n f C1 C2 w σ tc fr tt op om fr) : (ch_tb (c_X4_name g r w) (fun a w => (.error a, w)) fun v2 w3 => (ch_gI w3 (some r) 5 fX4_from).bind fun v4 => (ch_rc w3 (some r) 5).bind fun _ => ch_tb (c_X4_next g r w3) (fun a w => (.error a, w)) fun _ w7 => F v2 v4 w7) = ch_tb (c_X4_nextName g r w) (fun a w => (.error a, w)) fun v2 w7 => F v2 (Int32.ofNat fr) w7 := by
  have hat := h.1.2.2.2.2.2.2.1
  have hr := hat.1.1
  unfold c_X4_nextName
  rw [d_rc hr]
  by_cases hq : tc = 1
  · obtain ⟨k, w1, a1, a2, a3, -⟩ := lc_name h hq
    have hat1 := a3.1.2.2.2.2.2.2.1
    rw [tb_ok a1, tb_ok a1, d_gI hat1.1.1, hat1.2.1.1, d_rc hat1.1.1, d_rc hat1.1.1]
    cases hx : c_X4_next g r w1 with
    | none => rfl
    | some p =>
      obtain ⟨p1, p2⟩ := p
      cases p1 with
      | error e => rfl
      | ok v => rfl
  · have e : c_X4_name g r w = ch_tb (c_X4_must g r 0 w) (fun a w => (Except.error a, w)) fun _ w3 => (ch_gR w3 (some r) 5 fX4_s).bind fun v4 => (ch_gI w3 (some r) 5 fX4_from).bind fun v5 => (ch_gI w3 (some r) 5 fX4_to).bind fun v6 => (ch_rc w3 (some r) 5).bind fun _ => (c_X4_numberOf g r v4 v5 v6 w3).bind fun p8 => some ((.ok p8.1, p8.2)) := by
      unfold c_X4_name
      have hk : ¬ lx_kd tc = 1 := by
        unfold lx_kd
        rw [if_neg hq]
        split
        · decide
        · split <;> decide
      rw [d_gI hr, hat.2.2.1, if_neg hk]
      unfold c_X4_name_14
      rw [d_rc hr]
    obtain ⟨w', a1, a2⟩ := pj_must h hat.2.2.2.1
    rw [e, tb_er a1, tb_er rfl, tb_er rfl, tb_er rfl]
/-- A FIELD, behind its name -/
theorem po_fld (hA0 : pjA L n C1 C2 w0 σ0 fr0) (hKo : ow r L P w0 K) (hK : K < ch_nx w0) (hP0 : P ≤ ch_nx w0) (hcl : ∃ c, σ0.1 fX3_classes = Int32.ofNat c ∧ c ≤ 330) (hM : M ≤ 430) (hKd : ∀ x : Nat, ch_gr w0 K fJ5_elementData = some x → x < ch_nx w0) (h : pMv g P r L S n f C1 C2 K op w0 σ0 fr0 M Q ty nm pl w σ tc fr tt u) (hu : 3 ≤ u) (hq : tc = 1059) (hty : tyR g w L σ ty (σ.2 fX3_memberType M)) : pom g P r L S n f C1 C2 K op w0 σ0 fr0 M Q (ch_tb (c_X4_next g r w) (fun a w => (.error a, w)) fun _ w13 => (ch_nO w13 8 12).bind fun w14 => (c_X7_init (ch_nx w13) 0 ty nm pl w14).bind fun p15 => some ((.ok (some (ch_nx w13)), p15))) (m_X3_member_92 (Int32.ofNat M) 0 (Int32.ofNat M) σ) := by
  have e1M : Int32.ofNat M + 1 = Int32.ofNat (M + 1) := bn_add (b := 1)
  have hcB := h.cB hcl hM
  obtain ⟨a1, a2, a3, a4, a5, a6, a7, a8, a9, a10, a11, a12, a13, a14, a15, a16, a17, a18⟩ := id h
  have hat := a1.1.2.2.2.2.2.2.1
  have hn12 := a1.2.1.2.2.2.2.1
  have hwr := a1.2.1.2.2.1
  have hb1 : ch_bit 0 = some 0 := rfl
  have hz1 : (md_sa σ fX3_isMethod M 0).1 fX3_parameters = Int32.ofNat Q := a8
  have hz2 : (md_sa σ fX3_isMethod M 0).2 fX3_parameterFrom M = Int32.ofNat Q := by rw [md_an (by decide)]; exact a17
  unfold m_X3_member_92
  rw [hb1, Option.bind_some, m_mw (show M < 800 by omega) (by decide), m_mw (show M < 801 by omega) (by decide), hz1, md_sa_same hz2, e1M, m_mw (show M + 1 < 801 by omega) (by decide), hz1, d_ma (show M < 800 by omega) (by decide)]
  have hv : (md_sa (md_sa σ fX3_isMethod M 0) fX3_parameterFrom (M + 1) (Int32.ofNat Q)).2 fX3_isMethod M = 0 := by rw [md_an (by decide), md_ga, if_pos ⟨rfl, rfl⟩]
  rw [hv, if_pos rfl]
  clear hv
  have hk1 : mfk (nn σ0 fX3_statements) M Q σ (md_sa (md_sa σ fX3_isMethod M 0) fX3_parameterFrom (M + 1) (Int32.ofNat Q)) := (mfk_sa (by decide) (Or.inl ⟨by decide, Nat.le_refl _⟩)).trans (mfk_sa (by decide) (Or.inr (Or.inl ⟨rfl, by omega⟩)))
  have ea : ∀ a : Nat, a ≠ fX3_isMethod → a ≠ fX3_parameterFrom → (md_sa (md_sa σ fX3_isMethod M 0) fX3_parameterFrom (M + 1) (Int32.ofNat Q)).2 a = σ.2 a := fun a h1 h2 => by rw [md_an h2, md_an h1]
  have hj1 : pj g P r L S n f C1 C2 w (md_sa (md_sa σ fX3_isMethod M 0) fX3_parameterFrom (M + 1) (Int32.ofNat Q)) tc fr tt op op fr := ⟨a1.1, pjM_cl (pjM_cl a1.2.1 (by decide)) (by decide), a1.2.2⟩
  have ei : (md_sa (md_sa σ fX3_isMethod M 0) fX3_parameterFrom (M + 1) (Int32.ofNat Q)).1 = σ.1 := rfl
  have epf : (md_sa (md_sa σ fX3_isMethod M 0) fX3_parameterFrom (M + 1) (Int32.ofNat Q)).2 fX3_parameterFrom (M + 1) = Int32.ofNat Q ∧ (md_sa (md_sa σ fX3_isMethod M 0) fX3_parameterFrom (M + 1) (Int32.ofNat Q)).2 fX3_parameterFrom M = Int32.ofNat Q ∧ (md_sa (md_sa σ fX3_isMethod M 0) fX3_parameterFrom (M + 1) (Int32.ofNat Q)).2 fX3_isMethod M = 0 := by
    refine ⟨by rw [md_ga, if_pos ⟨rfl, rfl⟩], by rw [md_ga, if_neg (fun z => by omega), md_an (by decide)]; exact a17, by rw [md_an (by decide), md_ga, if_pos ⟨rfl, rfl⟩]⟩
  have hfc1 : fc σ (md_sa (md_sa σ fX3_isMethod M 0) fX3_parameterFrom (M + 1) (Int32.ofNat Q)) := (md_fr.refl.sa (List.mem_append_right _ (by decide))).sa (List.mem_append_right _ (by decide))
  generalize md_sa (md_sa σ fX3_isMethod M 0) fX3_parameterFrom (M + 1) (Int32.ofNat Q) = σ1 at *
  have s59 : m_X3_isSign 59 σ1 = some (if tc = 1000 + 59 then 1 else 0) := ms_sign (c := 59) hj1.2.1 hat.2.2.2 (by decide)
  have hwr1 : σ1.1 fX3_wrong = -1 := by rw [ei]; exact hwr
  rw [s59, Option.bind_some, if_pos (show tc = 1000 + 59 by omega), ms_passes hwr1, if_neg (show ¬ (1 : Int32) = 0 by decide)]
  have hcB1 : cB 0 σ1 := by obtain ⟨c, m1, q1, z1, z2, z3, z4⟩ := hcB; exact ⟨c, m1, q1, by rw [ei]; exact z1, by rw [ei]; exact z2, by rw [ei]; exact z3, z4⟩
  rcases po_next (v := 1) hj1 (by omega) (Nat.le_refl _) hat.2.2.2.1 with ⟨x2, w2, y2, σ2, e1, e2, e3, ⟨tc2, fr2, tt2, j2, p2, l2⟩, -⟩ | ⟨e, w2, y2, σ2, q, e1, e2, e3, e4⟩
  · left
    have hat2 := j2.1.2.2.2.2.2.2.1
    have hP2 : ch_nx w0 ≤ ch_nx w2 := Nat.le_trans a2.1 p2.1.1
    obtain ⟨r1, r2⟩ := pjC_room j2 hat2.2.2.2.1
    obtain ⟨w3, m1, m2⟩ := mem_new (w := w2) (im := 0) (ty := ty) (nm := nm) (pl := pl) rfl (by omega) (by omega)
    obtain ⟨c1, c2, c3, c4, c5, c6, c7⟩ := cmb_new (K := K) (hA := ch_nx w0) j2.1 m2 hP2 hP0 hK
    have hms := p2.2.1.s
    have ek2 : ∀ a : Nat, a ∈ clk → σ2.1 a = σ.1 a := fun a ha => by rw [hms.1.1 a (by revert a; decide), ei]
    have e2' : ∀ a : Nat, a ∈ cla → σ2.2 a = σ1.2 a := fun a ha => hms.1.2 a (by revert a; decide)
    have hcf : cf g r L K P (ch_nx w0) w0 w3 := a2.trans ((p2.1.cf (a2.2.2.2.2.2.1 hKo).2).trans (c4.cf (p2.1.2.1 K (a2.2.2.2.2.2.1 hKo).2).2))
    have hb2 := p2.s0.2.2
    unfold bds at a18 hb2
    have hno1 : nn σ1 fX3_nodes = nn σ fX3_nodes := by unfold nn; rw [ei]
    have hli1 : nn σ1 fX3_listed = nn σ fX3_listed := by unfold nn; rw [ei]
    have hst1 : nn σ1 fX3_statements = nn σ fX3_statements := by unfold nn; rw [ei]
    have hA2 := j2.2.2
    have hA3 := hA0
    unfold pjA at hA2 hA3
    have hst2 := hms.2.2.2.1
    have hf2 := hat2.2.2.2.1
    have hf2n := hat2.2.2.2.2.1
    have hKd3 : ∀ x : Nat, ch_gr w3 K fJ5_elementData = some x → x < ch_nx w0 := fun x hx => by
      rw [(b_cell (hcf.2.2.2.2.2.1 hKo).1).2.2.2.1] at hx
      exact hKd x hx
    have hfin : ∀ x ∈ [ch_nx w2, ch_nx w2 + 1, ch_nx w2 + 2, ch_nx w2 + 3, ch_nx w2 + 4, ch_nx w2 + 5, ch_nx w2 + 6], ow2 r L K P w3 x ∧ x < ch_nx w3 := fun x hx => by
      obtain ⟨m1, m2⟩ := c1.2.2.2.2.2.2.2.2.2.2.2.2.2.1 x hx
      refine ⟨⟨m1, by omega, by omega, fun z => ?_⟩, m1.lt (by omega)⟩
      have := hKd3 x z
      omega
    obtain ⟨d1, d2, d3, d4, d5, d6, d7, d8, d9, d10, d11, d12, d13, d14, -⟩ := id c1
    have eA : ∀ a : Nat, a ∈ cla → a ≠ fX3_isMethod → a ≠ fX3_parameterFrom → σ2.2 a = σ.2 a := fun a h1 h2 h3 => by rw [e2' a h1, ea a h2 h3]
    have kT : ∀ x y : Int32, tyR g w L σ x y → tyR g w3 L σ2 x y := fun x y z => ((z.keep (r := r) (P := P) (fun _ _ h => h) hk1.1).keep (r := r) (P := P) p2.1.2.2 hms.mg).keep (r := r) (P := P) c4.2.2 mg.refl
    have kI : ∀ x y : Int32, iota g w L σ x y → iota g w3 L σ2 x y := fun x y z => ((z.keep0 (fun _ _ h => h) hk1.1).keep0 p2.1.2.2 hms.mg).keep0 c4.2.2 mg.refl
    refine ⟨ch_nx w2, w3, σ2, ?_, ?_, tc2, fr2, tt2, Q, ⟨c2, j2.2.1, ?_⟩, hcf, a3.trans (hk1.trans (hms.k (by omega))), a4.trans (hfc1.trans hms.fc), fun a ha => ?_, ?_, ?_, ?_, Nat.le_refl _, by omega, by omega, ?_, by omega, ?_, ?_, hP2, ?_⟩
    · rw [tb_ok e1, d_nO (by omega) (by omega), m1]
      rfl
    · rw [bnd_s e2]
      rfl
    · unfold pjA
      rw [c3]
      omega
    · rw [eA a (by revert a; decide) (fun z => by subst z; revert ha; decide) (fun z => by subst z; revert ha; decide)]
      exact a5 a ha
    · rw [ek2 _ (by decide)]; exact a6
    · rw [ek2 _ (by decide)]; exact a7
    · rw [ek2 _ (by decide)]; exact a8
    · rw [e2' _ (by decide)]; exact epf.1
    · rw [hms.2.2.2.2.1, ei]; exact a12
    · unfold bds
      rw [c3]
      omega
    · refine ⟨(hfin _ (by simp)).1, (hfin _ (by simp)).2, by omega, d1, d7, d6, ?_, ?_, ?_, ?_, Q, 0, fun _ => 0, fun _ => 0, ?_, ?_, Nat.le_refl _, ?_, ?_, ?_, fun k hk => by omega, Or.inl ⟨d2, ?_, rfl, ?_⟩⟩
      · rw [d5, eA _ (by decide) (by decide) (by decide), a14]
      · rw [eA _ (by decide) (by decide) (by decide), a14]; exact a13
      · rw [d4, eA _ (by decide) (by decide) (by decide)]; exact kI _ _ a15
      · rw [d3, eA _ (by decide) (by decide) (by decide)]; exact Or.inr (kT _ _ hty)
      · rw [e2' _ (by decide)]; exact epf.2.1
      · rw [e2' _ (by decide)]; exact epf.1
      · exact ⟨_, _, 8, d8, (hfin _ (by simp)).1, (hfin _ (by simp)).2, (hfin _ (by simp)).1, (hfin _ (by simp)).2, d11⟩
      · exact ⟨_, _, 8, d9, (hfin _ (by simp)).1, (hfin _ (by simp)).2, (hfin _ (by simp)).1, (hfin _ (by simp)).2, d12⟩
      · exact ⟨_, _, 8, d10, (hfin _ (by simp)).1, (hfin _ (by simp)).2, (hfin _ (by simp)).1, (hfin _ (by simp)).2, d13⟩
      · rw [e2' _ (by decide)]; exact epf.2.2
      · rw [d3, eA _ (by decide) (by decide) (by decide)]; exact kT _ _ hty
  · right
    obtain ⟨d1, d2⟩ := dC_pds e4.s hn12 hcB1
    refine ⟨e, w2, σ2, q, by rw [tb_er e1], ?_, e3.cf a2, d1.mono (by omega), a4.trans (hfc1.trans d2)⟩
    rw [bnd_s e2]
    rfl
end PM
