/-! LEVEL B2: classes: a member, the whole of it -/
set_option maxRecDepth 100000
section PN
variable {g : State} {P r L S n C1 C2 K op : Nat} {f : Nat → Nat} {w0 w w' : ch_W} {σ0 σ σ' : ch_S} {fr0 M Q b tc fr tt i m q j : Nat} {u : Int} {ty nm pl x1 : Int32}
/-- stuck at a member's name -/
theorem dm_39b {x v : Int32} (h : dC n q j σ) (hm : m < 799) : ∃ σ', ((ch_mw σ fX3_memberId (Int32.ofNat m) v).bind fun σ4 => (ch_mI σ4 fX3_members ((σ4.1 fX3_members) + 1)).bind fun σ5 => if x = 0 then ((m_X3_isSign 40 σ5).bind fun v6 => if v6 = 0 then (m_X3_member_92 (Int32.ofNat m) 0 (Int32.ofNat m) σ5) else (m_X3_member_87 (Int32.ofNat m) (Int32.ofNat m) σ5)) else (m_X3_member_87 (Int32.ofNat m) (Int32.ofNat m) σ5)) = some σ' ∧ dC n q (j + 1) σ' ∧ fc σ σ' := by
  unfold m_X3_member_87
  obtain ⟨f1, f2⟩ := h.sa (a := fX3_memberId) (i := m) (v := v) (by decide)
  obtain ⟨σ3, g1, g2, g3⟩ := f1.mem
  rw [m_mw (show m < 800 by omega) (by decide), g1, Option.bind_some, dm_sign g2.1 g2.lt, Option.bind_some, if_pos rfl]
  have ft := f2.trans g3
  have fin : ∀ (y : Int32), (y = 0 ∨ y = 1) → ∃ σ', m_X3_member_92 (Int32.ofNat m) y (Int32.ofNat m) σ3 = some σ' ∧ dC n q (j + 1) σ' ∧ fc σ σ' := by
    intro y hy
    obtain ⟨σ', i1, i2, i3, -⟩ := dm_92 g2 hm hy
    exact ⟨σ', i1, i2, ft.trans i3⟩
  split
  · exact fin 0 (Or.inl rfl)
  · exact fin 1 (Or.inr rfl)
/-- neither ( nor ; behind a member's name -/
theorem po_neither (hA0 : pjA L n C1 C2 w0 σ0 fr0) (hKo : ow r L P w0 K) (hK : K < ch_nx w0) (hP0 : P ≤ ch_nx w0) (hcl : ∃ c, σ0.1 fX3_classes = Int32.ofNat c ∧ c ≤ 330) (hM : M ≤ 430) (h : pMv g P r L S n f C1 C2 K op w0 σ0 fr0 M Q ty nm pl w σ tc fr tt u) (hu : 3 ≤ u) (hq : tc ≠ 1059) (hq2 : tc ≠ 1040) : pom g P r L S n f C1 C2 K op w0 σ0 fr0 M Q (c_X4_member_71 g r ty nm pl w) (m_X3_member_92 (Int32.ofNat M) 0 (Int32.ofNat M) σ) := by
  right
  have e1M : Int32.ofNat M + 1 = Int32.ofNat (M + 1) := bn_add (b := 1)
  have hpf := h.2.2.2.2.2.2.2.2.2.2.2.2.2.2.2.2.1
  have hpar := h.2.2.2.2.2.2.2.1
  have hn12 := h.1.2.1.2.2.2.2.1
  have hcB := h.cB hcl hM
  have hfc := h.2.2.2.1
  have hj := h.1
  have hwr := hj.2.1.2.2.1
  obtain ⟨w1, o1, o2, h1⟩ := h.new hA0 hK hKo hP0 hu
  have hj1 := h1.1
  have hat1 := hj1.1.2.2.2.2.2.2.1
  have hr1 := hat1.1.1
  have hf1 := hat1.2.2.2.1
  have hf2 := hat1.2.2.2.2.1
  unfold c_X4_member_71
  rw [o1, Option.bind_some, o2, Option.bind_some, d_rc hr1]
  have hwr1 : (md_sa (md_sa σ fX3_isMethod M 1) fX3_parameterFrom (M + 1) (Int32.ofNat Q)).1 fX3_wrong = -1 := hwr
  have hopn : m_X3_opens 0 (md_sa (md_sa σ fX3_isMethod M 1) fX3_parameterFrom (M + 1) (Int32.ofNat Q)) = some (0, dz (md_sa (md_sa σ fX3_isMethod M 1) fX3_parameterFrom (M + 1) (Int32.ofNat Q)) fr) := by
    unfold m_X3_opens m_X3_opens_20
    rw [hwr1, if_pos bn_m1, if_pos rfl, ms_fails hwr1 hj1.2.1.2.1.1]
    rfl
  rcases po_opens (c := 1040) hj1 (Nat.le_refl _) hat1.2.2.2.1 (by decide) (it_171 hat1 hj1.1.1) with ⟨x2, w2, y2, σ2, e1, e2, e3, e4, -⟩ | ⟨e, w2, y2, σ2, q, e1, e2, e3, e4⟩
  · exact absurd e4 hq2
  · rw [if_neg hq2, hopn] at e2
    injection e2 with e2
    injection e2 with e2 e2'
    have hqf : q = fr := by
      have hk := e4.2.1
      rw [← e2'] at hk
      rcases hk with z | z
      · exact ((bn_eq (by omega) (by have := e4.2.2.2.1; omega)).mp z).symm
      · exact absurd z.1 (bn_m1n (by omega))
    unfold m_X3_member_92
    have hb0 : ch_bit 0 = some 0 := rfl
    have hz1 : (md_sa σ fX3_isMethod M 0).1 fX3_parameters = Int32.ofNat Q := hpar
    have hz2 : (md_sa σ fX3_isMethod M 0).2 fX3_parameterFrom M = Int32.ofNat Q := by rw [md_an (by decide)]; exact hpf
    have hv : (md_sa (md_sa σ fX3_isMethod M 0) fX3_parameterFrom (M + 1) (Int32.ofNat Q)).2 fX3_isMethod M = 0 := by rw [md_an (by decide), md_ga, if_pos ⟨rfl, rfl⟩]
    have hj3 : pjM n f (md_sa (md_sa σ fX3_isMethod M 0) fX3_parameterFrom (M + 1) (Int32.ofNat Q)) tc fr tt op := pjM_cl (pjM_cl hj.2.1 (by decide)) (by decide)
    have s59 : m_X3_isSign 59 (md_sa (md_sa σ fX3_isMethod M 0) fX3_parameterFrom (M + 1) (Int32.ofNat Q)) = some (if tc = 1000 + 59 then 1 else 0) := ms_sign (c := 59) hj3 hat1.2.2.2 (by decide)
    have hwr3 : (md_sa (md_sa σ fX3_isMethod M 0) fX3_parameterFrom (M + 1) (Int32.ofNat Q)).1 fX3_wrong = -1 := hwr
    have hcB3 : cB 0 (md_sa (md_sa σ fX3_isMethod M 0) fX3_parameterFrom (M + 1) (Int32.ofNat Q)) := hcB
    have hpd := (dz_pd hj3 hat1.2.2.2).s
    obtain ⟨d1, d2⟩ := dC_pds hpd hn12 hcB3
    refine ⟨e, w2, _, fr, by rw [tb_er e1], ?_, by rw [← hqf]; exact e3.cf h1.2.1, d1.mono (by omega), hfc.trans (fc.trans ((md_fr.refl.sa (List.mem_append_right _ (by decide))).sa (List.mem_append_right _ (by decide))) d2)⟩
    rw [hb0, Option.bind_some, m_mw (show M < 800 by omega) (by decide), m_mw (show M < 801 by omega) (by decide), hz1, md_sa_same hz2, e1M, m_mw (show M + 1 < 801 by omega) (by decide), hz1, d_ma (show M < 800 by omega) (by decide), hv, if_pos rfl, s59, Option.bind_some, if_neg (show ¬ tc = 1000 + 59 by omega), ms_passes hwr3, if_pos rfl, ms_fails hwr3 hj3.2.1.1]
    rfl
/-- behind a member's type -/
def pTv (g : State) (P r L S n : Nat) (f : Nat → Nat) (C1 C2 K op : Nat) (w0 : ch_W) (σ0 : ch_S) (fr0 M Q : Nat) (x1 ty : Int32) (w : ch_W) (σ : ch_S) (tc fr tt : Nat) (u : Int) : Prop :=
  pj g P r L S n f C1 C2 w σ tc fr tt op op fr ∧ cf g r L K P (ch_nx w0) w0 w ∧ mfk (nn σ0 fX3_statements) M Q σ0 σ ∧ fc σ0 σ ∧ (∀ a ∈ ccA, σ.2 a = σ0.2 a) ∧ σ.1 fX3_classes = σ0.1 fX3_classes ∧ σ.1 fX3_members = Int32.ofNat M ∧ σ.1 fX3_parameters = Int32.ofNat Q ∧ 2 * Q ≤ fr ∧ fr0 + 1 ≤ fr ∧ nn σ0 fX3_statements ≤ nn σ fX3_statements ∧ σ.1 fX3_held = σ0.1 fX3_held ∧ ((x1 = 1 ∧ ty = -4 ∧ σ.2 fX3_memberType M = 3) ∨ (x1 = 0 ∧ tyR g w L σ ty (σ.2 fX3_memberType M))) ∧ σ.2 fX3_parameterFrom M = Int32.ofNat Q ∧ bds L u 0 0 w0 σ0 fr0 w σ fr
theorem po_26 (hA0 : pjA L n C1 C2 w0 σ0 fr0) (hKo : ow r L P w0 K) (hK : K < ch_nx w0) (hP0 : P ≤ ch_nx w0) (hcl : ∃ c, σ0.1 fX3_classes = Int32.ofNat c ∧ c ≤ 330) (hM : M ≤ 430) (hKd : ∀ x : Nat, ch_gr w0 K fJ5_elementData = some x → x < ch_nx w0) (h : pTv g P r L S n f C1 C2 K op w0 σ0 fr0 M Q x1 ty w σ tc fr tt u) (hu : 0 ≤ u) : pom g P r L S n f C1 C2 K op w0 σ0 fr0 M Q (c_X4_member_26 g r x1 ty w) (m_X3_member_39 (Int32.ofNat M) x1 σ) := by
  obtain ⟨a1, a2, a3, a4, a5, a6, a7, a8, a9, a10, a11, a12, a13, a14, a15⟩ := h
  have hat := a1.1.2.2.2.2.2.2.1
  have hr := hat.1.1
  have hn12 := a1.2.1.2.2.2.2.1
  have hf1 := hat.2.2.2.1
  have hf2 := hat.2.2.2.2.1
  have hwf := a1.2.1.2.1.1
  unfold c_X4_member_26 m_X3_member_39
  rw [d_rc hr, nm_split a1, m_mw (show M < 800 by omega) (by decide), hwf]
  have hj1 : pj g P r L S n f C1 C2 w (md_sa σ fX3_memberAt M (Int32.ofNat fr)) tc fr tt op op fr := ⟨a1.1, pjM_cl a1.2.1 (by decide), a1.2.2⟩
  have hk1 : mfk (nn σ0 fX3_statements) M Q σ (md_sa σ fX3_memberAt M (Int32.ofNat fr)) := mfk_sa (by decide) (Or.inl ⟨by decide, Nat.le_refl _⟩)
  have ea1 : ∀ a : Nat, a ≠ fX3_memberAt → (md_sa σ fX3_memberAt M (Int32.ofNat fr)).2 a = σ.2 a := fun a ha => md_an ha
  have ev1 : (md_sa σ fX3_memberAt M (Int32.ofNat fr)).2 fX3_memberAt M = Int32.ofNat fr := by rw [md_ga, if_pos ⟨rfl, rfl⟩]
  have ei1 : (md_sa σ fX3_memberAt M (Int32.ofNat fr)).1 = σ.1 := rfl
  have hfc1 : fc σ (md_sa σ fX3_memberAt M (Int32.ofNat fr)) := md_fr.refl.sa (List.mem_append_right _ (by decide))
  generalize md_sa σ fX3_memberAt M (Int32.ofNat fr) = σ1 at *
  have hcB1 : cB 0 σ1 := by
    obtain ⟨c, c1, c2⟩ := hcl
    exact ⟨c, M, Q, by rw [ei1, a6]; exact c1, by rw [ei1]; exact a7, by rw [ei1]; exact a8, by omega, by omega, by omega⟩
  rcases po_name hj1 with ⟨x2, w2, y2, σ2, k1, k2, htc2, ⟨ii, jj, k3, k4, k5, k6, k7, k8⟩, ⟨tc2, fr2, tt2, j2, p2, l2⟩, -⟩ | ⟨e, w2, y2, σ2, q, k1, k2, k3, k4⟩
  · rw [tb_ok k1, k2, Option.bind_some]
    dsimp only
    rw [m_mw (show M < 800 by omega) (by decide)]
    have hms := p2.2.1.s
    have e2' : ∀ a : Nat, a ∈ cla → σ2.2 a = σ1.2 a := fun a ha => hms.1.2 a (by revert a; decide)
    have ek2 : ∀ a : Nat, a ∈ clk → σ2.1 a = σ.1 a := fun a ha => by rw [hms.1.1 a (by revert a; decide), ei1]
    have e6 : (md_sa σ2 fX3_memberId M y2).1 fX3_members + 1 = Int32.ofNat (M + 1) := by
      rw [md_gi, ek2 _ (by decide), a7]
      exact bn_add (b := 1)
    rw [m_mI, e6]
    have hk3 : mfk (nn σ0 fX3_statements) M Q σ2 (md_si (md_sa σ2 fX3_memberId M y2) fX3_members (Int32.ofNat (M + 1))) := (mfk_sa (by decide) (Or.inl ⟨by decide, Nat.le_refl _⟩)).trans (mfk_si (by decide))
    have ea3 : ∀ a : Nat, a ≠ fX3_memberId → (md_si (md_sa σ2 fX3_memberId M y2) fX3_members (Int32.ofNat (M + 1))).2 a = σ2.2 a := fun a ha => by rw [md_ia, md_an ha]
    have ev3 : (md_si (md_sa σ2 fX3_memberId M y2) fX3_members (Int32.ofNat (M + 1))).2 fX3_memberId M = y2 := by rw [md_ia, md_ga, if_pos ⟨rfl, rfl⟩]
    have ek3 : ∀ a : Nat, a ≠ fX3_members → (md_si (md_sa σ2 fX3_memberId M y2) fX3_members (Int32.ofNat (M + 1))).1 a = σ2.1 a := fun a ha => by rw [md_get, if_neg ha, md_gi]
    have em3 : (md_si (md_sa σ2 fX3_memberId M y2) fX3_members (Int32.ofNat (M + 1))).1 fX3_members = Int32.ofNat (M + 1) := md_gs
    have hfc3 : fc σ2 (md_si (md_sa σ2 fX3_memberId M y2) fX3_members (Int32.ofNat (M + 1))) := (md_fr.refl.sa (List.mem_append_right _ (by decide))).si (List.mem_append_right _ (by decide))
    have hj3 : pjM n f (md_si (md_sa σ2 fX3_memberId M y2) fX3_members (Int32.ofNat (M + 1))) tc2 fr2 tt2 op := pjM_ck (pjM_cl j2.2.1 (by decide)) (by decide)
    generalize md_si (md_sa σ2 fX3_memberId M y2) fX3_members (Int32.ofNat (M + 1)) = σ3 at *
    have en3 : ∀ a : Nat, a ≠ fX3_members → nn σ3 a = nn σ2 a := fun a ha => by unfold nn; rw [ek3 a ha]
    have en1 : ∀ a : Nat, nn σ1 a = nn σ a := fun a => by unfold nn; rw [ei1]
    have hb2 := p2.s0.2.2
    unfold bds at a15 hb2
    rw [en1, en1, en1] at hb2
    have kT : ∀ x y : Int32, tyR g w L σ x y → tyR g w2 L σ3 x y := fun x y z => ((z.keep (r := r) (P := P) (fun _ _ h => h) hk1.1).keep (r := r) (P := P) p2.1.2.2 hms.mg).keep (r := r) (P := P) (fun _ _ h => h) hk3.1
    have eA : ∀ a : Nat, a ∈ cla → a ≠ fX3_memberAt → a ≠ fX3_memberId → σ3.2 a = σ.2 a := fun a h1 h2 h3 => by rw [ea3 a h3, e2' a h1, ea1 a h2]
    have hA2 := j2.2.2
    have hat2 := j2.1.2.2.2.2.2.2.1
    have hr2 := hat2.1.1
    have hst2 := hms.2.2.2.1
    rw [en1] at hst2
    have hty3 : (x1 = 1 ∧ ty = -4 ∧ σ3.2 fX3_memberType M = 3) ∨ (x1 = 0 ∧ tyR g w2 L σ3 ty (σ3.2 fX3_memberType M)) := by
      rw [eA _ (by decide) (by decide) (by decide)]
      rcases a13 with z | z
      · exact Or.inl z
      · exact Or.inr ⟨z.1, kT _ _ z.2⟩
    have hMv : pMv g P r L S n f C1 C2 K op w0 σ0 fr0 M Q ty x2 (Int32.ofNat fr) w2 σ3 tc2 fr2 tt2 (u + 3) := by
      refine ⟨⟨j2.1, hj3, ?_⟩, a2.trans (p2.1.cf (a2.2.2.2.2.2.1 hKo).2), a3.trans (hk1.trans ((hms.k (by rw [en1]; omega)).trans hk3)), a4.trans (hfc1.trans (hms.fc.trans hfc3)), fun a ha => ?_, ?_, em3, ?_, by omega, by omega, by rw [en3 _ (by decide)]; omega, ?_, ⟨fr, rfl, by omega⟩, ?_, ?_, ?_, ?_, ?_⟩
      · unfold pjA at *
        rw [en3 _ (by decide), en3 _ (by decide), en3 _ (by decide), en3 _ (by decide)]
        exact hA2
      · rw [eA a (by revert a; decide) (fun z => by subst z; revert ha; decide) (fun z => by subst z; revert ha; decide)]; exact a5 a ha
      · rw [ek3 _ (by decide), ek2 _ (by decide)]; exact a6
      · rw [ek3 _ (by decide), ek2 _ (by decide)]; exact a8
      · rw [ek3 _ (by decide), hms.2.2.2.2.1, ei1]; exact a12
      · rw [ea3 _ (by decide), e2' _ (by decide)]; exact ev1
      · rw [ev3]
        exact (show iota g w2 L σ2 x2 y2 from ⟨ii, jj, _, k3, k4, k5, k6, k7, k8⟩).keep0 (fun _ _ h => h) hk3.1
      · rcases hty3 with z | z
        · exact Or.inl z.2
        · exact Or.inr z.2
      · rw [eA _ (by decide) (by decide) (by decide)]; exact a14
      · unfold bds
        rw [en3 _ (by decide), en3 _ (by decide), en3 _ (by decide)]
        omega
    have s40 : m_X3_isSign 40 σ3 = some (if tc2 = 1000 + 40 then 1 else 0) := ms_sign (c := 40) hj3 hat2.2.2.2 (by decide)
    have h71 : pom g P r L S n f C1 C2 K op w0 σ0 fr0 M Q (c_X4_member_71 g r ty x2 (Int32.ofNat fr) w2) (m_X3_member_87 (Int32.ofNat M) (Int32.ofNat M) σ3) := po_71 hA0 hKo hK hP0 hcl hM hKd hMv (by omega)
    rcases hty3 with ⟨z1, -⟩ | ⟨z1, z2⟩
    · rw [if_neg (by rw [z1]; decide), if_neg (by rw [z1]; decide)]
      exact h71
    · rw [if_pos z1, if_pos z1, d_rc hr2, it_164 hat2 j2.1.1, Option.bind_some, s40, Option.bind_some]
      by_cases hq : tc2 = 1059
      · rw [if_pos hq, if_neg (show ¬ (1 : Int32) = 0 by decide), if_neg (show ¬ tc2 = 1000 + 40 by omega), if_pos rfl, d_rc hr2]
        exact po_fld hA0 hKo hK hP0 hcl hM hKd hMv (by omega) hq z2
      · rw [if_neg hq, if_pos rfl]
        by_cases hq2 : tc2 = 1040
        · rw [if_pos (show tc2 = 1000 + 40 by omega), if_neg (show ¬ (1 : Int32) = 0 by decide)]
          exact h71
        · rw [if_neg (show ¬ tc2 = 1000 + 40 by omega), if_pos rfl]
          exact po_neither hA0 hKo hK hP0 hcl hM hMv (by omega) hq hq2
  · right
    rw [tb_er k1, k2, Option.bind_some]
    obtain ⟨d1, d2⟩ := dC_pds k4.s hn12 hcB1
    obtain ⟨σ', f1, f2, f3⟩ := dm_39b (m := M) (x := x1) (v := y2) d1 (by omega)
    exact ⟨e, w2, σ', q, rfl, f1, k3.cf a2, f2.mono (by omega), a4.trans (hfc1.trans (d2.trans f3))⟩
/-- A MEMBER -/
theorem po_memb (h : pj g P r L S n f C1 C2 w σ tc fr tt op op fr) (hKo : ow r L P w K) (hKd : ∀ x : Nat, ch_gr w K fJ5_elementData = some x → x < ch_nx w) (hcl : ∃ c, σ.1 fX3_classes = Int32.ofNat c ∧ c ≤ 330) (hm : σ.1 fX3_members = Int32.ofNat M) (hM : 3 * M ≤ fr) (hq : σ.1 fX3_parameters = Int32.ofNat Q) (hQ : 2 * Q ≤ fr) (hpf : σ.2 fX3_parameterFrom M = Int32.ofNat Q) : pom g P r L S n f C1 C2 K op w σ fr M Q (c_X4_member g r w) (m_X3_member σ) := by
  have hat := h.1.2.2.2.2.2.2.1
  have hr := hat.1.1
  have hn12 := h.2.1.2.2.2.2.1
  have hf1 := hat.2.2.2.1
  have hf2 := hat.2.2.2.2.1
  have hM4 : M ≤ 430 := by omega
  have hPn : P ≤ ch_nx w := by
    have := h.1.2.2.1
    have := h.1.2.2.2.2.2.1 r (by rw [hr]; decide)
    omega
  have hK : K < ch_nx w := hKo.lt hPn
  unfold c_X4_member m_X3_member
  have s5 : m_X3_isKey 5 σ = some (if tc = 2000 + 5 then 1 else 0) := ms_key (c := 5) h.2.1 hat.2.2.2 (by decide) (by decide)
  rw [d_rc hr, it_159 hat h.1.1, Option.bind_some, s5, Option.bind_some, hm, m_mw (show M < 800 by omega) (by decide)]
  have hj1 : pj g P r L S n f C1 C2 w (md_sa σ fX3_memberType M 3) tc fr tt op op fr := ⟨h.1, pjM_cl h.2.1 (by decide), h.2.2⟩
  have hk1 : mfk (nn σ fX3_statements) M Q σ (md_sa σ fX3_memberType M 3) := mfk_sa (by decide) (Or.inl ⟨by decide, Nat.le_refl _⟩)
  have ea1 : ∀ a : Nat, a ≠ fX3_memberType → (md_sa σ fX3_memberType M 3).2 a = σ.2 a := fun a ha => md_an ha
  have ev1 : (md_sa σ fX3_memberType M 3).2 fX3_memberType M = 3 := by rw [md_ga, if_pos ⟨rfl, rfl⟩]
  have ei1 : (md_sa σ fX3_memberType M 3).1 = σ.1 := rfl
  have hfc1 : fc σ (md_sa σ fX3_memberType M 3) := md_fr.refl.sa (List.mem_append_right _ (by decide))
  generalize md_sa σ fX3_memberType M 3 = σ1 at *
  have en1 : ∀ a : Nat, nn σ1 a = nn σ a := fun a => by unfold nn; rw [ei1]
  have hcB1 : cB 0 σ1 := by
    obtain ⟨c, c1, c2⟩ := hcl
    exact ⟨c, M, Q, by rw [ei1]; exact c1, by rw [ei1]; exact hm, by rw [ei1]; exact hq, by omega, by omega, by omega⟩
  by_cases hv : tc = 2005
  · rw [if_pos hv, if_neg (show ¬ (1 : Int32) = 0 by decide), d_rc hr, if_neg (show ¬ (1 : Int32) = 0 by decide)]
    rcases po_next (v := 1) hj1 (by omega) (Nat.le_refl _) hat.2.2.2.1 with ⟨x2, w2, y2, σ2, e1, e2, e3, ⟨tc2, fr2, tt2, j2, p2, l2⟩, -⟩ | ⟨e, w2, y2, σ2, q, e1, e2, e3, e4⟩
    · rw [tb_ok e1, bnd_s e2, Option.bind_some]
      have hms := p2.2.1.s
      have e2' : ∀ a : Nat, a ∈ cla → σ2.2 a = σ1.2 a := fun a ha => hms.1.2 a (by revert a; decide)
      have ek2 : ∀ a : Nat, a ∈ clk → σ2.1 a = σ.1 a := fun a ha => by rw [hms.1.1 a (by revert a; decide), ei1]
      have hst2 := hms.2.2.2.1
      have hb2 := p2.s0.2.2
      unfold bds at hb2
      rw [en1, en1, en1] at hb2
      rw [en1] at hst2
      refine po_26 (u := 4) h.2.2 hKo hK hPn hcl hM4 hKd (x1 := 1) ⟨j2, p2.1.cf hKo, hk1.trans (hms.k (by rw [en1]; omega)), hfc1.trans hms.fc, fun a ha => ?_, by rw [ek2 _ (by decide)], by rw [ek2 _ (by decide)]; exact hm, by rw [ek2 _ (by decide)]; exact hq, by omega, by omega, hst2, by rw [hms.2.2.2.2.1, ei1], Or.inl ⟨rfl, rfl, ?_⟩, ?_, ?_⟩ (by omega)
      · rw [e2' a (by revert a; decide), ea1 a (fun z => by subst z; revert ha; decide)]
      · rw [e2' _ (by decide)]; exact ev1
      · rw [e2' _ (by decide), ea1 _ (by decide)]; exact hpf
      · unfold bds
        omega
    · right
      rw [tb_er e1, bnd_s e2, Option.bind_some]
      obtain ⟨d1, d2⟩ := dC_pds e4.s hn12 hcB1
      obtain ⟨σ', f1, f2, f3, -⟩ := dm_39 (m := M) (x := 1) d1 (by omega)
      exact ⟨e, w2, σ', q, rfl, f1, e3, f2.mono (by omega), hfc1.trans (d2.trans f3)⟩
  · rw [if_neg hv, if_pos rfl, d_rc hr, if_pos rfl]
    rcases po_type hj1 with ⟨x2, w2, y2, σ2, e1, e2, htc, hty, ⟨tc2, fr2, tt2, j2, p2, l2⟩, -⟩ | ⟨e, w2, y2, σ2, q, e1, e2, e3, e4⟩
    · rw [tb_ok e1, e2, Option.bind_some]
      dsimp only
      rw [m_mw (show M < 800 by omega) (by decide)]
      have hms := p2.2.1.s
      have e2' : ∀ a : Nat, a ∈ cla → σ2.2 a = σ1.2 a := fun a ha => hms.1.2 a (by revert a; decide)
      have ek2 : ∀ a : Nat, a ∈ clk → σ2.1 a = σ.1 a := fun a ha => by rw [hms.1.1 a (by revert a; decide), ei1]
      have hst2 := hms.2.2.2.1
      have hb2 := p2.s0.2.2
      unfold bds at hb2
      rw [en1, en1, en1] at hb2
      rw [en1] at hst2
      have hk3 : mfk (nn σ fX3_statements) M Q σ2 (md_sa σ2 fX3_memberType M y2) := mfk_sa (by decide) (Or.inl ⟨by decide, Nat.le_refl _⟩)
      refine po_26 (u := 3) h.2.2 hKo hK hPn hcl hM4 hKd (x1 := 0) ⟨⟨j2.1, pjM_cl j2.2.1 (by decide), j2.2.2⟩, p2.1.cf hKo, hk1.trans ((hms.k (by rw [en1]; omega)).trans hk3), hfc1.trans (hms.fc.trans (md_fr.refl.sa (List.mem_append_right _ (by decide)))), fun a ha => ?_, ek2 _ (by decide), (ek2 _ (by decide)).trans hm, (ek2 _ (by decide)).trans hq, by omega, by omega, hst2, ?_, Or.inr ⟨rfl, ?_⟩, ?_, ?_⟩ (by omega)
      · rw [md_an (fun z => by subst z; revert ha; decide), e2' a (by revert a; decide), ea1 a (fun z => by subst z; revert ha; decide)]
      · rw [md_gi, hms.2.2.2.2.1, ei1]
      · rw [md_ga, if_pos ⟨rfl, rfl⟩]
        exact hty.keep (r := r) (P := P) (fun _ _ h => h) hk3.1
      · rw [md_an (by decide), e2' _ (by decide), ea1 _ (by decide)]; exact hpf
      · unfold bds
        rw [nn_cl, nn_cl, nn_cl]
        omega
    · right
      rw [tb_er e1, e2, Option.bind_some]
      obtain ⟨d1, d2⟩ := dC_pds e4.s hn12 hcB1
      obtain ⟨c1, c2⟩ := d1.sa (a := fX3_memberType) (i := M) (v := y2) (by decide)
      obtain ⟨σ', f1, f2, f3, -⟩ := dm_39 (m := M) (x := 0) c1 (by omega)
      refine ⟨e, w2, σ', q, rfl, ?_, e3, f2.mono (by omega), hfc1.trans (d2.trans (c2.trans f3))⟩
      rw [m_mw (show M < 800 by omega) (by decide), f1]
end PN
