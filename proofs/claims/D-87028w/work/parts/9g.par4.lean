/-! LEVEL B2: classes: all the parameters; a method -/
set_option maxRecDepth 100000
def cBd (g : State) (r b : Nat) : ch_W → Option (ch_W ⊕ (Except Nat (Option Nat) × ch_W)) := fun s => c_X4_member_91 g r (some b) s
section PF
variable {g : State} {P r L S n C1 C2 K op : Nat} {f : Nat → Nat} {w0 w w' : ch_W} {σ0 σ σ' : ch_S} {fr0 M Q b tc fr tt i m q j : Nat} {u : Int}
/-- THE PARAMETERS -/
theorem lp_par (hA0 : pjA L n C1 C2 w0 σ0 fr0) (hKo : ow r L P w0 K) (hK : K < ch_nx w0) (hP0 : P ≤ ch_nx w0) (hcl : ∃ c, σ0.1 fX3_classes = Int32.ofNat c ∧ c ≤ 330) (hM : M ≤ 430) (hKd : ∀ x : Nat, ch_gr w0 K fJ5_elementData = some x → x < ch_nx w0) : ∀ (N i : Nat) (w : ch_W) (σ : ch_S) (tc fr tt : Nat) (u : Int), n - fr ≤ N → 1 ≤ i → pIv g P r L S n f C1 C2 K (op + 1) w0 σ0 fr0 M Q b w σ tc fr tt u i i → (i : Int) + 4 ≤ u → pom g P r L S n f C1 C2 K op w0 σ0 fr0 M Q (ch_loop (cBd g r b) w) (pmid M σ) := by
  intro N
  induction N with
  | zero =>
    intro i w σ tc fr tt u hN hi h hu
    have hj := h.1
    have hat := hj.1.2.2.2.2.2.2.1
    have hr := hat.1.1
    have htk := hat.2.2.2
    have hwr := hj.2.1.2.2.1
    have hn12 := hj.2.1.2.2.2.2.1
    have htc : tc = 0 := Classical.byContradiction fun z => by
      have := htk.lt z
      have := htk.2.1
      omega
    obtain ⟨ty, nm, Rt, At, ct, Ft, Rn, An, kn, Fn, Rc, Ac, hb, -⟩ := h.2.2.2.2.2.2.2.2.2.2.2.2
    have hil : (0 : Int32) < Int32.ofNat i := (bn_lt (a := 0) (by decide) (by have := h.2.2.2.2.2.2.2.2.1; have := htk.2.1; have := htk.1; omega)).mpr (by omega)
    have s44 : m_X3_isSign 44 σ = some (if tc = 1000 + 44 then 1 else 0) := ms_sign (c := 44) hj.2.1 htk (by decide)
    have s41 : m_X3_isSign 41 σ = some (if tc = 1000 + 41 then 1 else 0) := ms_sign (c := 41) hj.2.1 htk (by decide)
    have hz : m_X3_passes 0 σ = some (0, dz σ fr) := by rw [ms_passes hwr, if_pos rfl, ms_fails hwr hj.2.1.2.1.1]; rfl
    have hcls : m_X3_closes 41 σ = some (dz σ fr) := by
      unfold m_X3_closes
      rw [s41, Option.bind_some, if_neg (show ¬ tc = 1000 + 41 by omega), hz, Option.bind_some, if_pos rfl]
    rcases po_want hj (c := 1044) (by decide) (it_182 hat hj.1.1) with ⟨x1, w1, y1, σ1, e1, e2, -, e3, -⟩ | ⟨e, w1, y1, σ1, q, e1, e2, e3, e4⟩
    · omega
    · rw [if_neg (show ¬ tc = 1044 by omega), hz] at e2
      injection e2 with e2
      injection e2 with e2 e2'
      obtain ⟨d1, d2⟩ := dC_pds e4.s hn12 (h.cB hcl hM)
      rw [← e2'] at d1 d2
      obtain ⟨σ', f1, f2, f3⟩ := dm_230c (m := M) hcls d1 (by omega)
      refine Or.inr ⟨e, w1, σ', q, ch_loop_inr ?_, ?_, e3.cf h.2.1, f2.mono (by omega), h.2.2.2.1.trans (d2.trans f3)⟩
      · show c_X4_member_91 g r (some b) w = _
        unfold c_X4_member_91
        rw [d_rc hr, it_173 hat hj.1.1, Option.bind_some, if_neg (show ¬ tc = 1041 by omega), if_pos rfl, d_gR hb.1, hb.2.2.2.2.2.2.2.2.1, d_gI hb.2.2.2.2.2.2.2.2.2.2.2.1.1, hb.2.2.2.2.2.2.2.2.2.2.2.1.2.2.1, if_pos hil, d_rc hr, tb_er e1]
      · unfold pmid
        rw [s44, Option.bind_some, if_neg (show ¬ tc = 1000 + 44 by omega), if_pos rfl, ml_zero, f1]
  | succ N ih =>
    intro i w σ tc fr tt u hN hi h hu
    have hj := h.1
    have hat := hj.1.2.2.2.2.2.2.1
    have hr := hat.1.1
    have htk := hat.2.2.2
    have hwr := hj.2.1.2.2.1
    have hn12 := hj.2.1.2.2.2.2.1
    obtain ⟨ty, nm, Rt, At, ct, Ft, Rn, An, kn, Fn, Rc, Ac, hb, -⟩ := h.2.2.2.2.2.2.2.2.2.2.2.2
    have hil : (0 : Int32) < Int32.ofNat i := (bn_lt (a := 0) (by decide) (by have := h.2.2.2.2.2.2.2.2.1; have := htk.2.1; have := htk.1; omega)).mpr (by omega)
    have s44 : m_X3_isSign 44 σ = some (if tc = 1000 + 44 then 1 else 0) := ms_sign (c := 44) hj.2.1 htk (by decide)
    have s41 : m_X3_isSign 41 σ = some (if tc = 1000 + 41 then 1 else 0) := ms_sign (c := 41) hj.2.1 htk (by decide)
    by_cases hq : tc = 1041
    · have hmid : pmid M σ = m_X3_member_230 (Int32.ofNat M) σ := by
        unfold pmid
        rw [s44, Option.bind_some, if_neg (show ¬ tc = 1000 + 44 by omega), if_pos rfl, ml_zero]
      rw [hmid]
      rcases po_fin hA0 hKo hK hP0 hcl hM hKd h (by omega) hq with ⟨w', σ', k1, k2, k3⟩ | ⟨e, w', σ', q, k1, k2, k3, k4, k5⟩
      · exact Or.inl ⟨b, w', σ', ch_loop_inr k1, k2, k3⟩
      · exact Or.inr ⟨e, w', σ', q, ch_loop_inr k1, k2, k3, k4.mono (by omega), k5⟩
    · have h91 : c_X4_member_91 g r (some b) w = ch_tb (c_X4_want g r (some (ch_sa g RX4 182)) w) (fun a w => .inr ((.error a, w))) fun _ w17 => c_X4_member_117 g r (some b) w17 := by
        unfold c_X4_member_91
        rw [d_rc hr, it_173 hat hj.1.1, Option.bind_some, if_neg hq, if_pos rfl, d_gR hb.1, hb.2.2.2.2.2.2.2.2.1, d_gI hb.2.2.2.2.2.2.2.2.2.2.2.1.1, hb.2.2.2.2.2.2.2.2.2.2.2.1.2.2.1, if_pos hil, d_rc hr]
      by_cases hc : tc = 1044
      · have hnx : m_X3_passes 1 σ = (m_X3_next σ).bind fun p => some (1, p) := by rw [ms_passes hwr, if_neg (by decide)]
        have hmid : ∀ σ1, m_X3_next σ = some σ1 → pmid M σ = ch_loop (pB M) (1, σ1) := fun σ1 hσ => by
          unfold pmid
          rw [s44, Option.bind_some, if_pos (show tc = 1000 + 44 by omega), if_neg (show ¬ (1 : Int32) = 0 by decide), hσ, Option.bind_some]
        rcases po_want hj (c := 1044) (by decide) (it_182 hat hj.1.1) with ⟨x1, w1, y1, σ1, e1, e2, -, -, ⟨tc1, fr1, tt1, j1, p1, l1⟩, -⟩ | ⟨e, w1, y1, σ1, q, e1, e2, e3, e4⟩
        · rw [if_pos hc, hnx] at e2
          have hσ1 := bnd_s e2
          have h1 := h.step hKo j1 p1.s0 (by omega) (by omega)
          rw [hmid σ1 hσ1]
          rcases po_117 hA0 hKo hK hP0 hcl hM h1 (by omega) with ⟨w2, σ2, tc2, fr2, tt2, k1, k2, k3, k4⟩ | ⟨e, w2, σ2, q, k1, k2, k3, k4, k5⟩
          · rw [k2 1 (by decide), ch_loop_inl (a' := w2)]
            · exact ih (i + 1) w2 σ2 tc2 fr2 tt2 _ (by have := k3.1.1.2.2.2.2.2.2.1.2.2.2.2.1; omega) (by omega) k3 (by omega)
            · show c_X4_member_91 g r (some b) w = _
              rw [h91, tb_ok e1, k1]
          · refine Or.inr ⟨e, w2, σ2, q, ch_loop_inr ?_, k2 1 (by decide), k3, k4.mono (by omega), k5⟩
            show c_X4_member_91 g r (some b) w = _
            rw [h91, tb_ok e1, k1]
        · rw [if_pos hc, hnx] at e2
          have hσ1 := bnd_s e2
          obtain ⟨d1, d2⟩ := dC_pds e4.s hn12 (h.cB hcl hM)
          obtain ⟨σ', f1, f2, f3⟩ := dm_165 (m := M) (x := 1) d1 (by omega) (by omega)
          refine Or.inr ⟨e, w1, σ', q, ch_loop_inr ?_, by rw [hmid σ1 hσ1]; exact f1, e3.cf h.2.1, f2.mono (by omega), h.2.2.2.1.trans (d2.trans f3)⟩
          show c_X4_member_91 g r (some b) w = _
          rw [h91, tb_er e1]
      · have hz : m_X3_passes 0 σ = some (0, dz σ fr) := by rw [ms_passes hwr, if_pos rfl, ms_fails hwr hj.2.1.2.1.1]; rfl
        have hcls : m_X3_closes 41 σ = some (dz σ fr) := by
          unfold m_X3_closes
          rw [s41, Option.bind_some, if_neg (show ¬ tc = 1000 + 41 by omega), hz, Option.bind_some, if_pos rfl]
        rcases po_want hj (c := 1044) (by decide) (it_182 hat hj.1.1) with ⟨x1, w1, y1, σ1, e1, e2, -, e3, -⟩ | ⟨e, w1, y1, σ1, q, e1, e2, e3, e4⟩
        · exact absurd e3 hc
        · rw [if_neg hc, hz] at e2
          injection e2 with e2
          injection e2 with e2 e2'
          obtain ⟨d1, d2⟩ := dC_pds e4.s hn12 (h.cB hcl hM)
          rw [← e2'] at d1 d2
          obtain ⟨σ', f1, f2, f3⟩ := dm_230c (m := M) hcls d1 (by omega)
          refine Or.inr ⟨e, w1, σ', q, ch_loop_inr ?_, ?_, e3.cf h.2.1, f2.mono (by omega), h.2.2.2.1.trans (d2.trans f3)⟩
          · show c_X4_member_91 g r (some b) w = _
            rw [h91, tb_er e1]
          · unfold pmid
            rw [s44, Option.bind_some, if_neg (show ¬ tc = 1000 + 44 by omega), if_pos rfl, ml_zero, f1]
/-- behind a member's name -/
def pMv (g : State) (P r L S n : Nat) (f : Nat → Nat) (C1 C2 K op : Nat) (w0 : ch_W) (σ0 : ch_S) (fr0 M Q : Nat) (ty nm pl : Int32) (w : ch_W) (σ : ch_S) (tc fr tt : Nat) (u : Int) : Prop :=
  pj g P r L S n f C1 C2 w σ tc fr tt op op fr ∧ cf g r L K P (ch_nx w0) w0 w ∧ mfk (nn σ0 fX3_statements) M Q σ0 σ ∧ fc σ0 σ ∧ (∀ a ∈ ccA, σ.2 a = σ0.2 a) ∧ σ.1 fX3_classes = σ0.1 fX3_classes ∧ σ.1 fX3_members = Int32.ofNat (M + 1) ∧ σ.1 fX3_parameters = Int32.ofNat Q ∧ 2 * Q ≤ fr ∧ fr0 + 2 ≤ fr ∧ nn σ0 fX3_statements ≤ nn σ fX3_statements ∧ σ.1 fX3_held = σ0.1 fX3_held ∧ (∃ p, pl = Int32.ofNat p ∧ p ≤ 3000) ∧ σ.2 fX3_memberAt M = pl ∧ iota g w L σ nm (σ.2 fX3_memberId M) ∧ ((ty = -4 ∧ σ.2 fX3_memberType M = 3) ∨ tyR g w L σ ty (σ.2 fX3_memberType M)) ∧ σ.2 fX3_parameterFrom M = Int32.ofNat Q ∧ bds L u 0 0 w0 σ0 fr0 w σ fr
theorem md_sa_same {a k : Nat} {v : Int32} (h : σ.2 a k = v) : md_sa σ a k v = σ := by
  have : (md_sa σ a k v).2 = σ.2 := by
    funext x y
    rw [md_ga]
    split
    · rename_i z
      rw [z.1, z.2, h]
    · rfl
  exact Prod.ext rfl this
/-- a method is begun -/
theorem pMv.new {ty nm pl : Int32} (hA0 : pjA L n C1 C2 w0 σ0 fr0) (hK : K < ch_nx w0) (hKo : ow r L P w0 K) (hP0 : P ≤ ch_nx w0) (h : pMv g P r L S n f C1 C2 K op w0 σ0 fr0 M Q ty nm pl w σ tc fr tt u) (hu : 3 ≤ u) :
    ∃ w', ch_nO w 8 12 = some (ch_nw w (ch_new 8 12)) ∧ c_X7_init (ch_nx w) 1 ty nm pl (ch_nw w (ch_new 8 12)) = some w' ∧ pIv g P r L S n f C1 C2 K op w0 σ0 fr0 M Q (ch_nx w) w' (md_sa (md_sa σ fX3_isMethod M 1) fX3_parameterFrom (M + 1) (Int32.ofNat Q)) tc fr tt (u - 1) 0 0 := by
  obtain ⟨a1, a2, a3, a4, a5, a6, a7, a8, a9, a10, a11, a12, a13, a14, a15, a16, a17, a18⟩ := h
  have htk := a1.1.2.2.2.2.2.2.1.2.2.2
  have hf1 := htk.1
  have hf2 := htk.2.1
  obtain ⟨r1, r2⟩ := pjC_room a1 hf1
  obtain ⟨w', m1, m2⟩ := mem_new (w := w) (im := 1) (ty := ty) (nm := nm) (pl := pl) rfl (by omega) (by omega)
  obtain ⟨c1, c2, c3, c4, c5, c6, c7⟩ := cmb_new (K := K) (hA := ch_nx w0) a1.1 m2 a2.1 hP0 hK
  have hk : mfk (nn σ0 fX3_statements) M Q σ (md_sa (md_sa σ fX3_isMethod M 1) fX3_parameterFrom (M + 1) (Int32.ofNat Q)) := (mfk_sa (by decide) (Or.inl ⟨by decide, Nat.le_refl _⟩)).trans (mfk_sa (by decide) (Or.inr (Or.inl ⟨rfl, by omega⟩)))
  have ea : ∀ a : Nat, a ≠ fX3_isMethod → a ≠ fX3_parameterFrom → (md_sa (md_sa σ fX3_isMethod M 1) fX3_parameterFrom (M + 1) (Int32.ofNat Q)).2 a = σ.2 a := fun a h1 h2 => by rw [md_an h2, md_an h1]
  unfold bds at a18
  have hA1 := a1.2.2
  have hA2 := hA0
  unfold pjA at hA1 hA2
  refine ⟨w', b_nO (by omega) (by omega), m1, ⟨c2, pjM_cl (pjM_cl a1.2.1 (by decide)) (by decide), ?_⟩, a2.trans (c4.cf (a2.2.2.2.2.2.1 hKo).2), a3.trans hk, a4.trans ((md_fr.refl.sa (List.mem_append_right _ (by decide))).sa (List.mem_append_right _ (by decide))), fun a ha => ?_, a6, a7, a8, by omega, by omega, a11, a12, ty, nm, ch_nx w + 1, ch_nx w + 2, 8, fun _ => 0, ch_nx w + 3, ch_nx w + 4, 8, fun _ => 0, ch_nx w + 5, ch_nx w + 6, ?_, ?_, ?_, ?_, ?_, ?_, fun k hk => by omega, fun k hk => by omega, by omega, by omega, ?_, ?_, ?_, ?_, ?_⟩
  · unfold pjA
    rw [c3, nn_cl, nn_cl, nn_cl, nn_cl, nn_cl, nn_cl, nn_cl, nn_cl]
    omega
  · rw [ea a (fun z => by subst z; revert ha; decide) (fun z => by subst z; revert ha; decide)]; exact a5 a ha
  · rw [ea _ (by decide) (by decide), a14]; exact c1
  · rw [ea _ (by decide) (by decide), a14]; exact a13
  · rw [ea _ (by decide) (by decide)]; exact a15.keep0 c4.2.2 hk.1
  · rw [ea _ (by decide) (by decide)]
    rcases a16 with z | z
    · exact Or.inl z
    · exact Or.inr (z.keep (r := r) (P := P) c4.2.2 hk.1)
  · rw [md_an (by decide), md_ga, if_pos ⟨rfl, rfl⟩]
  · rw [md_ga, if_neg (fun z => by omega), md_an (by decide)]; exact a17
  · omega
  · rw [c3]; omega
  · rw [nn_cl, nn_cl]; omega
  · rw [nn_cl, nn_cl]; omega
  · rw [nn_cl, nn_cl]; omega
end PF
