/-! LEVEL B2: classes: the loop of parameters -/
set_option maxRecDepth 100000
def ccA : List Nat := [fX3_classId, fX3_classAt, fX3_parentId, fX3_memberFrom]
/-- a method that is being read: jt types, i names of parameters are there -/
def pIv (g : State) (P r L S n : Nat) (f : Nat → Nat) (C1 C2 K op : Nat) (w0 : ch_W) (σ0 : ch_S) (fr0 M Q b : Nat) (w : ch_W) (σ : ch_S) (tc fr tt : Nat) (u : Int) (jt i : Nat) : Prop :=
  pj g P r L S n f C1 C2 w σ tc fr tt op op fr ∧ cf g r L K P (ch_nx w0) w0 w ∧ mfk (nn σ0 fX3_statements) M Q σ0 σ ∧ fc σ0 σ ∧ (∀ a ∈ ccA, σ.2 a = σ0.2 a) ∧ σ.1 fX3_classes = σ0.1 fX3_classes ∧ σ.1 fX3_members = Int32.ofNat (M + 1) ∧ σ.1 fX3_parameters = Int32.ofNat (Q + i) ∧ 2 * (Q + i) ≤ fr ∧ fr0 + 2 ≤ fr ∧ nn σ0 fX3_statements ≤ nn σ fX3_statements ∧ σ.1 fX3_held = σ0.1 fX3_held ∧
  ∃ ty nm Rt At ct Ft Rn An kn Fn Rc Ac, cmb r L P (ch_nx w0) w b 1 ty nm (σ.2 fX3_memberAt M) Rt At jt ct Ft Rn An i kn Fn Rc Ac ∧ (∃ p, σ.2 fX3_memberAt M = Int32.ofNat p ∧ p ≤ 3000) ∧ iota g w L σ nm (σ.2 fX3_memberId M) ∧ ((ty = -4 ∧ σ.2 fX3_memberType M = 3) ∨ tyR g w L σ ty (σ.2 fX3_memberType M)) ∧ σ.2 fX3_isMethod M = 1 ∧ σ.2 fX3_parameterFrom M = Int32.ofNat Q ∧ (∀ k : Nat, k < jt → tyR g w L σ (Ft k) (σ.2 fX3_parameterType (Q + k))) ∧ (∀ k : Nat, k < i → iota g w L σ (Fn k) (σ.2 fX3_parameterId (Q + k))) ∧ ct ≤ 2 * jt + 8 ∧ kn ≤ 2 * i + 8 ∧
  (ch_cs w : Int) + 32 * u ≤ ch_cs w0 + 128 * ((fr : Int) - fr0) ∧ (ch_sl w : Int) + 4 * cpN w0 L + 256 * u ≤ ch_sl w0 + 1024 * ((fr : Int) - fr0) + 4 * cpN w L + 2 * ct + 2 * kn ∧ (nn σ fX3_nodes : Int) ≤ nn σ0 fX3_nodes + ((fr : Int) - fr0) ∧ (nn σ fX3_listed : Int) ≤ nn σ0 fX3_listed + ((fr : Int) - fr0) ∧ (nn σ fX3_statements : Int) ≤ nn σ0 fX3_statements + ((fr : Int) - fr0)
section PI
variable {g : State} {P r L S n C1 C2 K op : Nat} {f : Nat → Nat} {w0 w w' : ch_W} {σ0 σ σ' : ch_S} {fr0 M Q b tc fr tt tc' fr' tt' jt i op' : Nat} {u u2 s2 t2 : Int}
theorem mfs.fc (h : mfs σ σ') : fc σ σ' := h.1.mono (fun _ z => List.mem_append_left _ z) (fun _ z => List.mem_append_left _ z)
/-- reading on -/
theorem pIv.step (hKo : ow r L P w0 K) (h : pIv g P r L S n f C1 C2 K op w0 σ0 fr0 M Q b w σ tc fr tt u jt i) (hj : pj g P r L S n f C1 C2 w' σ' tc' fr' tt' op' op' fr') (hp : prs g P r L u2 s2 t2 w σ fr w' σ' fr') (hs : 0 ≤ s2) (ht : 0 ≤ t2) : pIv g P r L S n f C1 C2 K op' w0 σ0 fr0 M Q b w' σ' tc' fr' tt' (u + u2) jt i := by
  obtain ⟨a1, a2, a3, a4, a5, a6, a7, a8, a9, a10, a11, a12, ty, nm, Rt, At, ct, Ft, Rn, An, kn, Fn, Rc, Ac, b1, b2, b3, b4, b5, b6, b7, b8, b9, b10, b11, b12, b13, b14, b15⟩ := h
  obtain ⟨p1, p2, p3⟩ := hp
  unfold bds at p3
  have e : ∀ a : Nat, a ∈ cla → σ'.2 a = σ.2 a := fun a ha => p2.1.2 a (by revert a; decide)
  have ek : ∀ a : Nat, a ∈ clk → σ'.1 a = σ.1 a := fun a ha => p2.1.1 a (by revert a; decide)
  have kT : ∀ x y : Int32, tyR g w L σ x y → tyR g w' L σ' x y := fun x y z => z.keep (r := r) (P := P) p1.2.2 p2.mg
  have kI : ∀ x y : Int32, iota g w L σ x y → iota g w' L σ' x y := fun x y z => z.keep0 p1.2.2 p2.mg
  refine ⟨hj, a2.trans (p1.cf (a2.2.2.2.2.2.1 hKo).2), a3.trans (p2.k a11), a4.trans p2.fc, fun a ha => ?_, by rw [ek _ (by decide)]; exact a6, by rw [ek _ (by decide)]; exact a7, by rw [ek _ (by decide)]; exact a8, by omega, by omega, by have := p2.2.2.2.1; omega, p2.2.2.2.2.1.trans a12, ty, nm, Rt, At, ct, Ft, Rn, An, kn, Fn, Rc, Ac, ?_, ?_, ?_, ?_, ?_, ?_, fun k hk => ?_, fun k hk => ?_, b9, b10, by omega, by omega, by omega, by omega, by omega⟩
  · rw [e a (by revert a; decide)]; exact a5 a ha
  · rw [e _ (by decide)]; exact b1.pf p1
  · rw [e _ (by decide)]; exact b2
  · rw [e _ (by decide)]; exact kI _ _ b3
  · rw [e _ (by decide)]
    rcases b4 with z | z
    · exact Or.inl z
    · exact Or.inr (kT _ _ z)
  · rw [e _ (by decide)]; exact b5
  · rw [e _ (by decide)]; exact b6
  · rw [e _ (by decide)]; exact kT _ _ (b7 k hk)
  · rw [e _ (by decide)]; exact kI _ _ (b8 k hk)
theorem pIv.weak {u' : Int} (h : pIv g P r L S n f C1 C2 K op w0 σ0 fr0 M Q b w σ tc fr tt u jt i) (hu : u' ≤ u) : pIv g P r L S n f C1 C2 K op w0 σ0 fr0 M Q b w σ tc fr tt u' jt i := by
  obtain ⟨a1, a2, a3, a4, a5, a6, a7, a8, a9, a10, a11, a12, ty, nm, Rt, At, ct, Ft, Rn, An, kn, Fn, Rc, Ac, b1, b2, b3, b4, b5, b6, b7, b8, b9, b10, b11, b12, b13, b14, b15⟩ := h
  exact ⟨a1, a2, a3, a4, a5, a6, a7, a8, a9, a10, a11, a12, ty, nm, Rt, At, ct, Ft, Rn, An, kn, Fn, Rc, Ac, b1, b2, b3, b4, b5, b6, b7, b8, b9, b10, by omega, by omega, by omega, by omega, by omega⟩
/-- the model's rows of members are no part of its word -/
theorem pjM_cl {a k : Nat} {v : Int32} (h : pjM n f σ tc fr tt op) (ha : a ∈ cla) : pjM n f (md_sa σ a k v) tc fr tt op := by
  have hf : md_fr [] cla σ (md_sa σ a k v) := md_fr.refl.sa ha
  obtain ⟨h1, h2, h3, h4, h5, ⟨kk, T, h6, h7, h8⟩, h9⟩ := h
  exact ⟨h1.fr hf (by decide) (by decide), h2, h3, h4, h5, ⟨kk, T, h6.fr hf (by decide) (by decide) (by decide) (by decide), h7, h8⟩, h9⟩
theorem pjM_ck {a : Nat} {v : Int32} (h : pjM n f σ tc fr tt op) (ha : a ∈ clk) : pjM n f (md_si σ a v) tc fr tt op := by
  have hf : md_fr clk [] σ (md_si σ a v) := md_fr.refl.si ha
  have e : ∀ k : Nat, k ∉ clk → (md_si σ a v).1 k = σ.1 k := fun k hk => hf.1 k hk
  have en : ∀ k : Nat, k ∉ clk → nn (md_si σ a v) k = nn σ k := fun k hk => by unfold nn; rw [e k hk]
  obtain ⟨h1, ⟨w1, w2, w3, w4, w5, w6, w7, w8⟩, h3, h4, h5, ⟨kk, T, h6, h7, h8⟩, n1, n2, n3, n4⟩ := h
  have ew := e fX3_word (by decide)
  have ev := e fX3_wordValue (by decide)
  refine ⟨h1.fr hf (by decide) (by decide), ⟨by rw [e _ (by decide)]; exact w1, by rw [e _ (by decide)]; exact w2, by rw [e _ (by decide)]; exact w3, by rw [ew]; exact w4, by rw [ew]; exact w5, by rw [ew, ev]; exact w6, by rw [ew, ev]; exact w7, by rw [ew, ev]; exact w8⟩, by rw [e _ (by decide)]; exact h3, by rw [e _ (by decide)]; exact h4, h5, ⟨kk, T, h6.fr hf (by decide) (by decide) (by decide) (by decide), h7, by rw [ev]; exact h8⟩, by rw [e _ (by decide), en _ (by decide)]; exact n1, by rw [e _ (by decide), en _ (by decide)]; exact n2, by rw [e _ (by decide), en _ (by decide)]; exact n3, by rw [e _ (by decide), en _ (by decide)]; exact n4⟩
theorem nn_cl {a k j : Nat} {v : Int32} : nn (md_sa σ a k v) j = nn σ j := rfl
theorem nn_ck {a k : Nat} {v : Int32} (hk : k ≠ a) : nn (md_si σ a v) k = nn σ k := by
  unfold nn
  rw [md_get, if_neg hk]
/-- a type more -/
theorem pIv.addT {v y : Int32} (hA0 : pjA L n C1 C2 w0 σ0 fr0) (hK : K < ch_nx w0) (hP0 : P ≤ ch_nx w0) (h : pIv g P r L S n f C1 C2 K op w0 σ0 fr0 M Q b w σ tc fr tt u i i) (hu : (i : Int) + 4 ≤ u) (hv : tyR g w L σ v y) :
    ∃ Rt w', ch_gr w b fX7_types = some Rt ∧ ch_tg w b = 8 ∧ ch_tg w Rt = 9 ∧ c_X8_add Rt v w = some w' ∧ pIv g P r L S n f C1 C2 K op w0 σ0 fr0 M Q b w' (md_sa σ fX3_parameterType (Q + i) y) tc fr tt (u - 1) (i + 1) i := by
  obtain ⟨a1, a2, a3, a4, a5, a6, a7, a8, a9, a10, a11, a12, ty, nm, Rt, At, ct, Ft, Rn, An, kn, Fn, Rc, Ac, b1, b2, b3, b4, b5, b6, b7, b8, b9, b10, b11, b12, b13, b14, b15⟩ := h
  have hfn := a1.1.2.2.2.2.2.2.1.2.2.2
  have hf1 := hfn.1
  have hf2 := hfn.2.1
  have hn12 := a1.2.1.2.2.2.2.1
  have hA1 := a1.2.2
  have hA2 := hA0
  unfold pjA at hA1 hA2
  obtain ⟨r1, r2⟩ := pjC_room a1 hf1
  obtain ⟨w', At', ct', c1, c2, c3, c4, c5, c6, c7, c8⟩ := cmb_T (v := v) (K := K) a1.1 b1 hP0 hK a2.1 (by omega) (by omega) (by omega)
  have c8' := c8 b9
  refine ⟨Rt, w', b1.2.2.2.2.2.2.2.1, b1.1, b1.2.2.2.2.2.2.2.2.2.2.1.1, c1, ⟨c3, pjM_cl a1.2.1 (by decide), ?_⟩, a2.trans c5, a3.trans (mfk_sa (by decide) (Or.inr (Or.inr (Or.inl ⟨by decide, by omega⟩)))), a4.trans (md_fr.refl.sa (List.mem_append_right _ (by decide))), fun a ha => ?_, a6, a7, a8, a9, a10, a11, a12, ty, nm, Rt, At', ct', up1 Ft i v, Rn, An, kn, Fn, Rc, Ac, ?_, ?_, ?_, ?_, ?_, ?_, fun k hk => ?_, fun k hk => ?_, c8', b10, by omega, by omega, b13, b14, b15⟩
  · unfold pjA
    rw [c4, nn_cl, nn_cl, nn_cl, nn_cl]
    omega
  · rw [md_an (fun z => by subst z; revert ha; decide)]; exact a5 a ha
  · rw [md_an (by decide)]; exact c2
  · rw [md_an (by decide)]; exact b2
  · rw [md_an (by decide)]; exact b3.keep0 c5.2.2.2.1 (mfk_sa (hs := 0) (M := 0) (Q := 0) (by decide) (Or.inr (Or.inr (Or.inl ⟨by decide, by omega⟩)))).1
  · rw [md_an (by decide)]
    rcases b4 with z | z
    · exact Or.inl z
    · exact Or.inr (z.keep (r := r) (P := P) c5.2.2.2.1 (mfk_sa (hs := 0) (M := 0) (Q := 0) (by decide) (Or.inr (Or.inr (Or.inl ⟨by decide, by omega⟩)))).1)
  · rw [md_an (by decide)]; exact b5
  · rw [md_an (by decide)]; exact b6
  · have hmg : mg σ (md_sa σ fX3_parameterType (Q + i) y) := (mfk_sa (hs := 0) (M := 0) (Q := 0) (by decide) (Or.inr (Or.inr (Or.inl ⟨by decide, by omega⟩)))).1
    unfold up1
    by_cases hki : k = i
    · rw [if_pos hki, hki, md_ga, if_pos ⟨rfl, rfl⟩]
      exact hv.keep (r := r) (P := P) c5.2.2.2.1 hmg
    · rw [if_neg hki, md_ga, if_neg (fun z => by omega)]
      exact (b7 k (by omega)).keep (r := r) (P := P) c5.2.2.2.1 hmg
  · have hmg : mg σ (md_sa σ fX3_parameterType (Q + i) y) := (mfk_sa (hs := 0) (M := 0) (Q := 0) (by decide) (Or.inr (Or.inr (Or.inl ⟨by decide, by omega⟩)))).1
    rw [md_an (by decide)]
    exact (b8 k hk).keep0 c5.2.2.2.1 hmg
/-- a name more -/
theorem pIv.addN {v y : Int32} (hA0 : pjA L n C1 C2 w0 σ0 fr0) (hK : K < ch_nx w0) (hP0 : P ≤ ch_nx w0) (h : pIv g P r L S n f C1 C2 K op w0 σ0 fr0 M Q b w σ tc fr tt u (i + 1) i) (hu : (i : Int) + 4 ≤ u) (hv : iota g w L σ v y) (hfr : 2 * (Q + i + 1) ≤ fr) :
    ∃ Rn w', ch_gr w b fX7_names = some Rn ∧ ch_tg w b = 8 ∧ ch_tg w Rn = 9 ∧ c_X8_add Rn v w = some w' ∧ pIv g P r L S n f C1 C2 K op w0 σ0 fr0 M Q b w' (md_si (md_sa σ fX3_parameterId (Q + i) y) fX3_parameters (Int32.ofNat (Q + (i + 1)))) tc fr tt (u - 1) (i + 1) (i + 1) := by
  obtain ⟨a1, a2, a3, a4, a5, a6, a7, a8, a9, a10, a11, a12, ty, nm, Rt, At, ct, Ft, Rn, An, kn, Fn, Rc, Ac, b1, b2, b3, b4, b5, b6, b7, b8, b9, b10, b11, b12, b13, b14, b15⟩ := h
  have hfn := a1.1.2.2.2.2.2.2.1.2.2.2
  have hf1 := hfn.1
  have hf2 := hfn.2.1
  have hn12 := a1.2.1.2.2.2.2.1
  have hA1 := a1.2.2
  have hA2 := hA0
  unfold pjA at hA1 hA2
  obtain ⟨r1, r2⟩ := pjC_room a1 hf1
  obtain ⟨w', An', kn', c1, c2, c3, c4, c5, c6, c7, c8⟩ := cmb_N (v := v) (K := K) a1.1 b1 hP0 hK a2.1 (by omega) (by omega) (by omega)
  have c8' := c8 b10
  have hk1 : mfk (nn σ0 fX3_statements) M Q σ (md_sa σ fX3_parameterId (Q + i) y) := mfk_sa (by decide) (Or.inr (Or.inr (Or.inl ⟨by decide, by omega⟩)))
  have hk2 : mfk (nn σ0 fX3_statements) M Q (md_sa σ fX3_parameterId (Q + i) y) (md_si (md_sa σ fX3_parameterId (Q + i) y) fX3_parameters (Int32.ofNat (Q + (i + 1)))) := mfk_si (by decide)
  have hk3 := hk1.trans hk2
  have ek : ∀ a : Nat, a ≠ fX3_parameters → (md_si (md_sa σ fX3_parameterId (Q + i) y) fX3_parameters (Int32.ofNat (Q + (i + 1)))).1 a = σ.1 a := fun a ha => by rw [md_get, if_neg ha, md_gi]
  have en : ∀ a : Nat, a ≠ fX3_parameters → nn (md_si (md_sa σ fX3_parameterId (Q + i) y) fX3_parameters (Int32.ofNat (Q + (i + 1)))) a = nn σ a := fun a ha => by unfold nn; rw [ek a ha]
  have ea : ∀ a : Nat, a ≠ fX3_parameterId → (md_si (md_sa σ fX3_parameterId (Q + i) y) fX3_parameters (Int32.ofNat (Q + (i + 1)))).2 a = σ.2 a := fun a ha => by rw [md_ia, md_an ha]
  refine ⟨Rn, w', b1.2.2.2.2.2.2.2.2.1, b1.1, b1.2.2.2.2.2.2.2.2.2.2.2.1.1, c1, ⟨c3, pjM_ck (pjM_cl a1.2.1 (by decide)) (by decide), ?_⟩, a2.trans c5, a3.trans hk3, a4.trans ((md_fr.refl.sa (List.mem_append_right _ (by decide))).si (List.mem_append_right _ (by decide))), fun a ha => ?_, by rw [ek _ (by decide)]; exact a6, by rw [ek _ (by decide)]; exact a7, by rw [md_gs], by omega, a10, by rw [en _ (by decide)]; exact a11, by rw [ek _ (by decide)]; exact a12, ty, nm, Rt, At, ct, Ft, Rn, An', kn', up1 Fn i v, Rc, Ac, ?_, ?_, ?_, ?_, ?_, ?_, fun k hk => ?_, fun k hk => ?_, b9, c8', by omega, by omega, by rw [en _ (by decide)]; exact b13, by rw [en _ (by decide)]; exact b14, by rw [en _ (by decide)]; exact b15⟩
  · unfold pjA
    rw [c4, en _ (by decide), en _ (by decide), en _ (by decide), en _ (by decide)]
    omega
  · rw [ea a (fun z => by subst z; revert ha; decide)]; exact a5 a ha
  · rw [ea _ (by decide)]; exact c2
  · rw [ea _ (by decide)]; exact b2
  · rw [ea _ (by decide)]; exact b3.keep0 c5.2.2.2.1 hk3.1
  · rw [ea _ (by decide)]
    rcases b4 with z | z
    · exact Or.inl z
    · exact Or.inr (z.keep (r := r) (P := P) c5.2.2.2.1 hk3.1)
  · rw [ea _ (by decide)]; exact b5
  · rw [ea _ (by decide)]; exact b6
  · rw [ea _ (by decide)]; exact (b7 k hk).keep (r := r) (P := P) c5.2.2.2.1 hk3.1
  · unfold up1
    rw [md_ia]
    by_cases hki : k = i
    · rw [if_pos hki, hki, md_ga, if_pos ⟨rfl, rfl⟩]
      exact hv.keep0 c5.2.2.2.1 hk3.1
    · rw [if_neg hki, md_ga, if_neg (fun z => by omega)]
      exact (b8 k (by omega)).keep0 c5.2.2.2.1 hk3.1
/-- counts of what is read are small -/
theorem pIv.cB (h : pIv g P r L S n f C1 C2 K op w0 σ0 fr0 M Q b w σ tc fr tt u jt i) (hc : ∃ c, σ0.1 fX3_classes = Int32.ofNat c ∧ c ≤ 330) (hM : M ≤ 430) : cB 0 σ := by
  obtain ⟨a1, a2, a3, a4, a5, a6, a7, a8, a9, a10, a11, a12, -⟩ := h
  obtain ⟨c, hc1, hc2⟩ := hc
  have hf2 := a1.1.2.2.2.2.2.2.1.2.2.2.2.1
  have hf1 := a1.1.2.2.2.2.2.2.1.2.2.2.1
  have hn12 := a1.2.1.2.2.2.2.1
  exact ⟨c, M + 1, Q + i, by rw [a6]; exact hc1, a7, a8, by omega, by omega, by omega⟩
end PI
