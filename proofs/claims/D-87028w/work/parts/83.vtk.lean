/-! LEVEL B2: trees stay; new nodes, new values -/
set_option maxRecDepth 100000
section VT
variable {g : State} {r L P : Nat} {w w' : ch_W} {σ σ' : ch_S}
/-- what trees look at -/
def mg (σ σ' : ch_S) : Prop := nn σ fX3_nodes ≤ nn σ' fX3_nodes ∧ nn σ fX3_listed ≤ nn σ' fX3_listed ∧ (∀ a ∈ pna, ∀ k : Nat, k < nn σ fX3_nodes → σ'.2 a k = σ.2 a k) ∧ (∀ k : Nat, k < nn σ fX3_listed → σ'.2 fX3_list k = σ.2 fX3_list k) ∧ ∀ (j : Nat) (t : List Nat), mn σ j t → mn σ' j t
theorem mf.mg (h : mf σ σ') : mg σ σ' := ⟨h.2.1, h.2.2.1, h.2.2.2.2.2.1, h.2.2.2.2.2.2.1, h.2.2.2.2.2.2.2.2.2⟩
theorem iota.keep0 {x y : Int32} (h : iota g w L σ x y) (hc : ∀ (i : Nat) (t : List Nat), cn g w L i t → cn g w' L i t) (hm : mg σ σ') : iota g w' L σ' x y := by
  obtain ⟨i, j, t, h1, h2, h3, h4, h5, h6⟩ := h
  exact ⟨i, j, t, h1, h2, h3, h4, hc i t h5, hm.2.2.2.2 j t h6⟩
theorem iota.keep {x y : Int32} (h : iota g w L σ x y) (hp : pf g r L P w w') (hm : mf σ σ') : iota g w' L σ' x y := h.keep0 hp.2.2 hm.mg
theorem v_row.keep {a n y0 v m B : Nat} {Y : Nat → Nat} (h : v_row r L P w σ a n y0 v m B Y) (hv : w'.1 v = w.1 v ∧ ow r L P w' v) (hm : mg σ σ') (ha : w'.1 a = w.1 a) (hn : n < nn σ fX3_nodes) (hl : nn σ' fX3_listed ≤ 1500) : v_row r L P w' σ' a n y0 v m B Y := by
  obtain ⟨h1, h2, h3, h4, h5, h6, h7, h8, h9, h10, h11, h12, h13⟩ := h
  obtain ⟨z1, z2⟩ := hv
  obtain ⟨e1, e2, e3, e4, -⟩ := b_cell z1
  obtain ⟨-, -, -, a4, -⟩ := b_cell ha
  have m3 := hm.2.1
  exact ⟨by rw [a4]; exact h1, z2, h3, by rw [e1]; exact h4, by rw [e2]; exact h5, by rw [hm.2.2.1 fX3_two (by decide) n hn]; exact h6, by rw [hm.2.2.1 fX3_typeOf (by decide) n hn]; exact h7, by omega, h9, hl, h11, h12, fun i hi => ⟨(h13 i hi).1, (h13 i hi).2.1, by rw [hm.2.2.2.1 (B + i) (by omega)]; exact (h13 i hi).2.2⟩⟩
/-- TREES STAY -/
theorem vt.keep0 (hk : ∀ x : Nat, ow r L P w x → ((∃ lo n, vt g r L P w σ x lo n) ∨ ch_tg w x = 27) → w'.1 x = w.1 x ∧ ow r L P w' x) (hc : ∀ (i : Nat) (t : List Nat), cn g w L i t → cn g w' L i t) (hm : mg σ σ') (hn1 : nn σ' fX3_nodes ≤ 1500) (hl1 : nn σ' fX3_listed ≤ 1500) : ∀ (N a lo n : Nat), n < N → vt g r L P w σ a lo n → vt g r L P w' σ' a lo n := by
  intro N
  induction N with
  | zero => intro a lo n h; omega
  | succ N ih =>
    intro a lo n hN h
    have hself := h
    rw [vt] at h ⊢
    obtain ⟨h1, h2, h3, h4, h5, h6, h7⟩ := h
    obtain ⟨z1, z2⟩ := hk a h1 (Or.inl ⟨lo, n, hself⟩)
    obtain ⟨e1, e2, e3, e4, -⟩ := b_cell z1
    have m2 := hm.1
    have nI := hm.2.2.1 fX3_is (by decide) n h5
    have nO := hm.2.2.1 fX3_of (by decide) n h5
    have n1 := hm.2.2.1 fX3_one (by decide) n h5
    have n2 := hm.2.2.1 fX3_two (by decide) n h5
    refine ⟨z2, h2, by rw [e1]; exact h3, h4, by omega, hn1, ?_⟩
    have hrow : ∀ (y0 v m B : Nat) (Y : Nat → Nat), (v_row r L P w σ a n y0 v m B Y ∧ ∀ (i : Nat) (_ : i < m ∧ Y i < Y (i + 1) ∧ Y (i + 1) ≤ n), ∃ b, ch_gr w v i = some b ∧ vt g r L P w σ b (Y i) (Y (i + 1) - 1)) → (v_row r L P w' σ' a n y0 v m B Y ∧ ∀ (i : Nat) (_ : i < m ∧ Y i < Y (i + 1) ∧ Y (i + 1) ≤ n), ∃ b, ch_gr w' v i = some b ∧ vt g r L P w' σ' b (Y i) (Y (i + 1) - 1)) := by
      rintro y0 v m B Y ⟨q1, q2⟩
      have hv := hk v q1.2.1 (Or.inr q1.2.2.2.1)
      refine ⟨q1.keep hv hm z1 h5 hl1, fun i hi => ?_⟩
      obtain ⟨b, b1, b2⟩ := q2 i hi
      obtain ⟨-, -, -, f4, -⟩ := b_cell hv.1
      exact ⟨b, by rw [f4]; exact b1, ih b _ _ (by omega) b2⟩
    rcases h7 with ⟨p1, p2⟩ | ⟨p1, b, p2, p3, p4, p5⟩ | ⟨p1, b, p2, p3, p4, p5⟩ | ⟨p1, b, c, x, p2, p3, p4, p5, p6, p7, p8⟩ | ⟨p1, p2, p3, v, m, B, Y, p4⟩ | ⟨p1, p2, p3, c, x, p4, p5, p6, p7, v, m, B, Y, p8⟩
    · refine Or.inl ⟨p1, ?_⟩
      unfold v_leaf at *
      simp only [e3, nI, nO]
      rcases p2 with q | q | q | q | q | ⟨q1, q2, q3⟩ | ⟨q1, q2, q3⟩
      · exact Or.inl q
      · exact Or.inr (Or.inl q)
      · exact Or.inr (Or.inr (Or.inl q))
      · exact Or.inr (Or.inr (Or.inr (Or.inl q)))
      · exact Or.inr (Or.inr (Or.inr (Or.inr (Or.inl q))))
      · exact Or.inr (Or.inr (Or.inr (Or.inr (Or.inr (Or.inl ⟨q1, q2, q3.keep0 hc hm⟩)))))
      · exact Or.inr (Or.inr (Or.inr (Or.inr (Or.inr (Or.inr ⟨q1, q2, q3.keep0 hc hm⟩)))))
    · refine Or.inr (Or.inl ⟨?_, b, by rw [e4]; exact p2, p3, by rw [n1]; exact p4, ih b lo (n - 1) (by omega) p5⟩)
      unfold v_un at *
      simp only [e3, nI]
      exact p1
    · refine Or.inr (Or.inr (Or.inl ⟨?_, b, by rw [e4]; exact p2, p3, by rw [n1]; exact p4, ih b lo (n - 1) (by omega) p5⟩))
      unfold v_nm at *
      simp only [e3, nI, nO]
      exact ⟨p1.1, p1.2.keep0 hc hm⟩
    · refine Or.inr (Or.inr (Or.inr (Or.inl ⟨?_, b, c, x, by rw [e4]; exact p2, by rw [e4]; exact p3, p4, by rw [n1]; exact p5, by rw [n2]; exact p6, ih b lo x (by omega) p7, ih c (x + 1) (n - 1) (by omega) p8⟩)))
      unfold v_bi at *
      simp only [e3, nI, nO]
      exact p1
    · exact Or.inr (Or.inr (Or.inr (Or.inr (Or.inl ⟨by rw [e3]; exact p1, by rw [nI]; exact p2, by rw [e3, nO]; exact p3.keep0 hc hm, v, m, B, Y, hrow lo v m B Y p4⟩))))
    · exact Or.inr (Or.inr (Or.inr (Or.inr (Or.inr ⟨by rw [e3]; exact p1, by rw [nI]; exact p2, by rw [e3, nO]; exact p3.keep0 hc hm, c, x, by rw [e4]; exact p4, p5, by rw [n1]; exact p6, ih c lo x (by omega) p7, v, m, B, Y, hrow (x + 1) v m B Y p8⟩))))
theorem vt.keep (hp : pf g r L P w w') (hm : mf σ σ') (hn1 : nn σ' fX3_nodes ≤ 1500) (hl1 : nn σ' fX3_listed ≤ 1500) : ∀ (N a lo n : Nat), n < N → vt g r L P w σ a lo n → vt g r L P w' σ' a lo n := vt.keep0 (fun x hx _ => hp.2.1 x hx) hp.2.2 hm.mg hn1 hl1
/-- a new node -/
def md_node (σ : ch_S) (nd : Nat) (k a b c : Int32) : ch_S := md_si (md_sa (md_sa (md_sa (md_sa σ fX3_is nd k) fX3_one nd a) fX3_two nd b) fX3_of nd c) fX3_nodes (Int32.ofNat (nd + 1))
theorem ms_node {k a b c : Int32} {nd : Nat} (hn : σ.1 fX3_nodes = Int32.ofNat nd) (hd : nd < 3000) : m_X3_node k a b c σ = some (Int32.ofNat nd, md_node σ nd k a b c) := by
  have l1 : ch_ml fX3_is = 3200 := rfl
  have l2 : ch_ml fX3_one = 3200 := rfl
  have l3 : ch_ml fX3_two = 3200 := rfl
  have l4 : ch_ml fX3_of = 3200 := rfl
  have e1 : Int32.ofNat nd + 1 = Int32.ofNat (nd + 1) := bn_add (b := 1)
  have e2 : Int32.ofNat (nd + 1) - 1 = Int32.ofNat nd := bn_sub (a := nd + 1) (b := 1) (by omega)
  unfold m_X3_node
  rw [hn, m_mw (by rw [l1]; omega) (by rw [l1]; decide), md_gi, hn, m_mw (by rw [l2]; omega) (by rw [l2]; decide), md_gi, md_gi, hn, m_mw (by rw [l3]; omega) (by rw [l3]; decide), md_gi, md_gi, md_gi, hn, m_mw (by rw [l4]; omega) (by rw [l4]; decide), m_mI, md_gi, md_gi, md_gi, md_gi, hn, e1, md_gs, e2]
  rfl
theorem md_node_fr {k a b c : Int32} {nd : Nat} : md_fr [fX3_nodes] [fX3_is, fX3_one, fX3_two, fX3_of] σ (md_node σ nd k a b c) := by
  unfold md_node
  exact ((((md_fr.refl.sa (by decide)).sa (by decide)).sa (by decide)).sa (by decide)).si (by decide)
theorem md_node_at {k a b c : Int32} {nd : Nat} : (md_node σ nd k a b c).2 fX3_is nd = k ∧ (md_node σ nd k a b c).2 fX3_one nd = a ∧ (md_node σ nd k a b c).2 fX3_two nd = b ∧ (md_node σ nd k a b c).2 fX3_of nd = c := by
  unfold md_node
  rw [md_ia]
  refine ⟨?_, ?_, ?_, ?_⟩
  · rw [md_ga, if_neg (fun q => absurd q.1 (by decide)), md_ga, if_neg (fun q => absurd q.1 (by decide)), md_ga, if_neg (fun q => absurd q.1 (by decide)), md_ga, if_pos ⟨rfl, rfl⟩]
  · rw [md_ga, if_neg (fun q => absurd q.1 (by decide)), md_ga, if_neg (fun q => absurd q.1 (by decide)), md_ga, if_pos ⟨rfl, rfl⟩]
  · rw [md_ga, if_neg (fun q => absurd q.1 (by decide)), md_ga, if_pos ⟨rfl, rfl⟩]
  · rw [md_ga, if_pos ⟨rfl, rfl⟩]
theorem md_node_lt {k a b c : Int32} {nd j : Nat} (hj : j ≠ nd) : ∀ x : Nat, (md_node σ nd k a b c).2 x j = σ.2 x j := by
  intro x
  unfold md_node
  simp only [md_ia, md_ga]
  rw [if_neg (fun q => hj q.2), if_neg (fun q => hj q.2), if_neg (fun q => hj q.2), if_neg (fun q => hj q.2)]
theorem nn_node {k a b c : Int32} {nd : Nat} (hd : nd < 3000) : nn (md_node σ nd k a b c) fX3_nodes = nd + 1 := by
  unfold nn md_node
  rw [md_gs, lw_nat (by omega)]
theorem mn_fr {Ks As : List Nat} {j : Nat} {t : List Nat} (h : mn σ j t) (hf : md_fr Ks As σ σ') (h1 : fX3_names ∉ Ks) (h2 : fX3_nameFrom ∉ As) (h3 : fX3_nameLong ∉ As) (h4 : fX3_source ∉ As) : mn σ' j t := by
  obtain ⟨k, T, a1, a2, a3, a4⟩ := h
  exact ⟨k, T, a1.fr hf h1 h2 h3 h4, a2, a3, a4⟩
theorem mf_node {k a b c : Int32} {nd : Nat} (hn : nn σ fX3_nodes = nd) (hd : nd < 3000) : mf σ (md_node σ nd k a b c) := by
  have hf := md_node_fr (σ := σ) (k := k) (a := a) (b := b) (c := c) (nd := nd)
  refine ⟨hf.mono (by decide) (by decide), by rw [nn_node hd]; omega, by rw [nn_fr hf (by decide)]; exact Nat.le_refl _, by rw [nn_fr hf (by decide)]; exact Nat.le_refl _, hf.1 _ (by decide), fun x _ j hj => md_node_lt (by omega) x, fun j _ => by rw [hf.2 _ (by decide)], fun j _ => by rw [hf.2 _ (by decide)], fun x hx j _ => ?_, fun j t q => mn_fr q hf (by decide) (by decide) (by decide) (by decide)⟩
  have : x ∉ [fX3_is, fX3_one, fX3_two, fX3_of] := by
    have hh : ∀ y ∈ psa, y ∉ [fX3_is, fX3_one, fX3_two, fX3_of] := by decide
    exact hh x hx
  rw [hf.2 _ this]
end VT
