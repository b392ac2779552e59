/-! LEVEL B2: the model's calls: the arguments are listed, the node is made -/
set_option maxRecDepth 100000
/-- what the end of a call leaves -/
def ml_Q (σ σ' : ch_S) (x1 x2 x3 : Int32) (F i l nd : Nat) : Prop := md_fr [fX3_listed, fX3_held, fX3_nodes] [fX3_list, fX3_is, fX3_one, fX3_two, fX3_of, fX3_typeOf] σ σ' ∧ σ'.1 fX3_listed = Int32.ofNat (l + i) ∧ σ'.1 fX3_held = Int32.ofNat F ∧ σ'.1 fX3_nodes = Int32.ofNat (nd + 1) ∧ (∀ k : Nat, k < l → σ'.2 fX3_list k = σ.2 fX3_list k) ∧ (∀ k : Nat, k < i → σ'.2 fX3_list (l + k) = σ.2 fX3_hold (F + k)) ∧ (∀ a ∈ pna, ∀ k : Nat, k ≠ nd → σ'.2 a k = σ.2 a k) ∧ σ'.2 fX3_is nd = x1 ∧ σ'.2 fX3_one nd = x2 ∧ σ'.2 fX3_two nd = Int32.ofNat l ∧ σ'.2 fX3_of nd = x3 ∧ σ'.2 fX3_typeOf nd = Int32.ofNat i
theorem ml_107 {rc : Nat → Int32 → Int32 → Int32 → ch_S → Option (Int32 × ch_S)} {x1 x2 x3 : Int32} {F i l nd : Nat} (hF : F + i ≤ 3000) (hl : l + i ≤ 3000) (hnd : nd < 3000) : ∀ (c j : Nat) (σ : ch_S), i - j ≤ c → j ≤ i → σ.1 fX3_listed = Int32.ofNat (l + j) → σ.1 fX3_held = Int32.ofNat (F + i) → σ.1 fX3_nodes = Int32.ofNat nd →
    ∃ σ', ch_loop (fun (s : Int32 × ch_S) => m_X3_called_107 rc x1 x2 x3 (Int32.ofNat F) (Int32.ofNat l) s.1 s.2) (Int32.ofNat (F + j), σ) = some (Int32.ofNat nd, σ') ∧ md_fr [fX3_listed, fX3_held, fX3_nodes] [fX3_list, fX3_is, fX3_one, fX3_two, fX3_of, fX3_typeOf] σ σ' ∧ σ'.1 fX3_listed = Int32.ofNat (l + i) ∧ σ'.1 fX3_held = Int32.ofNat F ∧ σ'.1 fX3_nodes = Int32.ofNat (nd + 1) ∧ (∀ k : Nat, k < l + j → σ'.2 fX3_list k = σ.2 fX3_list k) ∧ (∀ k : Nat, j ≤ k → k < i → σ'.2 fX3_list (l + k) = σ.2 fX3_hold (F + k)) ∧ (∀ a ∈ pna, ∀ k : Nat, k ≠ nd → σ'.2 a k = σ.2 a k) ∧ σ'.2 fX3_is nd = x1 ∧ σ'.2 fX3_one nd = x2 ∧ σ'.2 fX3_two nd = Int32.ofNat l ∧ σ'.2 fX3_of nd = x3 ∧ σ'.2 fX3_typeOf nd = Int32.ofNat i := by
  have l1 : ch_ml fX3_hold = 3200 := rfl
  have l2 : ch_ml fX3_list = 3200 := rfl
  have l3 : ch_ml fX3_typeOf = 3200 := rfl
  have fin : ∀ (j : Nat) (σ : ch_S), j = i → σ.1 fX3_listed = Int32.ofNat (l + j) → σ.1 fX3_held = Int32.ofNat (F + i) → σ.1 fX3_nodes = Int32.ofNat nd →
    ∃ σ', ch_loop (fun (s : Int32 × ch_S) => m_X3_called_107 rc x1 x2 x3 (Int32.ofNat F) (Int32.ofNat l) s.1 s.2) (Int32.ofNat (F + j), σ) = some (Int32.ofNat nd, σ') ∧ md_fr [fX3_listed, fX3_held, fX3_nodes] [fX3_list, fX3_is, fX3_one, fX3_two, fX3_of, fX3_typeOf] σ σ' ∧ σ'.1 fX3_listed = Int32.ofNat (l + i) ∧ σ'.1 fX3_held = Int32.ofNat F ∧ σ'.1 fX3_nodes = Int32.ofNat (nd + 1) ∧ (∀ k : Nat, k < l + j → σ'.2 fX3_list k = σ.2 fX3_list k) ∧ (∀ k : Nat, j ≤ k → k < i → σ'.2 fX3_list (l + k) = σ.2 fX3_hold (F + k)) ∧ (∀ a ∈ pna, ∀ k : Nat, k ≠ nd → σ'.2 a k = σ.2 a k) ∧ σ'.2 fX3_is nd = x1 ∧ σ'.2 fX3_one nd = x2 ∧ σ'.2 fX3_two nd = Int32.ofNat l ∧ σ'.2 fX3_of nd = x3 ∧ σ'.2 fX3_typeOf nd = Int32.ofNat i := by
    intro j σ hj h1 h2 h3
    have e1 : Int32.ofNat (F + i) - Int32.ofNat F = Int32.ofNat i := by rw [bn_sub (by omega), Nat.add_sub_cancel_left]
    have hnode := ms_node (σ := md_si σ fX3_held (Int32.ofNat F)) (k := x1) (a := x2) (b := Int32.ofNat l) (c := x3) (nd := nd) h3 hnd
    obtain ⟨g1, g2, g3, g4⟩ := md_node_at (σ := md_si σ fX3_held (Int32.ofNat F)) (k := x1) (a := x2) (b := Int32.ofNat l) (c := x3) (nd := nd)
    have hf := md_node_fr (σ := md_si σ fX3_held (Int32.ofNat F)) (k := x1) (a := x2) (b := Int32.ofNat l) (c := x3) (nd := nd)
    have hlo : m_X3_called_107 rc x1 x2 x3 (Int32.ofNat F) (Int32.ofNat l) (Int32.ofNat (F + j)) σ = some (.inr (Int32.ofNat nd, md_sa (md_node (md_si σ fX3_held (Int32.ofNat F)) nd x1 x2 (Int32.ofNat l) x3) fX3_typeOf nd (Int32.ofNat i))) := by
      unfold m_X3_called_107
      rw [h2, if_neg (by rw [bn_lt (by omega) (by omega)]; omega), m_mI, hnode, Option.bind_some]
      dsimp only
      rw [m_mw (by rw [l3]; omega) (by rw [l3]; decide), e1]
    refine ⟨_, ch_loop_inr hlo, ?_, ?_, ?_, ?_, ?_, ?_, ?_, ?_, ?_, ?_, ?_, ?_⟩
    · refine md_fr.sa ?_ (by decide)
      refine md_fr.trans (md_fr.si md_fr.refl (by decide)) (hf.mono (by decide) (by decide))
    · rw [md_gi, hf.1 _ (by decide), md_get, if_neg (by decide), h1, hj]
    · rw [md_gi, hf.1 _ (by decide)]; rfl
    · rw [md_gi]; unfold md_node; rw [md_gs]
    · intro k hk
      rw [md_an (by decide), hf.2 _ (by decide)]; rfl
    · intro k hk1 hk2; omega
    · intro a ha k hk
      by_cases hat : a = fX3_typeOf
      · rw [hat, md_ga, if_neg (fun q => hk q.2), md_node_lt hk]; rfl
      · rw [md_an hat, md_node_lt hk]; rfl
    · rw [md_an (by decide)]; exact g1
    · rw [md_an (by decide)]; exact g2
    · rw [md_an (by decide)]; exact g3
    · rw [md_an (by decide)]; exact g4
    · rw [md_ga, if_pos ⟨rfl, rfl⟩]
  intro c
  induction c with
  | zero => intro j σ hc hj h1 h2 h3; exact fin j σ (by omega) h1 h2 h3
  | succ c ih =>
    intro j σ hc hj h1 h2 h3
    by_cases hji : j = i
    · exact fin j σ hji h1 h2 h3
    · have e1 : Int32.ofNat (l + j) + 1 = Int32.ofNat (l + (j + 1)) := bn_add (b := 1)
      have e2 : Int32.ofNat (F + j) + 1 = Int32.ofNat (F + (j + 1)) := bn_add (b := 1)
      have hb : m_X3_called_107 rc x1 x2 x3 (Int32.ofNat F) (Int32.ofNat l) (Int32.ofNat (F + j)) σ = some (.inl (Int32.ofNat (F + (j + 1)), md_si (md_sa σ fX3_list (l + j) (σ.2 fX3_hold (F + j))) fX3_listed (Int32.ofNat (l + (j + 1))))) := by
        unfold m_X3_called_107
        rw [h2, if_pos (by rw [bn_lt (by omega) (by omega)]; omega), d_ma (by rw [l1]; omega) (by rw [l1]; decide), h1, m_mw (by rw [l2]; omega) (by rw [l2]; decide), m_mI, md_gi, h1, e1, e2]
      obtain ⟨σ', k1, k2, k3, k4, k5, k6, k7, k8, k9, k10, k11, k12, k13⟩ := ih (j + 1) (md_si (md_sa σ fX3_list (l + j) (σ.2 fX3_hold (F + j))) fX3_listed (Int32.ofNat (l + (j + 1)))) (by omega) (by omega) rfl h2 h3
      refine ⟨σ', (ch_loop_inl hb).trans k1, md_fr.trans ((md_fr.refl.sa (by decide)).si (by decide)) k2, k3, k4, k5, fun k hk => ?_, fun k hk1 hk2 => ?_, fun a ha k hk => ?_, k9, k10, k11, k12, k13⟩
      · rw [k6 k (by omega), md_ia, md_ga, if_neg (fun q => by omega)]
      · by_cases hkj : k = j
        · subst hkj
          rw [k6 (l + k) (by omega), md_ia, md_ga, if_pos ⟨rfl, rfl⟩]
        · rw [k7 k (by omega) hk2, md_ia, md_an (by decide)]
      · rw [k8 a ha k hk, md_ia, md_an]
        intro q
        rw [q] at ha
        exact absurd ha (by decide)
/-- the end of a call, behind the ) -/
theorem ml_end {rc : Nat → Int32 → Int32 → Int32 → ch_S → Option (Int32 × ch_S)} {x1 x2 x3 : Int32} {F i l nd : Nat} {σ : ch_S} (hF : F + i ≤ 3000) (hl : l + i ≤ 3000) (hnd : nd < 3000) (h1 : σ.1 fX3_listed = Int32.ofNat l) (h2 : σ.1 fX3_held = Int32.ofNat (F + i)) (h3 : σ.1 fX3_nodes = Int32.ofNat nd) : ∃ σ', ch_loop (fun (s : Int32 × ch_S) => m_X3_called_107 rc x1 x2 x3 (Int32.ofNat F) (σ.1 fX3_listed) s.1 s.2) (Int32.ofNat F, σ) = some (Int32.ofNat nd, σ') ∧ ml_Q σ σ' x1 x2 x3 F i l nd := by
  rw [h1]
  obtain ⟨σ', k1, k2, k3, k4, k5, k6, k7, k8, k9, k10, k11, k12, k13⟩ := ml_107 (rc := rc) (x1 := x1) (x2 := x2) (x3 := x3) hF hl hnd i 0 σ (by omega) (by omega) h1 h2 h3
  exact ⟨σ', k1, k2, k3, k4, k5, fun k hk => k6 k (by omega), fun k hk => k7 k (by omega) hk, k8, k9, k10, k11, k12, k13⟩
/-- with held as it was -/
def mh (σ : ch_S) (F : Nat) : ch_S := md_si σ fX3_held (Int32.ofNat F)
theorem mh_nn {σ : ch_S} {F k : Nat} (h : k ≠ fX3_held) : nn (mh σ F) k = nn σ k := by
  unfold nn mh
  rw [md_get, if_neg h]
theorem nn_mh {σ : ch_S} {F : Nat} (h : F < 2 ^ 31) : nn (mh σ F) fX3_held = F := by
  unfold nn mh
  rw [md_gs, lw_nat h]
theorem mh_mf {σ σ' : ch_S} {F : Nat} (h : mf σ σ') (hF : F ≤ nn σ fX3_held) (hF2 : F < 2 ^ 31) : mf (mh σ F) (mh σ' F) := by
  obtain ⟨a1, a2, a3, a4, a5, a6, a7, a8, a9, a10⟩ := h
  have fr1 : ∀ σ : ch_S, md_fr [fX3_held] [] σ (mh σ F) := fun σ => md_fr.refl.si (by decide)
  refine ⟨⟨fun k hk => ?_, fun a ha => a1.2 a ha⟩, by rw [mh_nn (by decide), mh_nn (by decide)]; exact a2, by rw [mh_nn (by decide), mh_nn (by decide)]; exact a3, by rw [mh_nn (by decide), mh_nn (by decide)]; exact a4, rfl, fun a ha k hk => a6 a ha k (by rw [mh_nn (by decide)] at hk; exact hk), fun k hk => a7 k (by rw [mh_nn (by decide)] at hk; exact hk), fun k hk => a8 k (by rw [nn_mh hF2] at hk; omega), fun a ha k hk => a9 a ha k (by rw [mh_nn (by decide)] at hk; exact hk), fun j t q => ?_⟩
  · have hkh : k ≠ fX3_held := fun q => hk (by rw [q]; decide)
    unfold mh
    rw [md_get, if_neg hkh, md_get, if_neg hkh]
    exact a1.1 k hk
  · have q1 : mn σ j t := by
      obtain ⟨k, T, b1, b2, b3, b4⟩ := q
      exact ⟨k, T, ⟨b1.1, b1.2⟩, b2, b3, b4⟩
    exact mn_fr (a10 j t q1) (fr1 σ') (by decide) (by decide) (by decide) (by decide)
