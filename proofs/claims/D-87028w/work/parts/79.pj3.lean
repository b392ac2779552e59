/-! LEVEL B2: both readers: signs and keys, what fails, what is passed -/
set_option maxRecDepth 100000
theorem lx_tk.rng {f : Nat → Nat} {n tc fr tt : Nat} (h : lx_tk f n tc fr tt) : tc = 0 ∨ tc = 1 ∨ tc = 2 ∨ (1000 ≤ tc ∧ tc < 2000) ∨ (2001 ≤ tc ∧ tc ≤ 2021) := by
  obtain ⟨h1, h2, h | h | h | h | h | h⟩ := h
  · omega
  · omega
  · omega
  · obtain ⟨h, -, -, -, -, -, h9⟩ := h
    unfold lx_one at h9
    omega
  · obtain ⟨h, -, -, -, -, h9⟩ := h
    unfold lx_two at h9
    omega
  · obtain ⟨j, h8, h9, -⟩ := h
    omega
theorem bn_m1 : ((-1 : Int32) < 0) := by decide
theorem bn_nn {k : Nat} (h : k < 2 ^ 31) : ¬ (Int32.ofNat k < 0) := fun q => absurd ((bn_lt (b := 0) h (by decide)).mp q) (by omega)
section PJ
variable {g : State} {P r L S n C1 C2 : Nat} {f : Nat → Nat} {w : ch_W} {σ : ch_S} {tc fr tt op om ps : Nat}
theorem ms_sign {c : Nat} (h : pjM n f σ tc fr tt om) (ht : lx_tk f n tc fr tt) (hc : c < 1000) : m_X3_isSign (Int32.ofNat c) σ = some (if tc = 1000 + c then 1 else 0) := by
  obtain ⟨m1, ⟨w1, w2, w3, w4, w5, w6, w7, w8⟩, m3, -⟩ := h
  unfold m_X3_isSign
  rcases ht.rng with q | q | q | q | q
  · rw [w4 q, if_neg (by decide), if_neg (by omega)]
  · rw [w5 q, if_neg (by decide), if_neg (by omega)]
  · rw [(w6 q).1, if_neg (by decide), if_neg (by omega)]
  · obtain ⟨a1, a2⟩ := w7 q.1 q.2
    rw [a1, if_pos rfl, a2, m3, if_pos bn_m1]
    simp only [bn_eq (show tc - 1000 < 2 ^ 31 by omega) (show c < 2 ^ 31 by omega)]
    by_cases z : tc = 1000 + c
    · rw [if_pos (by omega), if_pos z]
    · rw [if_neg (by omega), if_neg z]
  · rw [(w8 (by omega)).1, if_neg (by decide), if_neg (by omega)]
theorem ms_key {c : Nat} (h : pjM n f σ tc fr tt om) (ht : lx_tk f n tc fr tt) (hc : c < 1000) (h0 : 0 < c) : m_X3_isKey (Int32.ofNat c) σ = some (if tc = 2000 + c then 1 else 0) := by
  obtain ⟨m1, ⟨w1, w2, w3, w4, w5, w6, w7, w8⟩, m3, -⟩ := h
  unfold m_X3_isKey
  rcases ht.rng with q | q | q | q | q
  · rw [w4 q, if_neg (by decide), if_neg (by omega)]
  · rw [w5 q, if_neg (by decide), if_neg (by omega)]
  · rw [(w6 q).1, if_neg (by decide), if_neg (by omega)]
  · rw [(w7 q.1 q.2).1, if_neg (by decide), if_neg (by omega)]
  · obtain ⟨a1, a2⟩ := w8 (by omega)
    rw [a1, if_pos rfl, a2, m3, if_pos bn_m1]
    simp only [bn_eq (show tc - 2000 < 2 ^ 31 by omega) (show c < 2 ^ 31 by omega)]
    by_cases z : tc = 2000 + c
    · rw [if_pos (by omega), if_pos z]
    · rw [if_neg (by omega), if_neg z]
theorem ms_word (h : pjM n f σ tc fr tt om) (ht : lx_tk f n tc fr tt) : (σ.1 fX3_word = 2 ↔ tc = 1) ∧ (σ.1 fX3_word = 3 ↔ tc = 2) ∧ (σ.1 fX3_word = 5 ↔ 2000 ≤ tc) ∧ (σ.1 fX3_word = 0 ↔ tc = 0) := by
  obtain ⟨m1, ⟨w1, w2, w3, w4, w5, w6, w7, w8⟩, m3, -⟩ := h
  rcases ht.rng with q | q | q | q | q
  · rw [w4 q, q]; decide
  · rw [w5 q, q]; decide
  · rw [(w6 q).1, q]; decide
  · rw [(w7 q.1 q.2).1]
    exact ⟨⟨fun z => absurd z (by decide), fun z => by omega⟩, ⟨fun z => absurd z (by decide), fun z => by omega⟩, ⟨fun z => absurd z (by decide), fun z => by omega⟩, ⟨fun z => absurd z (by decide), fun z => by omega⟩⟩
  · rw [(w8 (by omega)).1]
    exact ⟨⟨fun z => absurd z (by decide), fun z => by omega⟩, ⟨fun z => absurd z (by decide), fun z => by omega⟩, ⟨fun z => by omega, fun z => rfl⟩, ⟨fun z => absurd z (by decide), fun z => by omega⟩⟩
/-- the model fails -/
def dz (σ : ch_S) (q : Nat) : ch_S := md_si (md_si σ fX3_wrong (Int32.ofNat q)) fX3_word 0
theorem dz_fr {q : Nat} : md_fr [fX3_wrong, fX3_word] [] σ (dz σ q) := by
  unfold dz
  exact (md_fr.refl.si (by decide)).si (by decide)
theorem ms_fails {x : Int32} (h : σ.1 fX3_wrong = -1) {q : Nat} (hx : x = Int32.ofNat q) : m_X3_fails x σ = some (-1, dz σ q) := by
  unfold m_X3_fails
  rw [h, if_pos bn_m1, hx]
  rfl
theorem pjN_fr {Ks As : List Nat} {σ' : ch_S} (h : pjN σ) (hf : md_fr Ks As σ σ') (h1 : fX3_nodes ∉ Ks) (h2 : fX3_listed ∉ Ks) (h3 : fX3_held ∉ Ks) (h4 : fX3_statements ∉ Ks) : pjN σ' := by
  unfold pjN nn at *
  rw [hf.1 _ h1, hf.1 _ h2, hf.1 _ h3, hf.1 _ h4]
  exact h
theorem dz_pd (h : pjM n f σ tc fr tt om) (ht : lx_tk f n tc fr tt) : pd n 0 σ fr (dz σ fr) fr := by
  obtain ⟨m1, -, m3, -, m5, -, m9⟩ := h
  refine ⟨dz_fr.mono (by decide) (by decide), Or.inl rfl, Nat.le_refl _, by have := ht.1; have := ht.2.1; omega, pjN_fr m9 dz_fr (by decide) (by decide) (by decide) (by decide), rfl, by rw [nn_fr dz_fr (by decide)]; split <;> omega, by rw [nn_fr dz_fr (by decide)]; omega, by rw [nn_fr dz_fr (by decide)]; split <;> omega⟩
/-- the component fails -/
theorem pj_must (h : pj g P r L S n f C1 C2 w σ tc fr tt op om ps) (hps : ps ≤ tt) : ∃ w', c_X4_must g r 0 w = some (.error (ch_nx w), w') ∧ pe P C1 C2 w w' (ch_nx w) fr := by
  obtain ⟨⟨c1, c2, c3, c4, c5, c6, c7, c8, c9, c10, A, k, cap, E, T, c11, c12, c13⟩, ⟨m1, m2, m3, m4, m5, -⟩, hA⟩ := h
  obtain ⟨q1, q2, q3, q4, q5, q6, q7, q8⟩ := hA
  have htn : tt ≤ n := c7.2.2.2.2.1
  have hcap : cpN w L = cap := by unfold cpN; rw [c11.1.2.1]; exact c11.1.2.2.2.1
  have hcapb : cap ≤ 2 * k + 10 := c11.1.2.2.2.2.2.1
  have hrx := c6 r (by rw [c7.1.1]; decide)
  obtain ⟨w', g1, g2⟩ := lc_must0 (g := g) c7.1.1 (by omega) c7.2.1.1 (by omega) (by omega)
  obtain ⟨r1, r2, r3, r4, r5, r6, r7⟩ := g2
  refine ⟨w', g1, r2, r3, fun a ha => r4 a (by omega), by omega, by omega, by omega, fun b hb => ?_⟩
  by_cases hbn : b = ch_nx w
  · omega
  · rw [(b_cell (r4 b hbn)).1] at hb
    have := c6 b hb
    omega
end PJ
