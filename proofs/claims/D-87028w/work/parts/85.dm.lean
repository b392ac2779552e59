/-! LEVEL B2: the model when it is stuck -/
set_option maxRecDepth 100000
/-- it stays stuck at q -/
def dr (q : Nat) (σ σ' : ch_S) : Prop := md_fr [fX3_wrong, fX3_word] [] σ σ' ∧ σ'.1 fX3_wrong = Int32.ofNat q
section DM
variable {σ σ' : ch_S} {q n fr : Nat} {σ0 : ch_S}
theorem bn_m1n {k : Nat} (h : k < 2 ^ 31) : Int32.ofNat k ≠ -1 := fun q => bn_nn h (by rw [q]; exact bn_m1)
theorem dr.trans {σ2 : ch_S} (h : dr q σ σ') (h2 : dr q σ' σ2) : dr q σ σ2 := ⟨h.1.trans h2.1, h2.2⟩
theorem dr.dk (h : dr q σ σ') : dk σ' q := Or.inl h.2
theorem pd.dr {sd : Int} (h : pd n sd σ0 fr σ q) (hd : dr q σ σ') (hq : q < 2 ^ 31) : pd n sd σ0 fr σ' q := by
  obtain ⟨h1, h2, h3, h4, h5, h6, h7, h8, h9⟩ := h
  refine ⟨h1.trans (hd.1.mono (by decide) (by decide)), hd.dk, h3, h4, pjN_fr h5 hd.1 (by decide) (by decide) (by decide) (by decide), (hd.1.1 _ (by decide)).trans h6, ?_, by rw [nn_fr hd.1 (by decide)]; exact h8, ?_⟩
  · rw [nn_fr hd.1 (by decide), hd.2, if_neg (bn_m1n hq)]
    split at h7 <;> omega
  · rw [nn_fr hd.1 (by decide), hd.2, if_neg (bn_m1n hq)]
    split at h9 <;> omega
theorem dm_sign {c : Int32} (h : dk σ q) (hq : q < 2 ^ 31) : m_X3_isSign c σ = some 0 := by
  unfold m_X3_isSign
  rcases h with h | ⟨h1, h2, h3⟩
  · rw [h, if_neg (bn_nn hq)]
    split
    · split <;> rfl
    · rfl
  · rw [h2, if_neg (by decide)]
theorem dm_key {c : Int32} (h : dk σ q) (hq : q < 2 ^ 31) : m_X3_isKey c σ = some 0 := by
  unfold m_X3_isKey
  rcases h with h | ⟨h1, h2, h3⟩
  · rw [h, if_neg (bn_nn hq)]
    split
    · split <;> rfl
    · rfl
  · rw [h2, if_neg (by decide)]
theorem dm_fails (h : dk σ q) (hq : q < 2 ^ 31) : ∃ σ', m_X3_fails (σ.1 fX3_wordFrom) σ = some (-1, σ') ∧ dr q σ σ' := by
  unfold m_X3_fails
  rcases h with h | ⟨h1, h2, h3⟩
  · rw [h, if_neg (bn_nn hq)]
    exact ⟨_, rfl, md_fr.refl.si (by decide), h⟩
  · rw [h1, if_pos bn_m1, h3]
    exact ⟨_, rfl, (md_fr.refl.si (by decide)).si (by decide), rfl⟩
theorem dm_passes {v : Int32} (h : dk σ q) (hq : q < 2 ^ 31) (hv : σ.1 fX3_wrong = -1 → v = 0) : ∃ σ', m_X3_passes v σ = some (0, σ') ∧ dr q σ σ' := by
  obtain ⟨σ', e1, e2⟩ := dm_fails h hq
  refine ⟨σ', ?_, e2⟩
  unfold m_X3_passes m_X3_passes_11
  rw [e1]
  rcases h with h | ⟨h1, h2, h3⟩
  · rw [h, if_neg (bn_nn hq)]; rfl
  · rw [h1, if_pos bn_m1, if_pos (hv h1)]; rfl
theorem dm_opens {v : Int32} (h : dk σ q) (hq : q < 2 ^ 31) (hv : σ.1 fX3_wrong = -1 → v = 0) : ∃ σ', m_X3_opens v σ = some (0, σ') ∧ dr q σ σ' := by
  obtain ⟨σ', e1, e2⟩ := dm_fails h hq
  refine ⟨σ', ?_, e2⟩
  unfold m_X3_opens m_X3_opens_20
  rw [e1]
  rcases h with h | ⟨h1, h2, h3⟩
  · rw [h, if_neg (bn_nn hq)]; rfl
  · rw [h1, if_pos bn_m1, if_pos (hv h1)]; rfl
theorem dm_closes {c : Int32} (h : dk σ q) (hq : q < 2 ^ 31) : ∃ σ', m_X3_closes c σ = some σ' ∧ dr q σ σ' := by
  obtain ⟨σ', e1, e2⟩ := dm_passes (v := 0) h hq (fun _ => rfl)
  refine ⟨σ', ?_, e2⟩
  unfold m_X3_closes
  rw [dm_sign h hq, Option.bind_some, e1, Option.bind_some, if_pos rfl]
theorem dm_name (h : dk σ q) (hq : q < 2 ^ 31) : ∃ σ', m_X3_name σ = some (-1, σ') ∧ dr q σ σ' := by
  have key : ∀ v x : Int32, (σ.1 fX3_wrong = -1 → v = 0) → ∃ σ', m_X3_name_19 x v σ = some (-1, σ') ∧ dr q σ σ' := by
    intro v x hv
    obtain ⟨σ', e1, e2⟩ := dm_passes (v := v) h hq hv
    refine ⟨σ', ?_, e2⟩
    unfold m_X3_name_19
    rw [e1, Option.bind_some, if_pos rfl]
  unfold m_X3_name
  by_cases hw : σ.1 fX3_word = 2
  · rw [if_pos hw]
    refine key 1 _ (fun z => ?_)
    rcases h with h | ⟨h1, h2, h3⟩
    · exact absurd (h.symm.trans z) (bn_m1n hq)
    · rw [h2] at hw; exact absurd hw (by decide)
  · rw [if_neg hw]
    exact key 0 _ (fun _ => rfl)
/-- expressions -/
theorem dm_10 {d : Nat} (h : dk σ q) (hq : q < 2 ^ 31) : ∃ σ', cr_ME (d + 1) 10 0 0 0 σ = some (-1, σ') ∧ dr q σ σ' := by
  show ∃ σ', m_X3_first (cr_ME d) σ = some (-1, σ') ∧ dr q σ σ'
  unfold m_X3_first
  rcases id h with h1 | ⟨h1, h2, h3⟩
  · rw [h1, if_neg (bn_nn hq)]
    exact ⟨σ, rfl, md_fr.refl, h1⟩
  · obtain ⟨σ', e1, e2⟩ := dm_fails h hq
    rw [h1, if_pos bn_m1, h2, if_neg (by decide), if_neg (by decide), dm_sign h hq, Option.bind_some, if_pos rfl, if_neg (by decide)]
    unfold m_X3_first_134
    rw [e1]
    exact ⟨σ', rfl, e2⟩
theorem dm_8 {d : Nat} (h : dk σ q) (hq : q < 2 ^ 31) : ∃ σ', cr_ME (d + 2) 8 0 0 0 σ = some (-1, σ') ∧ dr q σ σ' := by
  show ∃ σ', m_X3_chain (cr_ME (d + 1)) σ = some (-1, σ') ∧ dr q σ σ'
  obtain ⟨σ', e1, e2⟩ := dm_10 (d := d) h hq
  refine ⟨σ', ?_, e2⟩
  unfold m_X3_chain
  rw [e1, Option.bind_some]
  refine ch_loop_inr ?_
  show m_X3_chain_5 (cr_ME (d + 1)) (-1) σ' = _
  unfold m_X3_chain_5
  rw [e2.2, if_neg (bn_nn hq)]
theorem dm_7 {d : Nat} (h : dk σ q) (hq : q < 2 ^ 31) : ∃ σ', cr_ME (d + 3) 7 0 0 0 σ = some (-1, σ') ∧ dr q σ σ' := by
  show ∃ σ', m_X3_single (cr_ME (d + 2)) σ = some (-1, σ') ∧ dr q σ σ'
  obtain ⟨σ', e1, e2⟩ := dm_8 (d := d) h hq
  refine ⟨σ', ?_, e2⟩
  unfold m_X3_single
  rw [dm_sign h hq, Option.bind_some, if_pos rfl, dm_sign h hq, Option.bind_some, if_pos rfl, e1]
  rfl
theorem dm_6 {d : Nat} (h : dk σ q) (hq : q < 2 ^ 31) : ∃ σ', cr_ME (d + 4) 6 0 0 0 σ = some (-1, σ') ∧ dr q σ σ' := by
  show ∃ σ', m_X3_product (cr_ME (d + 3)) σ = some (-1, σ') ∧ dr q σ σ'
  obtain ⟨σ', e1, e2⟩ := dm_7 (d := d) h hq
  refine ⟨σ', ?_, e2⟩
  unfold m_X3_product
  rw [e1, Option.bind_some]
  refine ch_loop_inr ?_
  show m_X3_product_5 (cr_ME (d + 3)) (-1) σ' = _
  unfold m_X3_product_5
  rw [dm_sign e2.dk hq, Option.bind_some, if_pos rfl, dm_sign e2.dk hq, Option.bind_some, if_pos rfl, dm_sign e2.dk hq, Option.bind_some, if_pos rfl]
theorem dm_5 {d : Nat} (h : dk σ q) (hq : q < 2 ^ 31) : ∃ σ', cr_ME (d + 5) 5 0 0 0 σ = some (-1, σ') ∧ dr q σ σ' := by
  show ∃ σ', m_X3_sum (cr_ME (d + 4)) σ = some (-1, σ') ∧ dr q σ σ'
  obtain ⟨σ', e1, e2⟩ := dm_6 (d := d) h hq
  refine ⟨σ', ?_, e2⟩
  unfold m_X3_sum
  rw [e1, Option.bind_some]
  refine ch_loop_inr ?_
  show m_X3_sum_5 (cr_ME (d + 4)) (-1) σ' = _
  unfold m_X3_sum_5
  rw [dm_sign e2.dk hq, Option.bind_some, if_pos rfl, dm_sign e2.dk hq, Option.bind_some, if_pos rfl]
theorem dm_4 {d : Nat} (h : dk σ q) (hq : q < 2 ^ 31) : ∃ σ', cr_ME (d + 6) 4 0 0 0 σ = some (-1, σ') ∧ dr q σ σ' := by
  show ∃ σ', m_X3_related (cr_ME (d + 5)) σ = some (-1, σ') ∧ dr q σ σ'
  obtain ⟨σ', e1, e2⟩ := dm_5 (d := d) h hq
  refine ⟨σ', ?_, e2⟩
  unfold m_X3_related
  rw [e1, Option.bind_some, dm_sign e2.dk hq, Option.bind_some, if_pos rfl, dm_sign e2.dk hq, Option.bind_some, if_pos rfl, dm_key e2.dk hq, Option.bind_some, if_pos rfl]
theorem dm_2 {d : Nat} (h : dk σ q) (hq : q < 2 ^ 31) : ∃ σ', cr_ME (d + 7) 2 0 0 0 σ = some (-1, σ') ∧ dr q σ σ' := by
  show ∃ σ', m_X3_equal (cr_ME (d + 6)) σ = some (-1, σ') ∧ dr q σ σ'
  obtain ⟨σ', e1, e2⟩ := dm_4 (d := d) h hq
  refine ⟨σ', ?_, e2⟩
  unfold m_X3_equal
  rw [e1, Option.bind_some, dm_sign e2.dk hq, Option.bind_some, if_pos rfl, dm_sign e2.dk hq, Option.bind_some, if_pos rfl]
theorem dm_1 {d : Nat} (h : dk σ q) (hq : q < 2 ^ 31) : ∃ σ', cr_ME (d + 8) 1 0 0 0 σ = some (-1, σ') ∧ dr q σ σ' := by
  show ∃ σ', m_X3_both (cr_ME (d + 7)) σ = some (-1, σ') ∧ dr q σ σ'
  obtain ⟨σ', e1, e2⟩ := dm_2 (d := d) h hq
  refine ⟨σ', ?_, e2⟩
  unfold m_X3_both
  rw [e1, Option.bind_some]
  refine ch_loop_inr ?_
  show m_X3_both_5 (cr_ME (d + 7)) (-1) σ' = _
  unfold m_X3_both_5
  rw [dm_sign e2.dk hq, Option.bind_some, if_pos rfl]
theorem dm_0 {d : Nat} (h : dk σ q) (hq : q < 2 ^ 31) : ∃ σ', cr_ME (d + 9) 0 0 0 0 σ = some (-1, σ') ∧ dr q σ σ' := by
  show ∃ σ', m_X3_expression (cr_ME (d + 8)) σ = some (-1, σ') ∧ dr q σ σ'
  obtain ⟨σ', e1, e2⟩ := dm_1 (d := d) h hq
  refine ⟨σ', ?_, e2⟩
  unfold m_X3_expression
  rw [e1, Option.bind_some]
  refine ch_loop_inr ?_
  show m_X3_expression_5 (cr_ME (d + 8)) (-1) σ' = _
  unfold m_X3_expression_5
  rw [dm_sign e2.dk hq, Option.bind_some, if_pos rfl]
end DM
