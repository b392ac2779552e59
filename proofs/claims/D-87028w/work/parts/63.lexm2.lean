/-! LEVEL B2: the model's next: letters, digits -/
set_option maxRecDepth 100000
theorem lm_alnum {n fr : Nat} {f : Nat → Nat} : ∀ (k : Nat) (σ : ch_S) (q : Nat), md_S σ n f → σ.1 fX3_wordFrom = Int32.ofNat fr → σ.1 fX3_wordLong = Int32.ofNat q → fr + q ≤ n → n - (fr + q) ≤ k →
    ch_loop (fun (s : ch_S) => m_X3_next_116 s) σ = m_X3_next_185 (md_si σ fX3_wordLong (Int32.ofNat (lx lx_aln f n (fr + q) - fr))) := by
  have hml : ch_ml fX3_source = 3100 := rfl
  intro k
  induction k with
  | zero =>
    intro σ q hS hw hp hn hk
    obtain ⟨h1, h5, h8⟩ := id hS
    have hb : m_X3_next_116 σ = (m_X3_next_185 σ).bind fun z => some (.inr z) := by
      unfold m_X3_next_116
      rw [hw, hp, bn_add, h1, if_neg (by rw [bn_lt (by omega) (by omega)]; omega)]
    have e0 : fr + q - fr = q := by omega
    rw [lx_stop (by omega), e0, md_same hp, ch_loop, hb]
    cases m_X3_next_185 σ <;> rfl
  | succ k ih =>
    intro σ q hS hw hp hn hk
    obtain ⟨h1, h5, h8⟩ := id hS
    have e0 : fr + q - fr = q := by omega
    by_cases hc : fr + q < n
    · obtain ⟨hf, hv⟩ := h8 (fr + q) hc
      have e1 : Int32.ofNat q + 1 = Int32.ofNat (q + 1) := bn_add (b := 1)
      have hb : m_X3_next_116 σ = if lx_aln (f (fr + q)) = true then some (.inl (md_si σ fX3_wordLong (Int32.ofNat (q + 1)))) else (m_X3_next_185 σ).bind fun z => some (.inr z) := by
        unfold m_X3_next_116 m_X3_next_172
        rw [hw, hp, bn_add, h1, if_pos (by rw [bn_lt (by omega) (by omega)]; exact hc), d_ma (by rw [hml]; omega) (by rw [hml]; decide), hv, lm_let hf, Option.bind_some, d_ma (by rw [hml]; omega) (by rw [hml]; decide), hv, lm_dig hf, Option.bind_some, d_mI, e1]
        unfold lx_aln
        cases hl : lx_let (f (fr + q)) <;> cases hd : lx_dig (f (fr + q)) <;> simp [md_si]
      by_cases hs : lx_aln (f (fr + q)) = true
      · rw [if_pos hs] at hb
        rw [ch_loop_inl hb, ih _ (q + 1) (hS.si (by decide)) (by rw [md_get, if_neg (by decide)]; exact hw) (by rw [md_get, if_pos rfl]) (by omega) (by omega), md_twice, lx_go ⟨hc, hs⟩]
        rfl
      · rw [if_neg hs] at hb
        rw [lx_stop (fun z => hs z.2), e0, md_same hp, ch_loop, hb]
        cases m_X3_next_185 σ <;> rfl
    · have hb : m_X3_next_116 σ = (m_X3_next_185 σ).bind fun z => some (.inr z) := by
        unfold m_X3_next_116
        rw [hw, hp, bn_add, h1, if_neg (by rw [bn_lt (by omega) (by omega)]; omega)]
      rw [lx_stop (by omega), e0, md_same hp, ch_loop, hb]
      cases m_X3_next_185 σ <;> rfl
