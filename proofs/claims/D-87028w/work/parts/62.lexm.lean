/-! LEVEL B2: the model's next: blanks -/
set_option maxRecDepth 100000
/-- the model's text -/
def md_S (σ : ch_S) (n : Nat) (f : Nat → Nat) : Prop := σ.1 fX3_length = Int32.ofNat n ∧ n ≤ 3000 ∧ ∀ i : Nat, i < n → f i < 256 ∧ σ.2 fX3_source i = Int32.ofNat (f i)
def md_si (σ : ch_S) (k : Nat) (v : Int32) : ch_S := (va_up σ.1 k v, σ.2)
theorem md_same {σ : ch_S} {k : Nat} {v : Int32} (h : σ.1 k = v) : md_si σ k v = σ := by
  unfold md_si
  refine Prod.ext ?_ rfl
  funext j
  by_cases hj : j = k
  · subst hj; simp [va_up]; exact h.symm
  · simp [va_up, hj]
theorem md_twice {σ : ch_S} {k : Nat} {u v : Int32} : md_si (md_si σ k u) k v = md_si σ k v := by
  unfold md_si
  refine Prod.ext ?_ rfl
  funext j
  by_cases hj : j = k <;> simp [va_up, hj]
theorem md_get {σ : ch_S} {k j : Nat} {v : Int32} : (md_si σ k v).1 j = if j = k then v else σ.1 j := rfl
theorem md_S.si {σ : ch_S} {n k : Nat} {f : Nat → Nat} {v : Int32} (h : md_S σ n f) (hk : k ≠ fX3_length) : md_S (md_si σ k v) n f := ⟨by rw [md_get, if_neg (fun q => hk q.symm)]; exact h.1, h.2⟩
theorem lm_next {n : Nat} {f : Nat → Nat} : ∀ (k : Nat) (σ : ch_S) (p : Nat), md_S σ n f → σ.1 fX3_at = Int32.ofNat p → p ≤ n → n - p ≤ k →
    ch_loop (fun (s : ch_S) => m_X3_next_0 s) σ = m_X3_next_52 (md_si σ fX3_at (Int32.ofNat (lx lx_sp f n p))) := by
  have hml : ch_ml fX3_source = 3100 := rfl
  intro k
  induction k with
  | zero =>
    intro σ p hS hp hn hk
    obtain ⟨h1, h5, h8⟩ := id hS
    have hb : m_X3_next_0 σ = (m_X3_next_52 σ).bind fun q => some (.inr q) := by
      unfold m_X3_next_0
      rw [hp, h1, if_neg (by rw [bn_lt (by omega) (by omega)]; omega)]
    rw [lx_stop (by omega), md_same hp, ch_loop, hb]
    cases m_X3_next_52 σ <;> rfl
  | succ k ih =>
    intro σ p hS hp hn hk
    obtain ⟨h1, h5, h8⟩ := id hS
    by_cases hc : p < n
    · obtain ⟨hf, hv⟩ := h8 p hc
      have e1 : Int32.ofNat p + 1 = Int32.ofNat (p + 1) := bn_add (b := 1)
      have e32 : Int32.ofNat (f p) = 32 ↔ f p = 32 := bn_eq (b := 32) (by omega) (by decide)
      have e10 : Int32.ofNat (f p) = 10 ↔ f p = 10 := bn_eq (b := 10) (by omega) (by decide)
      have hb : m_X3_next_0 σ = if lx_sp (f p) = true then some (.inl (md_si σ fX3_at (Int32.ofNat (p + 1)))) else (m_X3_next_52 σ).bind fun q => some (.inr q) := by
        unfold m_X3_next_0 m_X3_next_39
        rw [hp, h1, if_pos (by rw [bn_lt (by omega) (by omega)]; exact hc), d_ma (by rw [hml]; omega) (by rw [hml]; decide), hv, d_mI, e1, d_ma (by rw [hml]; omega) (by rw [hml]; decide), hv]
        simp only [e32, e10, lx_spI]
        by_cases q1 : f p = 32
        · rw [if_pos q1, if_pos (Or.inl q1)]; rfl
        · rw [if_neg q1]
          by_cases q2 : f p = 10
          · rw [if_pos q2, if_pos (Or.inr q2)]; rfl
          · rw [if_neg q2, if_neg (by omega)]
      by_cases hs : lx_sp (f p) = true
      · rw [if_pos hs] at hb
        rw [ch_loop_inl hb, ih _ (p + 1) (hS.si (by decide)) (by rw [md_get, if_pos rfl]) (by omega) (by omega), md_twice, lx_go ⟨hc, hs⟩]
      · rw [if_neg hs] at hb
        rw [lx_stop (fun q => hs q.2), md_same hp, ch_loop, hb]
        cases m_X3_next_52 σ <;> rfl
    · have hb : m_X3_next_0 σ = (m_X3_next_52 σ).bind fun q => some (.inr q) := by
        unfold m_X3_next_0
        rw [hp, h1, if_neg (by rw [bn_lt (by omega) (by omega)]; omega)]
      rw [lx_stop (by omega), md_same hp, ch_loop, hb]
      cases m_X3_next_52 σ <;> rfl
