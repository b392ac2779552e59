/-! LEVEL B2: the model's isText, the whole of it -/
set_option maxRecDepth 100000
theorem lm_t37 {σ : ch_S} {n fr q m a b c d e h : Nat} {f : Nat → Nat} (hS : md_S σ n f) (hw : σ.1 fX3_wordFrom = Int32.ofNat fr) (hq : σ.1 fX3_wordLong = Int32.ofNat q) (hm : m ≤ 6) (hm2 : 2 ≤ m) (ha : a < 256) (hb : b < 256) (hc : c < 256) (hd : d < 256) (he : e < 256) (hh : h < 256) (hn : fr + q ≤ n) : m_X3_isText_37 (Int32.ofNat a) (Int32.ofNat b) (Int32.ofNat c) (Int32.ofNat d) (Int32.ofNat e) (Int32.ofNat h) (Int32.ofNat m) σ = some (if q = m ∧ f fr = a ∧ f (fr + 1) = b ∧ (m < 3 ∨ f (fr + 2) = c) ∧ (m < 4 ∨ f (fr + 3) = d) ∧ (m < 5 ∨ f (fr + 4) = e) ∧ (m < 6 ∨ f (fr + 5) = h) then 1 else 0) := by
  have h5 := hS.2.1
  have e1 : Int32.ofNat fr + 1 = Int32.ofNat (fr + 1) := bn_add (b := 1)
  have e2 : Int32.ofNat fr + 2 = Int32.ofNat (fr + 2) := bn_add (b := 2)
  have e3 : (Int32.ofNat m < 3) ↔ m < 3 := bn_lt (b := 3) (by omega) (by decide)
  unfold m_X3_isText_37
  rw [hq, hw, e1, e2]
  simp only [bn_eq (show q < 2 ^ 31 by omega) (show m < 2 ^ 31 by omega), e3]
  by_cases z0 : q = m
  · rw [if_pos z0, lm_rd hS (by omega)]
    have hf0 := (hS.2.2 fr (by omega)).1
    have hf1 := (hS.2.2 (fr + 1) (by omega)).1
    simp only [bn_eq (show f fr < 2 ^ 31 by omega) (show a < 2 ^ 31 by omega)]
    by_cases z1 : f fr = a
    · rw [if_pos z1, lm_rd hS (by omega)]
      simp only [bn_eq (show f (fr + 1) < 2 ^ 31 by omega) (show b < 2 ^ 31 by omega)]
      by_cases z2 : f (fr + 1) = b
      · rw [if_pos z2, lm_t99 hS hm hd he hh (by omega)]
        by_cases z3 : m < 3
        · rw [if_pos z3]
          simp [z0, z1, z2, z3]
        · rw [if_neg z3, lm_rd hS (by omega)]
          have hf2 := (hS.2.2 (fr + 2) (by omega)).1
          simp only [bn_eq (show f (fr + 2) < 2 ^ 31 by omega) (show c < 2 ^ 31 by omega)]
          by_cases z4 : f (fr + 2) = c
          · rw [if_pos z4]
            simp [z0, z1, z2, z4]
          · rw [if_neg z4]
            simp [z3, z4]
      · rw [if_neg z2]
        simp [z2]
    · rw [if_neg z1]
      simp [z1]
  · rw [if_neg z0]
    simp [z0]
