/-! LEVEL B2: the model's isText -/
set_option maxRecDepth 100000
theorem lm_rd {σ : ch_S} {n i : Nat} {f : Nat → Nat} {β : Type} {F : Int32 → Option β} (hS : md_S σ n f) (hi : i < n) : (ch_ma σ fX3_source (Int32.ofNat i)).bind F = F (Int32.ofNat (f i)) := by
  have hml : ch_ml fX3_source = 3100 := rfl
  rw [d_ma (by rw [hml]; have := hS.2.1; omega) (by rw [hml]; decide), (hS.2.2 i hi).2]
theorem lm_t139 {σ : ch_S} {n fr m h : Nat} {f : Nat → Nat} (hS : md_S σ n f) (hm : m ≤ 6) (hh : h < 256) (hn : fr + m ≤ n) : m_X3_isText_139 (Int32.ofNat h) (Int32.ofNat m) (Int32.ofNat fr) σ = some (if m < 6 ∨ f (fr + 5) = h then 1 else 0) := by
  have h5 := hS.2.1
  unfold m_X3_isText_139
  have e6 : (Int32.ofNat m < 6) ↔ m < 6 := bn_lt (b := 6) (by omega) (by decide)
  have e5 : Int32.ofNat fr + 5 = Int32.ofNat (fr + 5) := bn_add (b := 5)
  by_cases q : m < 6
  · rw [if_pos (e6.mpr q), if_pos (Or.inl q)]
  · rw [if_neg (fun z => q (e6.mp z)), e5, lm_rd hS (by omega)]
    have hf := (hS.2.2 (fr + 5) (by omega)).1
    simp only [bn_eq (show f (fr + 5) < 2 ^ 31 by omega) (show h < 2 ^ 31 by omega)]
    by_cases q2 : f (fr + 5) = h
    · rw [if_pos q2, if_pos (Or.inr q2)]
    · rw [if_neg q2, if_neg (by omega)]
theorem lm_t119 {σ : ch_S} {n fr m e h : Nat} {f : Nat → Nat} (hS : md_S σ n f) (hm : m ≤ 6) (he : e < 256) (hh : h < 256) (hn : fr + m ≤ n) : m_X3_isText_119 (Int32.ofNat e) (Int32.ofNat h) (Int32.ofNat m) (Int32.ofNat fr) σ = some (if (m < 5 ∨ f (fr + 4) = e) ∧ (m < 6 ∨ f (fr + 5) = h) then 1 else 0) := by
  have h5 := hS.2.1
  unfold m_X3_isText_119
  have e6 : (Int32.ofNat m < 5) ↔ m < 5 := bn_lt (b := 5) (by omega) (by decide)
  have e5 : Int32.ofNat fr + 4 = Int32.ofNat (fr + 4) := bn_add (b := 4)
  rw [lm_t139 hS hm hh hn]
  by_cases q : m < 5
  · rw [if_pos (e6.mpr q)]
    simp [q]
  · rw [if_neg (fun z => q (e6.mp z)), e5, lm_rd hS (by omega)]
    have hf := (hS.2.2 (fr + 4) (by omega)).1
    simp only [bn_eq (show f (fr + 4) < 2 ^ 31 by omega) (show e < 2 ^ 31 by omega)]
    by_cases q2 : f (fr + 4) = e
    · rw [if_pos q2]; simp [q2]
    · rw [if_neg q2]; simp [q, q2]
theorem lm_t99 {σ : ch_S} {n fr m d e h : Nat} {f : Nat → Nat} (hS : md_S σ n f) (hm : m ≤ 6) (hd : d < 256) (he : e < 256) (hh : h < 256) (hn : fr + m ≤ n) : m_X3_isText_99 (Int32.ofNat d) (Int32.ofNat e) (Int32.ofNat h) (Int32.ofNat m) (Int32.ofNat fr) σ = some (if (m < 4 ∨ f (fr + 3) = d) ∧ (m < 5 ∨ f (fr + 4) = e) ∧ (m < 6 ∨ f (fr + 5) = h) then 1 else 0) := by
  have h5 := hS.2.1
  unfold m_X3_isText_99
  have e6 : (Int32.ofNat m < 4) ↔ m < 4 := bn_lt (b := 4) (by omega) (by decide)
  have e5 : Int32.ofNat fr + 3 = Int32.ofNat (fr + 3) := bn_add (b := 3)
  rw [lm_t119 hS hm he hh hn]
  by_cases q : m < 4
  · rw [if_pos (e6.mpr q)]
    simp [q]
  · rw [if_neg (fun z => q (e6.mp z)), e5, lm_rd hS (by omega)]
    have hf := (hS.2.2 (fr + 3) (by omega)).1
    simp only [bn_eq (show f (fr + 3) < 2 ^ 31 by omega) (show d < 2 ^ 31 by omega)]
    by_cases q2 : f (fr + 3) = d
    · rw [if_pos q2]; simp [q2]
    · rw [if_neg q2]; simp [q, q2]
