/-! LEVEL B2: letters, digits; the component's reader up to a word's begin -/
set_option maxRecDepth 100000
/-- the component's byte c is the number x -/
def bx (c : Int32) (x : Nat) : Prop := x < 256 ∧ c.toInt = if x < 128 then (x : Int) else (x : Int) - 256
theorem br_bx {c m : Int32} (h : br c m) : ∃ x, bx c x ∧ m = Int32.ofNat x := by
  obtain ⟨n, h1, h2, h3⟩ := h
  exact ⟨n, ⟨h1, h3⟩, h2⟩
theorem bx_lt {c : Int32} {x y : Nat} (h : bx c x) (hy : y < 128) : c < Int32.ofNat y ↔ (x < y ∨ 128 ≤ x) := by
  obtain ⟨h1, h2⟩ := h
  rw [Int32.lt_iff_toInt_lt, lw_int (by omega), h2]
  split <;> omega
theorem bx_gt {c : Int32} {x y : Nat} (h : bx c x) (hy : y < 128) : Int32.ofNat y < c ↔ (y < x ∧ x < 128) := by
  obtain ⟨h1, h2⟩ := h
  rw [Int32.lt_iff_toInt_lt, lw_int (by omega), h2]
  split <;> omega
theorem bx_eq {c : Int32} {x y : Nat} (h : bx c x) (hy : y < 128) : c = Int32.ofNat y ↔ x = y := by
  obtain ⟨h1, h2⟩ := h
  rw [← Int32.toInt_inj, lw_int (by omega), h2]
  split <;> omega
theorem lx_letI {x : Nat} : lx_let x = true ↔ ((97 ≤ x ∧ x ≤ 122) ∨ (65 ≤ x ∧ x ≤ 90)) := by
  unfold lx_let
  simp only [Bool.or_eq_true, Bool.and_eq_true, decide_eq_true_eq]
theorem lx_digI {x : Nat} : lx_dig x = true ↔ (48 ≤ x ∧ x ≤ 57) := by
  unfold lx_dig
  simp only [Bool.and_eq_true, decide_eq_true_eq]
theorem lx_spI {x : Nat} : lx_sp x = true ↔ (x = 32 ∨ x = 10) := by
  unfold lx_sp
  simp only [Bool.or_eq_true, beq_iff_eq]
theorem lc_let {c : Int32} {x : Nat} {w : ch_W} (h : bx c x) : c_X4_isLetter c w = some (if lx_let x = true then 1 else 0) := by
  have hx := h.1
  have e97 : (c < 97) ↔ (x < 97 ∨ 128 ≤ x) := bx_lt (y := 97) h (by decide)
  have e122 : (122 < c) ↔ (122 < x ∧ x < 128) := bx_gt (y := 122) h (by decide)
  have e65 : (c < 65) ↔ (x < 65 ∨ 128 ≤ x) := bx_lt (y := 65) h (by decide)
  have e90 : (90 < c) ↔ (90 < x ∧ x < 128) := bx_gt (y := 90) h (by decide)
  unfold c_X4_isLetter c_X4_isLetter_12
  simp only [e97, e122, e65, e90, lx_letI]
  by_cases h1 : x < 97 ∨ 128 ≤ x
  · rw [if_pos h1]
    by_cases h2 : x < 65 ∨ 128 ≤ x
    · rw [if_pos h2, if_neg (by omega)]
    · rw [if_neg h2]
      by_cases h3 : 90 < x ∧ x < 128
      · rw [if_pos h3, if_neg (by omega)]
      · rw [if_neg h3, if_pos (by omega)]
  · rw [if_neg h1]
    by_cases h2 : 122 < x ∧ x < 128
    · rw [if_pos h2, if_neg (by omega), if_pos (by omega), if_neg (by omega)]
    · rw [if_neg h2, if_pos (by omega)]
theorem lc_dig {c : Int32} {x : Nat} {w : ch_W} (h : bx c x) : c_X4_isDigit c w = some (if lx_dig x = true then 1 else 0) := by
  have hx := h.1
  have e48 : (c < 48) ↔ (x < 48 ∨ 128 ≤ x) := bx_lt (y := 48) h (by decide)
  have e57 : (57 < c) ↔ (57 < x ∧ x < 128) := bx_gt (y := 57) h (by decide)
  unfold c_X4_isDigit
  simp only [e48, e57, lx_digI]
  by_cases h1 : x < 48 ∨ 128 ≤ x
  · rw [if_pos h1, if_neg (by omega)]
  · rw [if_neg h1]
    by_cases h2 : 57 < x ∧ x < 128
    · rw [if_pos h2, if_neg (by omega)]
    · rw [if_neg h2, if_pos (by omega)]
theorem lm_in {x a b : Nat} {σ : ch_S} (hx : x < 256) (ha : a < 256) (hb : b < 256) : m_X3_isIn (Int32.ofNat x).toInt64 (Int32.ofNat a).toInt64 (Int32.ofNat b).toInt64 σ = some (if a ≤ x ∧ x ≤ b then 1 else 0) := by
  rw [bl_isIn32]
  simp only [bn_le (show a < 2 ^ 31 by omega) (show x < 2 ^ 31 by omega), bn_le (show x < 2 ^ 31 by omega) (show b < 2 ^ 31 by omega)]
theorem lm_let {x : Nat} {σ : ch_S} (hx : x < 256) : m_X3_isLetter (Int32.ofNat x) σ = some (if lx_let x = true then 1 else 0) := by
  unfold m_X3_isLetter
  have e1 : m_X3_isIn (Int32.ofNat x).toInt64 97 122 σ = _ := lm_in (a := 97) (b := 122) hx (by decide) (by decide)
  have e2 : m_X3_isIn (Int32.ofNat x).toInt64 65 90 σ = _ := lm_in (a := 65) (b := 90) hx (by decide) (by decide)
  rw [e1, e2]
  simp only [lx_letI, Option.bind_some]
  by_cases h1 : 97 ≤ x ∧ x ≤ 122
  · rw [if_pos h1, if_neg (by decide), if_pos (by omega)]
  · rw [if_neg h1, if_pos rfl]
    by_cases h2 : 65 ≤ x ∧ x ≤ 90
    · rw [if_pos h2, if_neg (by decide), if_pos (by omega)]
    · rw [if_neg h2, if_pos rfl, if_neg (by omega)]
theorem lm_dig {x : Nat} {σ : ch_S} (hx : x < 256) : m_X3_isDigit (Int32.ofNat x) σ = some (if lx_dig x = true then 1 else 0) := by
  unfold m_X3_isDigit
  have e1 : m_X3_isIn (Int32.ofNat x).toInt64 48 57 σ = _ := lm_in (a := 48) (b := 57) hx (by decide) (by decide)
  rw [e1]
  simp only [lx_digI, Option.bind_some]
  by_cases h1 : 48 ≤ x ∧ x ≤ 57
  · rw [if_pos h1]; rfl
  · rw [if_neg h1]; rfl
/-- the reader at r reads the n bytes f at S -/
def rd_S (w : ch_W) (r S n : Nat) (f : Nat → Nat) : Prop := ch_tg w r = 5 ∧ ch_gr w r fX4_s = some S ∧ ch_tg w S = 22 ∧ ch_ln w S = 3000 ∧ n ≤ 3000 ∧ ch_gi w r fX4_end = Int32.ofNat n ∧ r ≠ S ∧ ∀ i : Nat, i < n → bx (ch_gi w S i) (f i)
theorem rd_S.si {w : ch_W} {r S n k : Nat} {f : Nat → Nat} {v : Int32} (h : rd_S w r S n f) (hk : k ≠ fX4_end) : rd_S (ch_si w r k v) r S n f := by
  obtain ⟨h1, h2, h3, h4, h5, h6, h7, h8⟩ := h
  refine ⟨by rw [b_tI]; exact h1, by rw [b_RI]; exact h2, by rw [b_tI]; exact h3, by rw [b_nI]; exact h4, h5, ?_, h7, fun i hi => ?_⟩
  · rw [b_II, if_neg (fun q => hk q.2.symm)]; exact h6
  · rw [b_II, if_neg (fun q => h7 q.1.symm)]; exact h8 i hi
/-- blanks are passed -/
theorem lc_next {g : State} {r S n : Nat} {f : Nat → Nat} : ∀ (k : Nat) (w : ch_W) (p : Nat), rd_S w r S n f → ch_gi w r fX4_from = Int32.ofNat p → p ≤ n → n - p ≤ k →
    ch_loop (fun (s : ch_W) => c_X4_next_8 g r s) w = c_X4_next_60 g r (ch_si w r fX4_from (Int32.ofNat (lx lx_sp f n p))) := by
  intro k
  induction k with
  | zero =>
    intro w p hS hp hn hk
    have h5 := hS.2.2.2.2.1
    have hb : c_X4_next_8 g r w = (c_X4_next_60 g r w).bind fun q => some (.inr q) := by
      unfold c_X4_next_8
      rw [d_gI hS.1, hp, d_gI hS.1, hS.2.2.2.2.2.1, if_neg (by rw [bn_lt (by omega) (by omega)]; omega)]
    rw [lx_stop (by omega), b_same hp, ch_loop, hb]
    cases c_X4_next_60 g r w <;> rfl
  | succ k ih =>
    intro w p hS hp hn hk
    obtain ⟨h1, h2, h3, h4, h5, h6, h7, h8⟩ := id hS
    by_cases hc : p < n
    · have hbx := h8 p hc
      have e32 : ch_gi w S p = 32 ↔ f p = 32 := bx_eq (y := 32) hbx (by decide)
      have e10 : ch_gi w S p = 10 ↔ f p = 10 := bx_eq (y := 10) hbx (by decide)
      have e1 : Int32.ofNat p + 1 = Int32.ofNat (p + 1) := bn_add (b := 1)
      have hb : c_X4_next_8 g r w = if lx_sp (f p) = true then some (.inl (ch_si w r fX4_from (Int32.ofNat (p + 1)))) else (c_X4_next_60 g r w).bind fun q => some (.inr q) := by
        unfold c_X4_next_8 c_X4_next_47
        rw [d_gI h1, hp, d_gI h1, h6, if_pos (by rw [bn_lt (by omega) (by omega)]; exact hc), d_gR h1, h2, d_gI h1, hp, d_lI (Or.inl h3) (by rw [h4]; omega) (by rw [h4]; decide), d_gI h1, hp, d_pI h1, e1, d_gR h1, h2, d_gI h1, hp, d_lI (Or.inl h3) (by rw [h4]; omega) (by rw [h4]; decide)]
        simp only [e32, e10, lx_spI]
        by_cases q1 : f p = 32
        · rw [if_pos q1, if_pos (Or.inl q1)]
        · rw [if_neg q1]
          by_cases q2 : f p = 10
          · rw [if_pos q2, if_pos (Or.inr q2)]
          · rw [if_neg q2, if_neg (by omega)]
      by_cases hs : lx_sp (f p) = true
      · rw [if_pos hs] at hb
        rw [ch_loop_inl hb, ih _ (p + 1) (hS.si (by decide)) (by rw [b_II, if_pos ⟨rfl, rfl⟩]) (by omega) (by omega), b_twice, lx_go ⟨hc, hs⟩]
      · rw [if_neg hs] at hb
        rw [lx_stop (fun q => hs q.2), b_same hp, ch_loop, hb]
        cases c_X4_next_60 g r w <;> rfl
    · have hb : c_X4_next_8 g r w = (c_X4_next_60 g r w).bind fun q => some (.inr q) := by
        unfold c_X4_next_8
        rw [d_gI h1, hp, d_gI h1, h6, if_neg (by rw [bn_lt (by omega) (by omega)]; omega)]
      rw [lx_stop (by omega), b_same hp, ch_loop, hb]
      cases c_X4_next_60 g r w <;> rfl
