/-! LEVEL B1: end, heap, input -/
set_option maxRecDepth 100000
theorem bl_lt {x y : Int64} : lg_cmp x y < 0 ↔ x < y := by
  unfold lg_cmp
  by_cases h1 : x > y
  · rw [if_pos h1]
    constructor
    · intro h; exact absurd h (by decide)
    · intro h; exact absurd (Int64.lt_trans h1 h) (Int64.lt_irrefl)
  · rw [if_neg h1]
    by_cases h2 : x = y
    · rw [if_pos h2]
      constructor
      · intro h; exact absurd h (by decide)
      · intro h; subst h2; exact absurd h Int64.lt_irrefl
    · rw [if_neg h2]
      constructor
      · intro _
        rcases Int64.lt_or_lt_of_ne h2 with h | h
        · exact h
        · exact absurd h h1
      · intro _; decide
theorem bl_gt {x y : Int64} : 0 < lg_cmp x y ↔ y < x := by
  unfold lg_cmp
  by_cases h1 : x > y
  · rw [if_pos h1]
    exact ⟨fun _ => h1, fun _ => by decide⟩
  · rw [if_neg h1]
    by_cases h2 : x = y
    · rw [if_pos h2]
      exact ⟨fun h => absurd h (by decide), fun h => absurd h h1⟩
    · rw [if_neg h2]
      exact ⟨fun h => absurd h (by decide), fun h => absurd h h1⟩
theorem bl_isIn {x lo hi : Int64} {σ : ch_S} : m_X3_isIn x lo hi σ = some (if lo ≤ x ∧ x ≤ hi then 1 else 0) := by
  unfold m_X3_isIn
  by_cases h1 : x < lo
  · rw [if_pos (bl_lt.mpr h1), if_neg (fun h => absurd (Int64.lt_of_lt_of_le h1 h.1) Int64.lt_irrefl)]
  · rw [if_neg (fun h => h1 (bl_lt.mp h))]
    by_cases h2 : hi < x
    · rw [if_pos (bl_gt.mpr h2), if_neg (fun h => absurd (Int64.lt_of_lt_of_le h2 h.2) Int64.lt_irrefl)]
    · rw [if_neg (fun h => h2 (bl_gt.mp h)), if_pos ⟨Int64.not_lt.mp h1, Int64.not_lt.mp h2⟩]
theorem bl_isIn32 {x lo hi : Int32} {σ : ch_S} : m_X3_isIn x.toInt64 lo.toInt64 hi.toInt64 σ = some (if lo ≤ x ∧ x ≤ hi then 1 else 0) := by
  rw [bl_isIn]
  have e : (lo.toInt64 ≤ x.toInt64 ∧ x.toInt64 ≤ hi.toInt64) ↔ (lo ≤ x ∧ x ≤ hi) := by
    rw [Int64.le_iff_toInt_le, Int64.le_iff_toInt_le, Int32.le_iff_toInt_le, Int32.le_iff_toInt_le, Int32.toInt_toInt64, Int32.toInt_toInt64, Int32.toInt_toInt64]
  by_cases h : lo ≤ x ∧ x ≤ hi
  · rw [if_pos h, if_pos (e.mpr h)]
  · rw [if_neg h, if_neg (fun q => h (e.mp q))]
theorem bt_frWf {G : Nat} {w : ch_W} {v : Int32} : bt_frW G w (ch_si w G fX0_fed v) := by
  refine ⟨fun a q1 q2 => b_oI q1, fun a => b_tI, fun a => b_nI, fun a k => b_RI, fun k hk => ?_, rfl⟩
  rw [b_II, if_neg (fun q => hk q.2)]
theorem bt_Lsi {G a k : Nat} {w : ch_W} {v : Int32} (h : bt_L G w) : bt_L G (ch_si w a k v) := by
  obtain ⟨h1, h2, h3⟩ := h
  refine ⟨?_, ?_, ?_⟩
  · unfold bc_tag at *; simp only [b_tI]; exact h1
  · unfold bc_len at *; simp only [b_nI]; exact h2
  · unfold bc_ref at *; simp only [b_RI]; exact h3
/-- END -/
theorem bs_end {G n : Nat} {w : ch_W} {σ : ch_S} (x1 : Int32) (hL : bt_L G w) (h : bt_tape G w σ n) :
    ∃ r w1 σ1 n1, c_X0_end G x1 w = some (r, w1) ∧ m_X3_end x1 σ = some (r, σ1) ∧ bt_L G w1 ∧ bt_tape G w1 σ1 n1 ∧ n1 ≤ n ∧ bt_frW G w w1 ∧ bt_frM σ σ1 := by
  have h0 := id h
  obtain ⟨h1, h2, h3, h4⟩ := h
  unfold c_X0_end m_X3_end
  have e0 : (0 : Int64) = (0 : Int32).toInt64 := rfl
  rw [e0, bl_isIn32, Option.bind_some, h2]
  by_cases hx : x1 < 0
  · rw [if_pos hx]
    have : ¬ (0 ≤ x1 ∧ x1 ≤ Int32.ofNat n) := fun q => absurd (Int32.lt_of_lt_of_le hx q.1) Int32.lt_irrefl
    rw [if_neg this, if_pos rfl]
    exact ⟨_, _, _, n, rfl, rfl, hL, h0, by omega, bt_frW0, bt_frM0⟩
  · rw [if_neg hx, d_gI hL.1.1, h1]
    by_cases hy : Int32.ofNat n < x1
    · rw [if_pos hy]
      have : ¬ (0 ≤ x1 ∧ x1 ≤ Int32.ofNat n) := fun q => absurd (Int32.lt_of_lt_of_le hy q.2) Int32.lt_irrefl
      rw [if_neg this, if_pos rfl]
      exact ⟨_, _, _, n, rfl, rfl, hL, h0, by omega, bt_frW0, bt_frM0⟩
    · have hin : 0 ≤ x1 ∧ x1 ≤ Int32.ofNat n := ⟨Int32.not_lt.mp hx, Int32.not_lt.mp hy⟩
      rw [if_neg hy, if_pos hin, if_neg (by decide), d_pI hL.1.1, d_mI]
      obtain ⟨j, hj, rfl⟩ := nI_of hx
      have hjn : j ≤ n := by
        have := hin.2
        rw [show nI j = Int32.ofNat j from rfl, bn_le hj (by omega)] at this
        exact this
      refine ⟨_, _, _, j, rfl, rfl, bt_Lsi hL, ⟨?_, ?_, by omega, fun i hi => ?_⟩, hjn, bt_frWf, ?_⟩
      · rw [b_II, if_pos ⟨rfl, rfl⟩]; rfl
      · simp [va_up]; rfl
      · rw [b_II, if_neg (by omega)]
        exact h4 i (by omega)
      · exact ⟨fun k hk => by simp [va_up, hk], fun k _ => rfl⟩
/-- HEAP -/
def bt_cells (G : Nat) (w : ch_W) (σ : ch_S) : Prop := ∃ c : Nat, 10 ≤ c ∧ c ≤ 10000 ∧ ch_gi w G fX0_cells = Int32.ofNat c ∧ σ.1 fX3_heapNext = Int32.ofNat c
def bt_frH (G : Nat) (w w1 : ch_W) : Prop := (∀ a : Nat, a ≠ G → w1.1 a = w.1 a) ∧ (∀ a : Nat, ch_tg w1 a = ch_tg w a) ∧ (∀ a : Nat, ch_ln w1 a = ch_ln w a) ∧ (∀ a k : Nat, ch_gr w1 a k = ch_gr w a k) ∧ (∀ k : Nat, k ≠ fX0_cells → ch_gi w1 G k = ch_gi w G k) ∧ w1.2 = w.2
theorem bs_heap {G : Nat} {w : ch_W} {σ : ch_S} (x1 : Int32) (hL : bt_L G w) (h : bt_cells G w σ) :
    ∃ r w1 σ1, c_X0_heap G x1 w = some (r, w1) ∧ m_X3_heap x1 σ = some (r, σ1) ∧ bt_L G w1 ∧ bt_cells G w1 σ1 ∧ bt_frH G w w1 ∧ (∀ k : Nat, k ≠ fX3_heapNext → σ1.1 k = σ.1 k) ∧ σ1.2 = σ.2 := by
  unfold c_X0_heap m_X3_heap
  have e0 : (10 : Int64) = (10 : Int32).toInt64 := rfl
  have e1 : (10000 : Int64) = (10000 : Int32).toInt64 := rfl
  rw [e0, e1, bl_isIn32, Option.bind_some]
  have hf0 : bt_frH G w w := ⟨fun _ _ => rfl, fun _ => rfl, fun _ => rfl, fun _ _ => rfl, fun _ _ => rfl, rfl⟩
  by_cases hx : x1 < 10
  · rw [if_pos hx]
    have : ¬ (10 ≤ x1 ∧ x1 ≤ 10000) := fun q => absurd (Int32.lt_of_lt_of_le hx q.1) Int32.lt_irrefl
    rw [if_neg this, if_pos rfl]
    exact ⟨_, _, _, rfl, rfl, hL, h, hf0, fun _ _ => rfl, rfl⟩
  · rw [if_neg hx]
    by_cases hy : 10000 < x1
    · rw [if_pos hy]
      have : ¬ (10 ≤ x1 ∧ x1 ≤ 10000) := fun q => absurd (Int32.lt_of_lt_of_le hy q.2) Int32.lt_irrefl
      rw [if_neg this, if_pos rfl]
      exact ⟨_, _, _, rfl, rfl, hL, h, hf0, fun _ _ => rfl, rfl⟩
    · have hin : 10 ≤ x1 ∧ x1 ≤ 10000 := ⟨Int32.not_lt.mp hx, Int32.not_lt.mp hy⟩
      rw [if_neg hy, if_pos hin, if_neg (by decide), d_pI hL.1.1, d_mI]
      obtain ⟨j, hj, rfl⟩ := nI_of (x := x1) (fun q => hx (Int32.lt_of_lt_of_le q (by decide)))
      have hj1 : 10 ≤ j := by
        have := hin.1
        rw [show nI j = Int32.ofNat j from rfl, show (10 : Int32) = Int32.ofNat 10 from rfl, bn_le (by decide) hj] at this
        exact this
      have hj2 : j ≤ 10000 := by
        have := hin.2
        rw [show nI j = Int32.ofNat j from rfl, show (10000 : Int32) = Int32.ofNat 10000 from rfl, bn_le hj (by decide)] at this
        exact this
      refine ⟨_, _, _, rfl, rfl, bt_Lsi hL, ⟨j, hj1, hj2, ?_, ?_⟩, ⟨fun a q1 => b_oI q1, fun a => b_tI, fun a => b_nI, fun a k => b_RI, fun k hk => ?_, rfl⟩, fun k hk => by simp [va_up, hk], rfl⟩
      · rw [b_II, if_pos ⟨rfl, rfl⟩]; rfl
      · simp [va_up]; rfl
      · rw [b_II, if_neg (fun q => hk q.2)]
