/-! LEVEL B: reading behind writing; numbers; loops -/
section B0
variable {w : ch_W} {a b k j t : Nat}
theorem b_tI {v : Int32} : ch_tg (ch_si w a k v) b = ch_tg w b := by
  unfold ch_tg ch_si va_up; dsimp only; by_cases h : b = a <;> simp [h]
theorem b_tR {v : Option Nat} : ch_tg (ch_sr w a k v) b = ch_tg w b := by
  unfold ch_tg ch_sr va_up; dsimp only; by_cases h : b = a <;> simp [h]
theorem b_tL {v : Int64} : ch_tg (ch_sL w a k v) b = ch_tg w b := by
  unfold ch_tg ch_sL va_up; dsimp only; by_cases h : b = a <;> simp [h]
theorem b_nI {v : Int32} : ch_ln (ch_si w a k v) b = ch_ln w b := by
  unfold ch_ln ch_si va_up; dsimp only; by_cases h : b = a <;> simp [h]
theorem b_nR {v : Option Nat} : ch_ln (ch_sr w a k v) b = ch_ln w b := by
  unfold ch_ln ch_sr va_up; dsimp only; by_cases h : b = a <;> simp [h]
theorem b_nL {v : Int64} : ch_ln (ch_sL w a k v) b = ch_ln w b := by
  unfold ch_ln ch_sL va_up; dsimp only; by_cases h : b = a <;> simp [h]
theorem b_II {v : Int32} : ch_gi (ch_si w a k v) b j = if b = a ∧ j = k then v else ch_gi w b j := by
  unfold ch_gi ch_si va_up; dsimp only; by_cases h : b = a <;> by_cases h2 : j = k <;> simp [h, h2]
theorem b_IR {v : Option Nat} : ch_gi (ch_sr w a k v) b j = ch_gi w b j := by
  unfold ch_gi ch_sr va_up; dsimp only; by_cases h : b = a <;> simp [h]
theorem b_IL {v : Int64} : ch_gi (ch_sL w a k v) b j = ch_gi w b j := by
  unfold ch_gi ch_sL va_up; dsimp only; by_cases h : b = a <;> simp [h]
theorem b_RI {v : Int32} : ch_gr (ch_si w a k v) b j = ch_gr w b j := by
  unfold ch_gr ch_si va_up; dsimp only; by_cases h : b = a <;> simp [h]
theorem b_RR {v : Option Nat} : ch_gr (ch_sr w a k v) b j = if b = a ∧ j = k then v else ch_gr w b j := by
  unfold ch_gr ch_sr va_up; dsimp only; by_cases h : b = a <;> by_cases h2 : j = k <;> simp [h, h2]
theorem b_RL {v : Int64} : ch_gr (ch_sL w a k v) b j = ch_gr w b j := by
  unfold ch_gr ch_sL va_up; dsimp only; by_cases h : b = a <;> simp [h]
theorem b_LI {v : Int32} : ch_gl (ch_si w a k v) b j = ch_gl w b j := by
  unfold ch_gl ch_si va_up; dsimp only; by_cases h : b = a <;> simp [h]
theorem b_LR {v : Option Nat} : ch_gl (ch_sr w a k v) b j = ch_gl w b j := by
  unfold ch_gl ch_sr va_up; dsimp only; by_cases h : b = a <;> simp [h]
theorem b_LL {v : Int64} : ch_gl (ch_sL w a k v) b j = if b = a ∧ j = k then v else ch_gl w b j := by
  unfold ch_gl ch_sL va_up; dsimp only; by_cases h : b = a <;> by_cases h2 : j = k <;> simp [h, h2]
theorem b_xI {v : Int32} : ch_nx (ch_si w a k v) = ch_nx w := rfl
theorem b_xR {v : Option Nat} : ch_nx (ch_sr w a k v) = ch_nx w := rfl
theorem b_xL {v : Int64} : ch_nx (ch_sL w a k v) = ch_nx w := rfl
theorem b_cI {v : Int32} : ch_cs (ch_si w a k v) = ch_cs w := rfl
theorem b_cR {v : Option Nat} : ch_cs (ch_sr w a k v) = ch_cs w := rfl
theorem b_cL {v : Int64} : ch_cs (ch_sL w a k v) = ch_cs w := rfl
theorem b_sI {v : Int32} : ch_sl (ch_si w a k v) = ch_sl w := rfl
theorem b_sR {v : Option Nat} : ch_sl (ch_sr w a k v) = ch_sl w := rfl
theorem b_sL {v : Int64} : ch_sl (ch_sL w a k v) = ch_sl w := rfl
/-- another cell stays -/
theorem b_oI {v : Int32} (h : b ≠ a) : (ch_si w a k v).1 b = w.1 b := by unfold ch_si va_up; simp [h]
theorem b_oR {v : Option Nat} (h : b ≠ a) : (ch_sr w a k v).1 b = w.1 b := by unfold ch_sr va_up; simp [h]
theorem b_oL {v : Int64} (h : b ≠ a) : (ch_sL w a k v).1 b = w.1 b := by unfold ch_sL va_up; simp [h]
theorem b_oN {o : ch_O} (h : b ≠ ch_nx w) : (ch_nw w o).1 b = w.1 b := by unfold ch_nw va_up; exact if_neg h
theorem b_atN {o : ch_O} : (ch_nw w o).1 (ch_nx w) = o := by unfold ch_nw va_up ch_nx; simp
theorem b_tN {o : ch_O} : ch_tg (ch_nw w o) b = if b = ch_nx w then o.1 else ch_tg w b := by
  unfold ch_tg ch_nw va_up ch_nx; dsimp only; by_cases h : b = w.2.1 <;> simp [h]
theorem b_nN {o : ch_O} : ch_ln (ch_nw w o) b = if b = ch_nx w then o.2.1 else ch_ln w b := by
  unfold ch_ln ch_nw va_up ch_nx; dsimp only; by_cases h : b = w.2.1 <;> simp [h]
theorem b_IN {o : ch_O} : ch_gi (ch_nw w o) b j = if b = ch_nx w then o.2.2.1 j else ch_gi w b j := by
  unfold ch_gi ch_nw va_up ch_nx; dsimp only; by_cases h : b = w.2.1 <;> simp [h]
theorem b_RN {o : ch_O} : ch_gr (ch_nw w o) b j = if b = ch_nx w then o.2.2.2.1 j else ch_gr w b j := by
  unfold ch_gr ch_nw va_up ch_nx; dsimp only; by_cases h : b = w.2.1 <;> simp [h]
theorem b_LN {o : ch_O} : ch_gl (ch_nw w o) b j = if b = ch_nx w then o.2.2.2.2 j else ch_gl w b j := by
  unfold ch_gl ch_nw va_up ch_nx; dsimp only; by_cases h : b = w.2.1 <;> simp [h]
theorem b_xN {o : ch_O} : ch_nx (ch_nw w o) = ch_nx w + 1 := rfl
theorem b_cN {o : ch_O} : ch_cs (ch_nw w o) = ch_cs w + 1 := rfl
theorem b_sN {o : ch_O} : ch_sl (ch_nw w o) = ch_sl w + o.2.1 := rfl
/-- the primitives, where they go well -/
theorem b_gI (h : ch_tg w a = t) : ch_gI w (some a) t k = some (ch_gi w a k) := by
  show (if ch_tg w a = t then _ else _) = _; rw [if_pos h]
theorem b_gR (h : ch_tg w a = t) : ch_gR w (some a) t k = some (ch_gr w a k) := by
  show (if ch_tg w a = t then _ else _) = _; rw [if_pos h]
theorem b_gL (h : ch_tg w a = t) : ch_gL w (some a) t k = some (ch_gl w a k) := by
  show (if ch_tg w a = t then _ else _) = _; rw [if_pos h]
theorem b_pI {v : Int32} (h : ch_tg w a = t) : ch_pI w (some a) t k v = some (ch_si w a k v) := by
  show (if ch_tg w a = t then _ else _) = _; rw [if_pos h]
theorem b_pR {v : Option Nat} (h : ch_tg w a = t) : ch_pR w (some a) t k v = some (ch_sr w a k v) := by
  show (if ch_tg w a = t then _ else _) = _; rw [if_pos h]
theorem b_pL {v : Int64} (h : ch_tg w a = t) : ch_pL w (some a) t k v = some (ch_sL w a k v) := by
  show (if ch_tg w a = t then _ else _) = _; rw [if_pos h]
theorem b_rc (h : ch_tg w a = t) : ch_rc w (some a) t = some a := by
  unfold ch_rc
  simp [h]
theorem b_in {i n : Nat} (h : i < n) (hn : n ≤ 2 ^ 31) : ch_in (Int32.ofNat i) n := by
  intro q
  rcases q with q | q
  · have := Int32.lt_iff_toInt_lt.mp q
    rw [lw_int (by omega)] at this
    have e : (0 : Int32).toInt = 0 := rfl
    omega
  · rw [lw_nat (by omega)] at q
    omega
theorem b_lI {i : Nat} (h : ch_tg w a = t ∨ ch_tg w a = t + 30) (hi : i < ch_ln w a) (hn : ch_ln w a ≤ 2 ^ 31) : ch_lI w (some a) t (Int32.ofNat i) = some (ch_gi w a i) := by
  show (if ch_ta w a t ∧ ch_in (Int32.ofNat i) (ch_ln w a) then _ else _) = _
  rw [if_pos ⟨h, b_in hi hn⟩, lw_nat (by omega)]
theorem b_lR {i : Nat} (h : ch_tg w a = t ∨ ch_tg w a = t + 30) (hi : i < ch_ln w a) (hn : ch_ln w a ≤ 2 ^ 31) : ch_lR w (some a) t (Int32.ofNat i) = some (ch_gr w a i) := by
  show (if ch_ta w a t ∧ ch_in (Int32.ofNat i) (ch_ln w a) then _ else _) = _
  rw [if_pos ⟨h, b_in hi hn⟩, lw_nat (by omega)]
theorem b_lL {i : Nat} (h : ch_tg w a = t ∨ ch_tg w a = t + 30) (hi : i < ch_ln w a) (hn : ch_ln w a ≤ 2 ^ 31) : ch_lL w (some a) t (Int32.ofNat i) = some (ch_gl w a i) := by
  show (if ch_ta w a t ∧ ch_in (Int32.ofNat i) (ch_ln w a) then _ else _) = _
  rw [if_pos ⟨h, b_in hi hn⟩, lw_nat (by omega)]
theorem b_le (h : ch_tg w a = t ∨ ch_tg w a = t + 30) : ch_le w (some a) t = some (Int32.ofNat (ch_ln w a)) := by
  show (if ch_ta w a t then _ else _) = _
  rw [if_pos h]
theorem b_wI {i : Nat} {v : Int32} (h : ch_tg w a = t) (hi : i < ch_ln w a) (hn : ch_ln w a ≤ 2 ^ 31) : ch_wI w (some a) t (Int32.ofNat i) v = some (ch_si w a i v) := by
  show (if ch_tg w a = t ∧ ch_in (Int32.ofNat i) (ch_ln w a) then _ else _) = _
  rw [if_pos ⟨h, b_in hi hn⟩, lw_nat (by omega)]
theorem b_wL {i : Nat} {v : Int64} (h : ch_tg w a = t) (hi : i < ch_ln w a) (hn : ch_ln w a ≤ 2 ^ 31) : ch_wL w (some a) t (Int32.ofNat i) v = some (ch_sL w a i v) := by
  show (if ch_tg w a = t ∧ ch_in (Int32.ofNat i) (ch_ln w a) then _ else _) = _
  rw [if_pos ⟨h, b_in hi hn⟩, lw_nat (by omega)]
theorem b_wR {i c : Nat} {v : Option Nat} (h : ch_tg w a = t) (hi : i < ch_ln w a) (hn : ch_ln w a ≤ 2 ^ 31) (hv : ch_fitR w v c = true) : ch_wR w (some a) t c (Int32.ofNat i) v = some (ch_sr w a i v) := by
  show (if (ch_tg w a = t ∧ ch_in (Int32.ofNat i) (ch_ln w a)) ∧ ch_fitR w v c = true then _ else _) = _
  rw [if_pos ⟨⟨h, b_in hi hn⟩, hv⟩, lw_nat (by omega)]
theorem b_nO {n : Nat} (h1 : ch_cs w + 1 ≤ 601024) (h2 : ch_sl w + n ≤ 7293034) : ch_nO w t n = some (ch_nw w (ch_new t n)) := by
  unfold ch_nO; rw [if_pos ⟨h1, h2⟩]
theorem b_nA {n : Nat} (hn : n < 2 ^ 31) (h1 : ch_cs w + 1 ≤ 601024) (h2 : ch_sl w + n ≤ 7293034) : ch_nA w t (Int32.ofNat n) = some (ch_nw w (ch_new t n)) := by
  have h0 : ¬ Int32.ofNat n < 0 := by
    intro q
    have := Int32.lt_iff_toInt_lt.mp q
    rw [lw_int hn] at this
    have e : (0 : Int32).toInt = 0 := rfl
    omega
  unfold ch_nA; rw [lw_nat hn, if_pos ⟨h0, h1, h2⟩]
end B0
/-- numbers -/
theorem bn_lt {a b : Nat} (ha : a < 2 ^ 31) (hb : b < 2 ^ 31) : Int32.ofNat a < Int32.ofNat b ↔ a < b := by
  rw [Int32.lt_iff_toInt_lt, lw_int ha, lw_int hb]; omega
theorem bn_le {a b : Nat} (ha : a < 2 ^ 31) (hb : b < 2 ^ 31) : Int32.ofNat a ≤ Int32.ofNat b ↔ a ≤ b := by
  rw [Int32.le_iff_toInt_le, lw_int ha, lw_int hb]; omega
theorem bn_eq {a b : Nat} (ha : a < 2 ^ 31) (hb : b < 2 ^ 31) : Int32.ofNat a = Int32.ofNat b ↔ a = b := by
  constructor
  · intro h
    have := congrArg Int32.toInt h
    rw [lw_int ha, lw_int hb] at this
    omega
  · intro h; rw [h]
theorem bn_add {a b : Nat} : Int32.ofNat a + Int32.ofNat b = Int32.ofNat (a + b) := (Int32.ofNat_add ..).symm
theorem bn_sub {a b : Nat} (h : b ≤ a) : Int32.ofNat a - Int32.ofNat b = Int32.ofNat (a - b) := by
  have e : a = (a - b) + b := by omega
  have h2 : Int32.ofNat a = Int32.ofNat (a - b) + Int32.ofNat b := by rw [bn_add, ← e]
  rw [h2, Int32.add_sub_cancel]
theorem bn_mul {a b : Nat} : Int32.ofNat a * Int32.ofNat b = Int32.ofNat (a * b) := (Int32.ofNat_mul ..).symm
/-- two loops or one: induction by a measure is left to who calls; here one turn -/
theorem b_turn {α β : Type} {body : α → Option (α ⊕ β)} {a : α} {r : α ⊕ β} (h : body a = some r) : ch_loop body a = match r with
    | .inl a' => ch_loop body a'
    | .inr b => some b := by
  cases r with
  | inl a' => exact ch_loop_inl h
  | inr b => exact ch_loop_inr h
