/-! LEVEL B1: input, result, output -/
set_option maxRecDepth 100000
theorem bn_mod {a b : Nat} (ha : a < 2 ^ 31) (hb : b < 2 ^ 31) : Int32.ofNat a - Int32.ofNat a / Int32.ofNat b * Int32.ofNat b = Int32.ofNat (a % b) := by
  rw [← Int32.ofNat_div ha hb, bn_mul, bn_sub (Nat.div_mul_le_self a b)]
  congr 1
  have := Nat.div_add_mod a b
  rw [Nat.mul_comm] at this
  omega
def bt_ring (G : Nat) (w : ch_W) (row : Nat → Int32) (q : Nat) : Prop := ch_gi w (G + 2) fX1_givenMany = Int32.ofNat q ∧ q ≤ 300 ∧ ∃ f : Nat, f < 300 ∧ ch_gi w (G + 2) fX1_givenFirst = Int32.ofNat f ∧ ∀ j : Nat, j < q → ch_gi w (G + 9) ((f + j) % 300) = row j
def bt_frI (G : Nat) (w w1 : ch_W) : Prop := (∀ a : Nat, a ≠ G + 2 → a ≠ G + 9 → w1.1 a = w.1 a) ∧ (∀ a : Nat, ch_tg w1 a = ch_tg w a) ∧ (∀ a : Nat, ch_ln w1 a = ch_ln w a) ∧ (∀ a k : Nat, ch_gr w1 a k = ch_gr w a k) ∧ (∀ k : Nat, k ≠ fX1_givenMany → ch_gi w1 (G + 2) k = ch_gi w (G + 2) k) ∧ w1.2 = w.2
theorem bt_give {G q : Nat} {w : ch_W} {row : Nat → Int32} {x : Int32} (hL : bt_L G w) (h : bt_ring G w row q) (hq : q < 300) :
    ∃ w1, c_X0_give G x w = some w1 ∧ bt_L G w1 ∧ bt_ring G w1 (va_up row q x) (q + 1) ∧ bt_frI G w w1 := by
  obtain ⟨h1, h2, f, hf, h3, h4⟩ := h
  obtain ⟨hT, hN, hR⟩ := id hL
  have tG : ch_tg w G = 1 := hT.1
  have tM : ch_tg w (G + 2) = 2 := hT.2.2.1
  have tV : ch_tg w (G + 9) = 21 := hT.2.2.2.2.2.2.2.2.2.1
  have lV : ch_ln w (G + 9) = 300 := hN.2.2.2.2.2.2.2.1
  have rM : ch_gr w G fX0_machine = some (G + 2) := hR.2.1
  have rV : ch_gr w (G + 2) fX1_given = some (G + 9) := hR.2.2.2.2.2.2.1
  unfold c_X0_give
  have e300 : (300 : Int32) = Int32.ofNat 300 := rfl
  have ez : ch_nz 300 = some 300 := rfl
  have e1 : Int32.ofNat q + 1 = Int32.ofNat (q + 1) := bn_add (b := 1)
  have hm : (f + q) % 300 < 300 := Nat.mod_lt _ (by decide)
  rw [d_gR tG, rM, d_gR tM, rV, d_gR tG, rM, d_gI tM, h3, d_gR tG, rM, d_gI tM, h1, ez, Option.bind_some, bn_add, e300, bn_mod (by omega) (by decide), d_wI tV (by rw [lV]; exact hm) (by rw [lV]; decide), d_gR (by rw [b_tI]; exact tG), b_RI, rM, d_gI (by rw [b_tI]; exact tM), b_II, if_neg (by omega), h1, e1, d_pI (by rw [b_tI]; exact tM)]
  refine ⟨_, rfl, bt_Lsi (bt_Lsi hL), ⟨?_, by omega, f, hf, ?_, fun j hj => ?_⟩, ⟨fun a q1 q2 => ?_, fun a => by rw [b_tI, b_tI], fun a => by rw [b_nI, b_nI], fun a k => by rw [b_RI, b_RI], fun k hk => ?_, rfl⟩⟩
  · rw [b_II, if_pos ⟨rfl, rfl⟩]
  · rw [b_II, if_neg (fun z => absurd z.2 (by decide)), b_II, if_neg (by omega), h3]
  · rw [b_II, if_neg (by omega), b_II]
    by_cases hjq : j = q
    · subst hjq
      rw [if_pos ⟨rfl, rfl⟩]
      simp [va_up]
    · rw [if_neg (by rintro ⟨-, z⟩; omega)]
      simp only [va_up, if_neg hjq]
      exact h4 j (by omega)
  · rw [b_oI q1, b_oI q2]
  · rw [b_II, if_neg (fun z => hk z.2), b_II, if_neg (by omega)]
theorem bt_frI.tr {G : Nat} {u v w : ch_W} (h1 : bt_frI G u v) (h2 : bt_frI G v w) : bt_frI G u w :=
  ⟨fun a p q => (h2.1 a p q).trans (h1.1 a p q), fun a => (h2.2.1 a).trans (h1.2.1 a), fun a => (h2.2.2.1 a).trans (h1.2.2.1 a), fun a k => (h2.2.2.2.1 a k).trans (h1.2.2.2.1 a k), fun k hk => (h2.2.2.2.2.1 k hk).trans (h1.2.2.2.2.1 k hk), h2.2.2.2.2.2.trans h1.2.2.2.2.2⟩
def bt_inp (G : Nat) (w : ch_W) (σ : ch_S) : Prop := ∃ q : Nat, bt_ring G w (σ.2 fX3_input) q ∧ σ.1 fX3_inputs = Int32.ofNat q
/-- INPUT -/
theorem bs_input {G : Nat} {w : ch_W} {σ : ch_S} (x1 x2 x3 : Int32) (hL : bt_L G w) (h : bt_inp G w σ) :
    ∃ r w1 σ1, c_X0_input G x1 x2 x3 w = some (r, w1) ∧ m_X3_input x1 x2 x3 σ = some (r, σ1) ∧ bt_L G w1 ∧ bt_inp G w1 σ1 ∧ bt_frI G w w1 ∧ (∀ k : Nat, k ≠ fX3_inputs → σ1.1 k = σ.1 k) ∧ (∀ k : Nat, k ≠ fX3_input → σ1.2 k = σ.2 k) := by
  obtain ⟨q, hr, hi⟩ := id h
  have h1 := hr.1
  have h2 := hr.2.1
  have tG : ch_tg w G = 1 := hL.1.1
  have tM : ch_tg w (G + 2) = 2 := hL.1.2.2.1
  have rM : ch_gr w G fX0_machine = some (G + 2) := hL.2.2.2.1
  unfold c_X0_input m_X3_input
  have e : Int32.ofNat q + 3 = Int32.ofNat (q + 3) := bn_add (b := 3)
  have e3 : (300 : Int32) = Int32.ofNat 300 := rfl
  have e1 : Int32.ofNat q + 1 = Int32.ofNat (q + 1) := bn_add (b := 1)
  have e2 : Int32.ofNat q + 2 = Int32.ofNat (q + 2) := bn_add (b := 2)
  rw [d_gR tG, rM, d_gI tM, h1, hi, e, e3]
  by_cases hc : q + 3 ≤ 300
  · have hq : ¬ Int32.ofNat 300 < Int32.ofNat (q + 3) := by rw [bn_lt (by decide) (by omega)]; omega
    obtain ⟨w1, c1, L1, R1, F1⟩ := bt_give (x := x1) hL hr (by omega)
    obtain ⟨w2, c2, L2, R2, F2⟩ := bt_give (x := x2) L1 R1 (by omega)
    obtain ⟨w3, c3, L3, R3, F3⟩ := bt_give (x := x3) L2 R2 (by omega)
    have hml : ch_ml fX3_input = 300 := rfl
    rw [if_neg hq, if_neg hq, d_rc tG, c1, Option.bind_some, d_rc L1.1.1, c2, Option.bind_some, d_rc L2.1.1, c3, Option.bind_some, d_gR L3.1.1, L3.2.2.2.1, d_gI L3.1.2.2.1, R3.1, d_mw (by rw [hml]; omega) (by rw [hml]; decide)]
    dsimp only
    rw [hi, e1, d_mw (by rw [hml]; omega) (by rw [hml]; decide)]
    dsimp only
    rw [hi, e2, d_mw (by rw [hml]; omega) (by rw [hml]; decide), d_mI]
    dsimp only
    rw [hi, e]
    have e7 : va_up σ.1 fX3_inputs (Int32.ofNat (q + 3)) fX3_inputs = Int32.ofNat (q + 3) := by simp [va_up]
    rw [e7]
    refine ⟨_, _, _, rfl, rfl, L3, ⟨q + 1 + 1 + 1, ?_, ?_⟩, (F1.tr F2).tr F3, fun k hk => ?_, fun k hk => ?_⟩
    · have e9 : (va_up (va_up (va_up σ.2 fX3_input (va_up (σ.2 fX3_input) q x1)) fX3_input (va_up ((va_up σ.2 fX3_input (va_up (σ.2 fX3_input) q x1)) fX3_input) (q + 1) x2)) fX3_input (va_up ((va_up (va_up σ.2 fX3_input (va_up (σ.2 fX3_input) q x1)) fX3_input (va_up ((va_up σ.2 fX3_input (va_up (σ.2 fX3_input) q x1)) fX3_input) (q + 1) x2)) fX3_input) (q + 2) x3)) fX3_input = va_up (va_up (va_up (σ.2 fX3_input) q x1) (q + 1) x2) (q + 1 + 1) x3 := by
        simp [va_up]
      show bt_ring G w3 _ _
      exact e9 ▸ R3
    · exact e7
    · simp [va_up, hk]
    · simp [va_up, hk]
  · have hq : Int32.ofNat 300 < Int32.ofNat (q + 3) := by rw [bn_lt (by decide) (by omega)]; omega
    rw [if_pos hq, if_pos hq]
    exact ⟨_, _, _, rfl, rfl, hL, h, ⟨fun _ _ _ => rfl, fun _ => rfl, fun _ => rfl, fun _ _ => rfl, fun _ _ => rfl, rfl⟩, fun _ _ => rfl, fun _ _ => rfl⟩
