/-! LEVEL B2: rows of numbers (the component's Row) -/
set_option maxRecDepth 100000
/-- numbers copied from row to row, from 0 on -/
def c_cpd (w : ch_W) (a0 a1 n : Nat) : ch_W := (va_up w.1 a1 (ch_cpO (w.1 a0) (w.1 a1) 0 0 n), w.2)
section RW
variable {w w' : ch_W} {b A q cap n a0 a1 t : Nat} {F : Nat → Int32} {v : Int32}
theorem cp_o {x : Nat} (h : x ≠ a1) : (c_cpd w a0 a1 n).1 x = w.1 x := by
  show va_up _ _ _ x = _
  unfold va_up
  rw [if_neg h]
theorem cp_t {x : Nat} : ch_tg (c_cpd w a0 a1 n) x = ch_tg w x := by
  by_cases h : x = a1
  · rw [h]
    unfold ch_tg c_cpd va_up
    dsimp only
    rw [if_pos rfl]
    rfl
  · exact (b_cell (cp_o h)).1
theorem cp_n {x : Nat} : ch_ln (c_cpd w a0 a1 n) x = ch_ln w x := by
  by_cases h : x = a1
  · rw [h]
    unfold ch_ln c_cpd va_up
    dsimp only
    rw [if_pos rfl]
    rfl
  · exact (b_cell (cp_o h)).2.1
theorem cp_i {k : Nat} : ch_gi (c_cpd w a0 a1 n) a1 k = if k < n then ch_gi w a0 k else ch_gi w a1 k := by
  unfold ch_gi c_cpd va_up
  dsimp only
  rw [if_pos rfl]
  show va_cpy _ _ 0 0 n k = _
  unfold va_cpy
  by_cases h : k < n
  · rw [if_pos ⟨by omega, by omega⟩, if_pos h]
    rw [Nat.zero_add, Nat.sub_zero]
  · rw [if_neg (by omega), if_neg h]
theorem b_cp (h0 : ch_tg w a0 = t) (h1 : ch_tg w a1 = t) (hn0 : n ≤ ch_ln w a0) (hn1 : n ≤ ch_ln w a1) (hn : n < 2 ^ 31) (hf : ∀ i : Nat, i < n → ch_cpf t (ch_gi w a0 i) = true) : ch_cp w t (some a0) 0 (some a1) 0 (Int32.ofNat n) = some (c_cpd w a0 a1 n) := by
  unfold ch_cp c_cpd
  show (if _ then _ else _) = _
  have hz : (0 : Int32).toNatClampNeg = 0 := rfl
  rw [hz, lw_nat hn, if_pos]
  refine ⟨⟨h0, h1, by decide, by decide, bn_nn hn, by omega, by omega⟩, fun i hi => ?_⟩
  rw [Nat.zero_add]
  exact hf i hi
/-- a Row at b: q numbers, in A -/
def rwA (w : ch_W) (b A q cap : Nat) (F : Nat → Int32) : Prop := ch_tg w b = 9 ∧ ch_gr w b fX8_all = some A ∧ ch_gi w b fX8_size = Int32.ofNat q ∧ ch_tg w A = 21 ∧ ch_ln w A = cap ∧ q ≤ cap ∧ 8 ≤ cap ∧ cap < 2 ^ 29 ∧ ∀ k : Nat, k < q → ch_gi w A k = F k
theorem rwA.keep (h : rwA w b A q cap F) (h1 : w'.1 b = w.1 b) (h2 : w'.1 A = w.1 A) : rwA w' b A q cap F := by
  obtain ⟨a1, a2, a3, a4, a5, a6, a7, a8, a9⟩ := h
  obtain ⟨e1, e2, e3, e4, -⟩ := b_cell h1
  obtain ⟨g1, g2, g3, g4, -⟩ := b_cell h2
  exact ⟨by rw [e1]; exact a1, by rw [e4]; exact a2, by rw [e3]; exact a3, by rw [g1]; exact a4, by rw [g2]; exact a5, a6, a7, a8, fun k hk => by rw [g3]; exact a9 k hk⟩
theorem rwA.ne (h : rwA w b A q cap F) : b ≠ A := fun z => by
  have h1 := h.1
  have h4 := h.2.2.2.1
  rw [z] at h1
  omega
def up1 (F : Nat → Int32) (q : Nat) (v : Int32) : Nat → Int32 := fun k => if k = q then v else F k
theorem row_40 (h1 : ch_tg w b = 9) (h2 : ch_gr w b fX8_all = some A) (h3 : ch_gi w b fX8_size = Int32.ofNat q) (h4 : ch_tg w A = 21) (h5 : q < ch_ln w A) (h6 : ch_ln w A < 2 ^ 30) : c_X8_add_40 b v w = some (ch_si (ch_si w A q v) b fX8_size (Int32.ofNat (q + 1))) := by
  have hne : b ≠ A := fun z => by rw [z] at h1; omega
  unfold c_X8_add_40
  rw [d_gR h1, h2, d_gI h1, h3, d_wI h4 h5 (by omega), d_gI (by rw [b_tI]; exact h1), b_II, if_neg (fun z => hne z.1), h3, d_pI (by rw [b_tI]; exact h1)]
  have e : Int32.ofNat q + 1 = Int32.ofNat (q + 1) := bn_add (b := 1)
  rw [e]
theorem row_add (h : rwA w b A q cap F) (hwf : ∀ b, ch_tg w b ≠ 0 → b < ch_nx w) (hc1 : ch_cs w + 1 ≤ 601024) (hc2 : ch_sl w + 2 * cap ≤ 7293034) (hcp : cap < 2 ^ 27) :
    ∃ w' A' cap', c_X8_add b v w = some w' ∧ rwA w' b A' (q + 1) cap' (up1 F q v) ∧ (A' = A ∧ cap' = cap ∧ w'.2 = w.2 ∨ A' = ch_nx w ∧ q = cap ∧ cap' = 2 * cap ∧ w'.2 = (ch_nx w + 1, ch_cs w + 1, ch_sl w + cap')) ∧ (∀ a : Nat, a ≠ b → a ≠ A' → w'.1 a = w.1 a) ∧ ∀ k : Nat, k ≠ fX8_size → ch_gi w' b k = ch_gi w b k := by
  obtain ⟨a1, a2, a3, a4, a5, a6, a7, a8, a9⟩ := id h
  have hne := h.ne
  have hbn := hwf b (by rw [a1]; decide)
  have hAn := hwf A (by rw [a4]; decide)
  unfold c_X8_add
  rw [d_gI a1, a3, d_gR a1, a2, b_le (Or.inl a4), Option.bind_some, a5]
  by_cases hq : q = cap
  · rw [if_pos (show Int32.ofNat q = Int32.ofNat cap by rw [hq]), d_gI a1, a3]
    have e2 : (2 : Int32) * Int32.ofNat q = Int32.ofNat (2 * q) := bn_mul (a := 2)
    rw [e2, d_nA (by omega) hc1 (by omega)]
    have tb : ch_tg (ch_nw w (ch_new 21 (2 * q))) b = 9 := by rw [b_tN, if_neg (by omega)]; exact a1
    have tA : ch_tg (ch_nw w (ch_new 21 (2 * q))) A = 21 := by rw [b_tN, if_neg (by omega)]; exact a4
    have tN : ch_tg (ch_nw w (ch_new 21 (2 * q))) (ch_nx w) = 21 := by rw [b_tN, if_pos rfl]; rfl
    have lN : ch_ln (ch_nw w (ch_new 21 (2 * q))) (ch_nx w) = 2 * q := by rw [b_nN, if_pos rfl]; rfl
    have lA : ch_ln (ch_nw w (ch_new 21 (2 * q))) A = cap := by rw [b_nN, if_neg (by omega)]; exact a5
    rw [d_gR tb, b_RN, if_neg (show ¬ b = ch_nx w by omega), a2, d_gI tb, b_IN, if_neg (show ¬ b = ch_nx w by omega), a3, b_cp tA tN (by omega) (by omega) (by omega) (fun _ _ => rfl), Option.bind_some]
    generalize hw5 : ch_nw w (ch_new 21 (2 * q)) = w5 at *
    have o5 : ∀ x : Nat, x ≠ ch_nx w → w5.1 x = w.1 x := fun x hx => by rw [← hw5]; exact b_oN hx
    have z5 : w5.2 = (ch_nx w + 1, ch_cs w + 1, ch_sl w + 2 * q) := by rw [← hw5]; rfl
    have tb6 : ch_tg (c_cpd w5 A (ch_nx w) q) b = 9 := by rw [cp_t]; exact tb
    rw [d_pR tb6]
    have tb7 : ch_tg (ch_sr (c_cpd w5 A (ch_nx w) q) b fX8_all (some (ch_nx w))) b = 9 := by rw [b_tR]; exact tb6
    have tN7 : ch_tg (ch_sr (c_cpd w5 A (ch_nx w) q) b fX8_all (some (ch_nx w))) (ch_nx w) = 21 := by rw [b_tR, cp_t]; exact tN
    have lN7 : ch_ln (ch_sr (c_cpd w5 A (ch_nx w) q) b fX8_all (some (ch_nx w))) (ch_nx w) = 2 * q := by rw [b_nR, cp_n]; exact lN
    have s7 : ch_gi (ch_sr (c_cpd w5 A (ch_nx w) q) b fX8_all (some (ch_nx w))) b fX8_size = Int32.ofNat q := by
      rw [b_IR, (b_cell (cp_o (show b ≠ ch_nx w by omega))).2.2.1, (b_cell (o5 b (by omega))).2.2.1]
      exact a3
    rw [row_40 (A := ch_nx w) (q := q) tb7 (by rw [b_RR, if_pos ⟨rfl, rfl⟩]) s7 tN7 (by omega) (by omega)]
    refine ⟨_, ch_nx w, 2 * q, rfl, ⟨by rw [b_tI, b_tI]; exact tb7, by rw [b_RI, b_RI, b_RR, if_pos ⟨rfl, rfl⟩], by rw [b_II, if_pos ⟨rfl, rfl⟩], by rw [b_tI, b_tI]; exact tN7, by rw [b_nI, b_nI]; exact lN7, by omega, by omega, by omega, fun k hk => ?_⟩, Or.inr ⟨rfl, hq, by omega, z5⟩, fun a ha1 ha2 => ?_, fun k hk => ?_⟩
    · rw [b_II, if_neg (fun z => by omega), b_II]
      unfold up1
      by_cases hkq : k = q
      · rw [if_pos ⟨rfl, hkq⟩, if_pos hkq]
      · rw [if_neg (fun z => hkq z.2), if_neg hkq, b_IR, cp_i, if_pos (show k < q by omega), (b_cell (o5 A (by omega))).2.2.1]
        exact a9 k (by omega)
    · rw [b_oI ha1, b_oI ha2, b_oR ha1, cp_o ha2, o5 a ha2]
    · rw [b_II, if_neg (fun z => hk z.2), b_II, if_neg (fun z => by omega), b_IR, (b_cell (cp_o (show b ≠ ch_nx w by omega))).2.2.1, (b_cell (o5 b (by omega))).2.2.1]
  · rw [if_neg (fun z => hq ((bn_eq (by omega) (by omega)).mp z)), row_40 a1 a2 a3 a4 (by omega) (by omega)]
    refine ⟨_, A, cap, rfl, ⟨by rw [b_tI, b_tI]; exact a1, by rw [b_RI, b_RI]; exact a2, by rw [b_II, if_pos ⟨rfl, rfl⟩], by rw [b_tI, b_tI]; exact a4, by rw [b_nI, b_nI]; exact a5, by omega, a7, a8, fun k hk => ?_⟩, Or.inl ⟨rfl, rfl, rfl⟩, fun a ha1 ha2 => ?_, fun k hk => ?_⟩
    · rw [b_II, if_neg (fun z => hne z.1.symm), b_II]
      unfold up1
      by_cases hkq : k = q
      · rw [if_pos ⟨rfl, hkq⟩, if_pos hkq]
      · rw [if_neg (fun z => hkq z.2), if_neg hkq]
        exact a9 k (by omega)
    · rw [b_oI ha1, b_oI ha2]
    · rw [b_II, if_neg (fun z => hk z.2), b_II, if_neg (fun z => hne z.1)]
/-- a new Row -/
theorem row_new (hb : ch_tg w b = 9) (hs : ch_gi w b fX8_size = 0) (hbn : b < ch_nx w) (hc1 : ch_cs w + 1 ≤ 601024) (hc2 : ch_sl w + 8 ≤ 7293034) : ∃ w', c_X8_init b w = some w' ∧ rwA w' b (ch_nx w) 0 8 F ∧ w'.2 = (ch_nx w + 1, ch_cs w + 1, ch_sl w + 8) ∧ ∀ a : Nat, a ≠ b → a ≠ ch_nx w → w'.1 a = w.1 a := by
  unfold c_X8_init
  have e8 : (8 : Int32) = Int32.ofNat 8 := rfl
  have tb : ch_tg (ch_nw w (ch_new 21 8)) b = 9 := by rw [b_tN, if_neg (by omega)]; exact hb
  rw [e8, d_nA (by omega) hc1 hc2, d_pR tb]
  refine ⟨_, rfl, ⟨by rw [b_tR]; exact tb, by rw [b_RR, if_pos ⟨rfl, rfl⟩], by rw [b_IR, b_IN, if_neg (by omega)]; exact hs, by rw [b_tR, b_tN, if_pos rfl]; rfl, by rw [b_nR, b_nN, if_pos rfl]; rfl, by omega, by omega, by omega, fun k hk => by omega⟩, rfl, fun a h1 h2 => by rw [b_oR h1, b_oN h2]⟩
theorem row_get (h : rwA w b A q cap F) {k : Nat} (hk : k < q) : c_X8_get b (Int32.ofNat k) w = some (F k) := by
  obtain ⟨a1, a2, a3, a4, a5, a6, a7, a8, a9⟩ := h
  unfold c_X8_get
  rw [d_gR a1, a2, d_lI (Or.inl a4) (by omega) (by omega), a9 k hk]
/-- where v stands first among the q; -1 -/
def fnd (F : Nat → Int32) (v : Int32) : Nat → Nat → Int32
  | 0, _ => -1
  | m + 1, k => if F k = v then Int32.ofNat k else fnd F v m (k + 1)
theorem row_find (h : rwA w b A q cap F) : c_X8_find b v w = some (fnd F v q 0) := by
  obtain ⟨a1, a2, a3, a4, a5, a6, a7, a8, a9⟩ := id h
  have key : ∀ (m k : Nat), k + m = q → ch_loop (fun (s : Int32) => c_X8_find_2 b v s w) (Int32.ofNat k) = some (fnd F v m k) := by
    intro m
    induction m with
    | zero =>
      intro k hk
      refine ch_loop_inr ?_
      unfold c_X8_find_2 c_X8_find_26
      have hl : ¬ Int32.ofNat k < Int32.ofNat q := fun z => by
        have := (bn_lt (by omega) (by omega)).mp z
        omega
      rw [d_gI a1, a3, if_neg hl, d_gI a1, a3, if_neg hl]
      rfl
    | succ m ih =>
      intro k hk
      have hl : Int32.ofNat k < Int32.ofNat q := (bn_lt (by omega) (by omega)).mpr (by omega)
      have e1 : Int32.ofNat k + 1 = Int32.ofNat (k + 1) := bn_add (b := 1)
      have hb : c_X8_find_2 b v (Int32.ofNat k) w = if F k = v then some (.inr (Int32.ofNat k)) else some (.inl (Int32.ofNat (k + 1))) := by
        unfold c_X8_find_2 c_X8_find_26
        rw [d_gI a1, a3, if_pos hl, d_gR a1, a2, d_lI (Or.inl a4) (by omega) (by omega), a9 k (by omega), d_gI a1, a3, if_pos hl, e1]
        rfl
      unfold fnd
      by_cases hv : F k = v
      · rw [if_pos hv] at hb ⊢
        exact ch_loop_inr hb
      · rw [if_neg hv] at hb ⊢
        rw [ch_loop_inl hb]
        exact ih (k + 1) (by omega)
  exact key q 0 (by omega)
end RW
