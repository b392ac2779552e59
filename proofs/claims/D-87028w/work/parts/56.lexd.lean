/-! LEVEL B2: the component's reader: digits; must -/
set_option maxRecDepth 100000
theorem lc_digits {g : State} {r S n : Nat} {f : Nat → Nat} : ∀ (k : Nat) (w : ch_W) (p : Nat), rd_S w r S n f → ch_gi w r fX4_to = Int32.ofNat p → p ≤ n → n - p ≤ k →
    ch_loop (fun (s : ch_W) => c_X4_next_216 g r s) w = c_X4_next_255 g r (ch_si w r fX4_to (Int32.ofNat (lx lx_dig f n p))) := by
  intro k
  induction k with
  | zero =>
    intro w p hS hp hn hk
    have h5 := hS.2.2.2.2.1
    have hb : c_X4_next_216 g r w = (c_X4_next_255 g r w).bind fun q => some (.inr q) := by
      unfold c_X4_next_216
      rw [d_gI hS.1, hp, d_gI hS.1, hS.2.2.2.2.2.1, if_neg (by rw [bn_lt (by omega) (by omega)]; omega)]
    rw [lx_stop (by omega), b_same hp, ch_loop, hb]
    cases c_X4_next_255 g r w <;> rfl
  | succ k ih =>
    intro w p hS hp hn hk
    obtain ⟨h1, h2, h3, h4, h5, h6, h7, h8⟩ := id hS
    by_cases hc : p < n
    · have hbx := h8 p hc
      have e1 : Int32.ofNat p + 1 = Int32.ofNat (p + 1) := bn_add (b := 1)
      have hb : c_X4_next_216 g r w = if lx_dig (f p) = true then some (.inl (ch_si w r fX4_to (Int32.ofNat (p + 1)))) else (c_X4_next_255 g r w).bind fun q => some (.inr q) := by
        unfold c_X4_next_216
        rw [d_gI h1, hp, d_gI h1, h6, if_pos (by rw [bn_lt (by omega) (by omega)]; exact hc), d_gR h1, h2, d_gI h1, hp, d_lI (Or.inl h3) (by rw [h4]; omega) (by rw [h4]; decide), lc_dig hbx, Option.bind_some, d_gI h1, hp, d_pI h1, e1]
        cases hd : lx_dig (f p) <;> simp
      by_cases hs : lx_dig (f p) = true
      · rw [if_pos hs] at hb
        rw [ch_loop_inl hb, ih _ (p + 1) (hS.si (by decide)) (by rw [b_II, if_pos ⟨rfl, rfl⟩]) (by omega) (by omega), b_twice, lx_go ⟨hc, hs⟩]
      · rw [if_neg hs] at hb
        rw [lx_stop (fun q => hs q.2), b_same hp, ch_loop, hb]
        cases c_X4_next_255 g r w <;> rfl
    · have hb : c_X4_next_216 g r w = (c_X4_next_255 g r w).bind fun q => some (.inr q) := by
        unfold c_X4_next_216
        rw [d_gI h1, hp, d_gI h1, h6, if_neg (by rw [bn_lt (by omega) (by omega)]; omega)]
      rw [lx_stop (by omega), b_same hp, ch_loop, hb]
      cases c_X4_next_255 g r w <;> rfl
/-- a Refused with this answer flies: one cell more, what was there stays -/
def rd_ref (w w1 : ch_W) (a : Nat) (z : Int32) : Prop := a = ch_nx w ∧ ch_tg w1 a = 6 ∧ ch_gi w1 a fX5_answer = z ∧ (∀ b : Nat, b ≠ a → w1.1 b = w.1 b) ∧ ch_nx w1 = ch_nx w + 1 ∧ ch_cs w1 = ch_cs w + 1 ∧ ch_sl w1 = ch_sl w + 7
theorem lc_must1 {g : State} {r : Nat} {w : ch_W} : c_X4_must g r 1 w = some (.ok (), w) := by
  unfold c_X4_must
  rw [if_neg (by decide)]
theorem lc_must0 {g : State} {r fr : Nat} {w : ch_W} (hr : ch_tg w r = 5) (hx : r ≠ ch_nx w) (hf : ch_gi w r fX4_from = Int32.ofNat fr) (h1 : ch_cs w + 1 ≤ 601024) (h2 : ch_sl w + 7 ≤ 7293034) : ∃ w1, c_X4_must g r 0 w = some (.error (ch_nx w), w1) ∧ rd_ref w w1 (ch_nx w) ((-1) - Int32.ofNat fr) := by
  unfold c_X4_must
  have t1 : ch_tg (ch_nw w (ch_new 6 7)) r = 5 := by rw [b_tN, if_neg hx]; exact hr
  have i1 : ch_gi (ch_nw w (ch_new 6 7)) r fX4_from = Int32.ofNat fr := by rw [b_IN, if_neg hx]; exact hf
  have t2 : ch_tg (ch_nw w (ch_new 6 7)) (ch_nx w) = 6 := by rw [b_tN, if_pos rfl]; rfl
  have r2 : ch_gr (ch_nw w (ch_new 6 7)) (ch_nx w) 4 = none := by rw [b_RN, if_pos rfl]; rfl
  rw [if_pos rfl, d_nO h1 h2, d_gI t1, i1]
  unfold c_X5_init ch_thr
  have e : (Option.bind (some (ch_nx w)) fun a => if ch_tg (ch_nw w (ch_new 6 7)) a = 6 ∧ ch_gr (ch_nw w (ch_new 6 7)) a 4 = none then some (ch_sr (ch_sr (ch_sr (ch_nw w (ch_new 6 7)) a 0 (some a)) a 1 (ch_stU g)) a 2 (ch_stP g)) else none) = some (ch_sr (ch_sr (ch_sr (ch_nw w (ch_new 6 7)) (ch_nx w) 0 (some (ch_nx w))) (ch_nx w) 1 (ch_stU g)) (ch_nx w) 2 (ch_stP g)) := by
    show (if _ then _ else _) = _
    rw [if_pos ⟨t2, r2⟩]
  rw [e, Option.bind_some, d_pI (by rw [b_tR, b_tR, b_tR]; exact t2), Option.bind_some, Option.bind_some]
  refine ⟨_, rfl, rfl, ?_, ?_, fun b hb => ?_, rfl, rfl, rfl⟩
  · rw [b_tI, b_tR, b_tR, b_tR]; exact t2
  · rw [b_II, if_pos ⟨rfl, rfl⟩]
  · rw [b_oI hb, b_oR hb, b_oR hb, b_oR hb, b_oN hb]
