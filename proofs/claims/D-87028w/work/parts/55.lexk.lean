/-! LEVEL B2: the component's reader: the words that are signs -/
set_option maxRecDepth 100000
def lx_kw : List (List Nat) := [[99, 108, 97, 115, 115], [105, 110, 116], [98, 111, 111, 108], [105, 110, 116, 115], [118, 111, 105, 100], [105, 102], [101, 108, 115, 101], [119, 104, 105, 108, 101], [114, 101, 116, 117, 114, 110], [116, 104, 114, 111, 119], [116, 114, 121], [99, 97, 116, 99, 104], [112, 114, 105, 110, 116], [110, 101, 119], [110, 117, 108, 108], [116, 114, 117, 101], [102, 97, 108, 115, 101], [116, 104, 105, 115], [114, 101, 97, 100], [97, 115], [105, 115]]
theorem ls_S.si {w : ch_W} {a r k : Nat} {l : List Nat} {v : Int32} (h : ls_S w a l) (hr : ch_tg w r = 5) : ls_S (ch_si w r k v) a l := by
  obtain ⟨⟨h1, x, h2, h3, h4, h5⟩, h6, h7⟩ := h
  refine ⟨⟨by rw [b_tI]; exact h1, x, by rw [b_RI]; exact h2, by rw [b_tI]; exact h3, by rw [b_nI]; exact h4, fun j hj => ?_⟩, h6, h7⟩
  rw [b_II, if_neg (fun q => by rw [q.1, hr] at h3; cases h3)]
  exact h5 j hj
/-- WORDS is there -/
def rd_W (g : State) (w : ch_W) : Prop := ∃ aw, ch_stW g = some aw ∧ ch_tg w aw = 60 ∧ ch_ln w aw = 21 ∧ ∀ j : Nat, j < 21 → ∃ a, ch_gr w aw j = some a ∧ ls_S w a (lx_kw.getD j [])
theorem rd_W.si {g : State} {w : ch_W} {r k : Nat} {v : Int32} (h : rd_W g w) (hr : ch_tg w r = 5) : rd_W g (ch_si w r k v) := by
  obtain ⟨aw, h1, h2, h3, h4⟩ := h
  refine ⟨aw, h1, by rw [b_tI]; exact h2, by rw [b_nI]; exact h3, fun j hj => ?_⟩
  obtain ⟨a, g1, g2⟩ := h4 j hj
  exact ⟨a, by rw [b_RI]; exact g1, g2.si hr⟩
theorem lc_words {g : State} {r S n fr tt : Nat} {f : Nat → Nat} (h0 : fr ≤ tt) (hn : tt ≤ n) : ∀ (c : Nat) (w : ch_W) (k : Nat), rd_S w r S n f → rd_W g w → rd_ft w r fr tt → ch_gi w r fX4_kind = 1 → k ≤ 21 → 21 - k ≤ c →
    ∃ kd : Int32, ch_loop (fun (s : Int32 × ch_W) => c_X4_next_163 g r s.1 s.2) (Int32.ofNat k, w) = some (.ok (), ch_si w r fX4_kind kd) ∧ (kd = 1 ∨ kd = 3) ∧ (kd = 3 ↔ ∃ j : Nat, k ≤ j ∧ j < 21 ∧ lx_is f fr tt (lx_kw.getD j [])) := by
  intro c
  have e21 : Int32.ofNat 21 = (21 : Int32) := rfl
  induction c with
  | zero =>
    intro w k hS hW hft hkd hk hc
    obtain ⟨aw, a1, a2, a3, a4⟩ := hW
    refine ⟨1, ?_, Or.inl rfl, ⟨fun q => absurd q (by decide), fun ⟨j, q1, q2, _⟩ => by omega⟩⟩
    rw [b_same hkd]
    refine ch_loop_inr ?_
    show c_X4_next_163 g r (Int32.ofNat k) w = _
    unfold c_X4_next_163
    rw [a1, b_le (Or.inr (by rw [a2])), Option.bind_some, a3, if_neg (by rw [bn_lt (by omega) (by omega)]; omega)]
  | succ c ih =>
    intro w k hS hW hft hkd hk hc
    obtain ⟨aw, a1, a2, a3, a4⟩ := id hW
    by_cases hlt : k < 21
    · obtain ⟨a, g1, g2⟩ := a4 k hlt
      obtain ⟨v, v1, v2, v3⟩ := lc_is (g := g) hS hft g2 h0 hn
      have e1 : Int32.ofNat k + 1 = Int32.ofNat (k + 1) := bn_add (b := 1)
      have hb : c_X4_next_163 g r (Int32.ofNat k) w = if v = 0 then some (.inl (Int32.ofNat (k + 1), ch_si w r fX4_kind 1)) else some (.inl (Int32.ofNat (k + 1), ch_si w r fX4_kind 3)) := by
        unfold c_X4_next_163
        rw [a1, b_le (Or.inr (by rw [a2])), Option.bind_some, a3, if_pos (by rw [bn_lt (by omega) (by omega)]; exact hlt), d_gI hS.1, hkd, if_pos rfl, b_lR (Or.inr (by rw [a2])) (by rw [a3]; exact hlt) (by rw [a3]; decide), Option.bind_some, g1, d_rc hS.1, v1, Option.bind_some, d_pI hS.1, d_pI hS.1, e1]
      rcases v2 with rfl | rfl
      · rw [if_pos rfl, b_same hkd] at hb
        obtain ⟨kd, q1, q2, q3⟩ := ih w (k + 1) hS hW hft hkd (by omega) (by omega)
        refine ⟨kd, (ch_loop_inl hb).trans q1, q2, q3.trans ⟨fun ⟨j, p1, p2, p3⟩ => ⟨j, by omega, p2, p3⟩, fun ⟨j, p1, p2, p3⟩ => ⟨j, ?_, p2, p3⟩⟩⟩
        by_cases hj : j = k
        · subst hj
          exact absurd (v3.mpr p3) (by decide)
        · omega
      · rw [if_neg (by decide)] at hb
        refine ⟨3, (ch_loop_inl hb).trans (ch_loop_inr ?_), Or.inr rfl, ⟨fun _ => ⟨k, Nat.le_refl _, hlt, v3.mp rfl⟩, fun _ => rfl⟩⟩
        show c_X4_next_163 g r (Int32.ofNat (k + 1)) (ch_si w r fX4_kind 3) = _
        unfold c_X4_next_163
        rw [a1, b_le (Or.inr (by rw [b_tI, a2])), Option.bind_some, b_nI, a3]
        by_cases h9 : Int32.ofNat (k + 1) < Int32.ofNat 21
        · have e8 : ch_gi (ch_si w r fX4_kind 3) r fX4_kind = 3 := by rw [b_II, if_pos ⟨rfl, rfl⟩]
          rw [if_pos h9, d_gI (by rw [b_tI]; exact hS.1), e8, if_neg (by decide)]
        · rw [if_neg h9]
    · refine ⟨1, ?_, Or.inl rfl, ⟨fun q => absurd q (by decide), fun ⟨j, q1, q2, _⟩ => by omega⟩⟩
      rw [b_same hkd]
      refine ch_loop_inr ?_
      show c_X4_next_163 g r (Int32.ofNat k) w = _
      unfold c_X4_next_163
      rw [a1, b_le (Or.inr (by rw [a2])), Option.bind_some, a3, if_neg (by rw [bn_lt (by omega) (by omega)]; omega)]
