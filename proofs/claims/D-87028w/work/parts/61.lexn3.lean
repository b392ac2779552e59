/-! LEVEL B2: the component's next: signs -/
set_option maxRecDepth 100000
/-- the byte behind, 0 at the text's end -/
def lx_bh (f : Nat → Nat) (n p : Nat) : Nat := if p + 1 < n then f (p + 1) else 0
theorem lc_nS {g : State} {w : ch_W} {r S n p fr : Nat} {f : Nat → Nat} (hS : rd_S w r S n f) (hp : ch_gi w r fX4_to = Int32.ofNat p) (hn : p ≤ n) (hfr : lx lx_sp f n p = fr) (hlt : fr < n) (hl : ¬ lx_let (f fr) = true) (hd : ¬ lx_dig (f fr) = true) (hx : r ≠ ch_nx w) (hc1 : ch_cs w + 1 ≤ 601024) (hc2 : ch_sl w + 7 ≤ 7293034) :
    (lx_two (f fr) (lx_bh f n fr) → c_X4_next g r w = some (.ok (), rd_set w r fr (fr + 2) 3)) ∧
    (¬ lx_two (f fr) (lx_bh f n fr) → lx_one (f fr) → c_X4_next g r w = some (.ok (), rd_set w r fr (fr + 1) 3)) ∧
    (¬ lx_two (f fr) (lx_bh f n fr) → ¬ lx_one (f fr) → ∃ w1, c_X4_next g r w = some (.error (ch_nx w), w1) ∧ rd_ref (ch_si (ch_si w r fX4_from (Int32.ofNat fr)) r fX4_to (Int32.ofNat fr)) w1 (ch_nx w) ((-1) - Int32.ofNat fr)) := by
  rw [lc_n0 hS hp hn, hfr]
  have h5 := hS.2.2.2.2.1
  have hS1 := hS.si (k := fX4_from) (v := Int32.ofNat fr) (by decide)
  have i1 : ch_gi (ch_si w r fX4_from (Int32.ofNat fr)) r fX4_from = Int32.ofNat fr := by rw [b_II, if_pos ⟨rfl, rfl⟩]
  have hS2 := hS1.si (k := fX4_to) (v := Int32.ofNat fr) (by decide)
  have i2 : ch_gi (ch_si (ch_si w r fX4_from (Int32.ofNat fr)) r fX4_to (Int32.ofNat fr)) r fX4_from = Int32.ofNat fr := by rw [b_II, if_neg (fun q => absurd q.2 (by decide))]; exact i1
  obtain ⟨h1, h2, h3, h4, -, h6, h7, h8⟩ := id hS2
  have hbx := h8 fr hlt
  have e1 : Int32.ofNat fr + 1 = Int32.ofNat (fr + 1) := bn_add (b := 1)
  have e : ∃ dd : Int32, bx dd (lx_bh f n fr) ∧ c_X4_next_60 g r (ch_si w r fX4_from (Int32.ofNat fr)) = c_X4_next_316 g r dd (ch_gi (ch_si (ch_si w r fX4_from (Int32.ofNat fr)) r fX4_to (Int32.ofNat fr)) S fr) r (ch_si (ch_si w r fX4_from (Int32.ofNat fr)) r fX4_to (Int32.ofNat fr)) := by
    unfold c_X4_next_60
    rw [d_gI hS1.1, i1, d_pI hS1.1, d_gI h1, i2, d_gI h1, h6, if_neg (by rw [bn_eq (by omega) (by omega)]; omega), d_gR h1, h2, d_gI h1, i2, d_lI (Or.inl h3) (by rw [h4]; omega) (by rw [h4]; decide), lc_let hbx, Option.bind_some, if_neg hl, if_pos rfl, lc_dig hbx, Option.bind_some, if_neg hd, if_pos rfl, d_gI h1, i2, d_gI h1, h6, e1]
    unfold lx_bh
    by_cases hq : fr + 1 < n
    · have hq' : Int32.ofNat (fr + 1) < Int32.ofNat n := by rw [bn_lt (by omega) (by omega)]; exact hq
      rw [if_pos hq', d_gR h1, h2, d_gI h1, i2, e1, d_lI (Or.inl h3) (by rw [h4]; omega) (by rw [h4]; decide), if_pos hq]
      exact ⟨_, h8 (fr + 1) hq, rfl⟩
    · have hq' : ¬ Int32.ofNat (fr + 1) < Int32.ofNat n := by rw [bn_lt (by omega) (by omega)]; exact hq
      rw [if_neg hq', if_neg hq]
      exact ⟨0, bx_0, rfl⟩
  obtain ⟨dd, hdd, e⟩ := e
  rw [e]
  unfold c_X4_next_316
  rw [d_rc h1]
  obtain ⟨s1, s2, s3⟩ := lc_sign (g := g) hbx hdd h1 i2
  refine ⟨fun h => ?_, fun h h' => ?_, fun h h' => ?_⟩
  · rw [s1 h]
    show some (Except.ok (), _) = _
    rw [b_comm (by decide), b_twice]
    rfl
  · rw [s2 h h']
    show some (Except.ok (), _) = _
    rw [b_comm (by decide), b_twice]
    rfl
  · obtain ⟨w1, g1, g2⟩ := lc_must0 (g := g) h1 hx i2 hc1 hc2
    refine ⟨w1, ?_, g2⟩
    rw [s3 h h']
    unfold c_X4_sign_177
    rw [d_rc h1, g1]
    rfl
