/-! LEVEL B2: the component's next: digits -/
set_option maxRecDepth 100000
theorem lc_nD {g : State} {w : ch_W} {r S n p fr tt : Nat} {f : Nat → Nat} (hS : rd_S w r S n f) (hp : ch_gi w r fX4_to = Int32.ofNat p) (hn : p ≤ n) (hfr : lx lx_sp f n p = fr) (hlt : fr < n) (hl : lx_dig (f fr) = true) (htt : lx lx_dig f n fr = tt) (hx : r ≠ ch_nx w) (hc1 : ch_cs w + 1 ≤ 601024) (hc2 : ch_sl w + 7 ≤ 7293034) :
    (tt - fr ≤ 9 → c_X4_next g r w = some (.ok (), rd_set w r fr tt 2)) ∧
    (9 < tt - fr → ∃ w1, c_X4_next g r w = some (.error (ch_nx w), w1) ∧ rd_ref (ch_si (ch_si w r fX4_from (Int32.ofNat fr)) r fX4_to (Int32.ofNat tt)) w1 (ch_nx w) ((-1) - Int32.ofNat fr)) := by
  rw [lc_n0 hS hp hn, hfr]
  have h5 := hS.2.2.2.2.1
  have hS1 := hS.si (k := fX4_from) (v := Int32.ofNat fr) (by decide)
  have i1 : ch_gi (ch_si w r fX4_from (Int32.ofNat fr)) r fX4_from = Int32.ofNat fr := by rw [b_II, if_pos ⟨rfl, rfl⟩]
  have hS2 := hS1.si (k := fX4_to) (v := Int32.ofNat fr) (by decide)
  have i2 : ch_gi (ch_si (ch_si w r fX4_from (Int32.ofNat fr)) r fX4_to (Int32.ofNat fr)) r fX4_from = Int32.ofNat fr := by rw [b_II, if_neg (fun q => absurd q.2 (by decide))]; exact i1
  obtain ⟨h1, h2, h3, h4, -, h6, h7, h8⟩ := id hS2
  have hbx := h8 fr hlt
  have hge : fr ≤ tt := by rw [← htt]; exact lx_ge n fr (by omega)
  have hle : tt ≤ n := by rw [← htt]; exact lx_le n fr (by omega) (by omega)
  have hnl : ¬ lx_let (f fr) = true := by
    rw [lx_letI]
    have := lx_digI.mp hl
    omega
  have hS3 := hS1.si (k := fX4_to) (v := Int32.ofNat tt) (by decide)
  have i3 : ch_gi (ch_si (ch_si w r fX4_from (Int32.ofNat fr)) r fX4_to (Int32.ofNat tt)) r fX4_from = Int32.ofNat fr := by rw [b_II, if_neg (fun q => absurd q.2 (by decide))]; exact i1
  have i4 : ch_gi (ch_si (ch_si w r fX4_from (Int32.ofNat fr)) r fX4_to (Int32.ofNat tt)) r fX4_to = Int32.ofNat tt := by rw [b_II, if_pos ⟨rfl, rfl⟩]
  have e : c_X4_next_60 g r (ch_si w r fX4_from (Int32.ofNat fr)) = c_X4_next_255 g r (ch_si (ch_si w r fX4_from (Int32.ofNat fr)) r fX4_to (Int32.ofNat tt)) := by
    unfold c_X4_next_60
    rw [d_gI hS1.1, i1, d_pI hS1.1, d_gI h1, i2, d_gI h1, h6, if_neg (by rw [bn_eq (by omega) (by omega)]; omega), d_gR h1, h2, d_gI h1, i2, d_lI (Or.inl h3) (by rw [h4]; omega) (by rw [h4]; decide), lc_let hbx, Option.bind_some, if_neg hnl, if_pos rfl, lc_dig hbx, Option.bind_some, if_pos hl, if_neg (by decide), lc_digits n _ fr hS2 (by rw [b_II, if_pos ⟨rfl, rfl⟩]) (by omega) (by omega), htt, b_twice]
  rw [e]
  unfold c_X4_next_255 c_X4_next_275
  rw [d_gI hS3.1, i4, d_gI hS3.1, i3, bn_sub hge]
  have e9 : (9 : Int32) = Int32.ofNat 9 := rfl
  rw [e9]
  refine ⟨fun h => ?_, fun h => ?_⟩
  · rw [if_neg (by rw [bn_lt (by decide) (by omega)]; omega), d_rc hS3.1, lc_must1]
    show (ch_pI _ (some r) 5 fX4_kind 2).bind _ = _
    rw [d_pI hS3.1]
    rfl
  · obtain ⟨w1, g1, g2⟩ := lc_must0 (g := g) hS3.1 hx i3 hc1 hc2
    refine ⟨w1, ?_, g2⟩
    rw [if_pos (by rw [bn_lt (by decide) (by omega)]; exact h), d_rc hS3.1, g1]
    rfl
