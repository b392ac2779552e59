/-! LEVEL B2: the component's next, case by case -/
set_option maxRecDepth 100000
def rd_set (w : ch_W) (r fr tt : Nat) (kd : Int32) : ch_W := ch_si (ch_si (ch_si w r fX4_from (Int32.ofNat fr)) r fX4_to (Int32.ofNat tt)) r fX4_kind kd
theorem lc_n0 {g : State} {w : ch_W} {r S n p : Nat} {f : Nat → Nat} (hS : rd_S w r S n f) (hp : ch_gi w r fX4_to = Int32.ofNat p) (hn : p ≤ n) : c_X4_next g r w = c_X4_next_60 g r (ch_si w r fX4_from (Int32.ofNat (lx lx_sp f n p))) := by
  unfold c_X4_next
  rw [d_gI hS.1, hp, d_pI hS.1, lc_next n _ p (hS.si (by decide)) (by rw [b_II, if_pos ⟨rfl, rfl⟩]) hn (by omega), b_twice]
/-- the text's end -/
theorem lc_nE {g : State} {w : ch_W} {r S n p : Nat} {f : Nat → Nat} (hS : rd_S w r S n f) (hp : ch_gi w r fX4_to = Int32.ofNat p) (hn : p ≤ n) (he : lx lx_sp f n p = n) : c_X4_next g r w = some (.ok (), rd_set w r n n 0) := by
  rw [lc_n0 hS hp hn, he]
  have hS1 := hS.si (k := fX4_from) (v := Int32.ofNat n) (by decide)
  have i1 : ch_gi (ch_si w r fX4_from (Int32.ofNat n)) r fX4_from = Int32.ofNat n := by rw [b_II, if_pos ⟨rfl, rfl⟩]
  have hS2 := hS1.si (k := fX4_to) (v := Int32.ofNat n) (by decide)
  have i2 : ch_gi (ch_si (ch_si w r fX4_from (Int32.ofNat n)) r fX4_to (Int32.ofNat n)) r fX4_from = Int32.ofNat n := by rw [b_II, if_neg (fun q => absurd q.2 (by decide))]; exact i1
  unfold c_X4_next_60
  rw [d_gI hS1.1, i1, d_pI hS1.1, d_gI hS2.1, i2, d_gI hS2.1, hS2.2.2.2.2.2.1, if_pos rfl, d_pI hS2.1]
  rfl
/-- a word of letters -/
theorem lc_nL {g : State} {w : ch_W} {r S n p fr tt : Nat} {f : Nat → Nat} (hS : rd_S w r S n f) (hW : rd_W g w) (hp : ch_gi w r fX4_to = Int32.ofNat p) (hn : p ≤ n) (hfr : lx lx_sp f n p = fr) (hlt : fr < n) (hl : lx_let (f fr) = true) (htt : lx lx_aln f n fr = tt) :
    ∃ kd : Int32, c_X4_next g r w = some (.ok (), rd_set w r fr tt kd) ∧ (kd = 1 ∨ kd = 3) ∧ (kd = 3 ↔ ∃ j : Nat, j < 21 ∧ lx_is f fr tt (lx_kw.getD j [])) := by
  rw [lc_n0 hS hp hn, hfr]
  have h5 := hS.2.2.2.2.1
  have hS1 := hS.si (k := fX4_from) (v := Int32.ofNat fr) (by decide)
  have i1 : ch_gi (ch_si w r fX4_from (Int32.ofNat fr)) r fX4_from = Int32.ofNat fr := by rw [b_II, if_pos ⟨rfl, rfl⟩]
  have hS2 := hS1.si (k := fX4_to) (v := Int32.ofNat fr) (by decide)
  have i2 : ch_gi (ch_si (ch_si w r fX4_from (Int32.ofNat fr)) r fX4_to (Int32.ofNat fr)) r fX4_from = Int32.ofNat fr := by rw [b_II, if_neg (fun q => absurd q.2 (by decide))]; exact i1
  obtain ⟨h1, h2, h3, h4, -, h6, h7, h8⟩ := id hS2
  have hbx := h8 fr hlt
  have hge : fr ≤ tt := by rw [← htt]; exact lx_ge n fr (by omega)
  have hle : tt ≤ n := by rw [← htt]; exact lx_le n fr (by omega) (by omega)
  have hS3 := (hS1.si (k := fX4_to) (v := Int32.ofNat tt) (by decide)).si (k := fX4_kind) (v := 1) (by decide)
  have hW3 := (((hW.si (k := fX4_from) (v := Int32.ofNat fr) hS.1).si (k := fX4_to) (v := Int32.ofNat tt) hS1.1)).si (r := r) (k := fX4_kind) (v := 1) (by rw [b_tI]; exact hS1.1)
  obtain ⟨kd, q1, q2, q3⟩ := lc_words (g := g) hge hle 21 _ 0 hS3 hW3 ⟨by rw [b_II, if_neg (fun q => absurd q.2 (by decide)), b_II, if_neg (fun q => absurd q.2 (by decide))]; exact i1, by rw [b_II, if_neg (fun q => absurd q.2 (by decide)), b_II, if_pos ⟨rfl, rfl⟩]⟩ (by rw [b_II, if_pos ⟨rfl, rfl⟩]) (by omega) (by omega)
  refine ⟨kd, ?_, q2, q3.trans ⟨fun ⟨j, _, b, c⟩ => ⟨j, b, c⟩, fun ⟨j, b, c⟩ => ⟨j, Nat.zero_le _, b, c⟩⟩⟩
  unfold c_X4_next_60
  rw [d_gI hS1.1, i1, d_pI hS1.1, d_gI h1, i2, d_gI h1, h6, if_neg (by rw [bn_eq (by omega) (by omega)]; omega), d_gR h1, h2, d_gI h1, i2, d_lI (Or.inl h3) (by rw [h4]; omega) (by rw [h4]; decide), lc_let hbx, Option.bind_some, if_pos hl, if_neg (by decide), lc_alnum n _ fr hS2 (by rw [b_II, if_pos ⟨rfl, rfl⟩]) (by omega) (by omega), htt, b_twice]
  rw [b_twice] at q1
  exact q1
