/-! LEVEL B2: the component's reader: signs, whole -/
set_option maxRecDepth 100000
theorem bx_0 : bx 0 0 := ⟨by decide, rfl⟩
theorem bx_inj {c d : Int32} {x y : Nat} (hc : bx c x) (hd : bx d y) : c = d ↔ x = y := by
  obtain ⟨h1, h2⟩ := hc
  obtain ⟨h3, h4⟩ := hd
  rw [← Int32.toInt_inj, h2, h4]
  split <;> split <;> omega
theorem lc_s177 {g : State} {r fr : Nat} {w : ch_W} {t : Int32} {m : Nat} (hr : ch_tg w r = 5) (hf : ch_gi w r fX4_from = Int32.ofNat fr) (ht : (t = 0 ∧ m = 1) ∨ (t = 1 ∧ m = 2)) : c_X4_sign_177 g r t 1 r w = some (.ok (), ch_si (ch_si w r fX4_kind 3) r fX4_to (Int32.ofNat (fr + m))) := by
  unfold c_X4_sign_177
  have e1 : Int32.ofNat fr + 1 = Int32.ofNat (fr + 1) := bn_add (b := 1)
  have e2 : Int32.ofNat fr + 2 = Int32.ofNat (fr + 2) := bn_add (b := 2)
  have i1 : ch_gi (ch_si w r fX4_kind 3) r fX4_from = Int32.ofNat fr := by rw [b_II, if_neg (fun q => absurd q.2 (by decide))]; exact hf
  have t1 : ch_tg (ch_si w r fX4_kind 3) r = 5 := by rw [b_tI]; exact hr
  rw [d_rc hr, lc_must1]
  show (ch_pI w (some r) 5 fX4_kind 3).bind _ = _
  rw [d_pI hr, d_gI t1, i1, d_pI t1, d_pI t1, e1, e2]
  rcases ht with ⟨rfl, rfl⟩ | ⟨rfl, rfl⟩
  · rw [if_pos rfl]
  · rw [if_neg (by decide)]
/-- SIGN -/
theorem lc_sign {g : State} {r fr : Nat} {w : ch_W} {c d : Int32} {x y : Nat} (hc : bx c x) (hd : bx d y) (hr : ch_tg w r = 5) (hf : ch_gi w r fX4_from = Int32.ofNat fr) :
    (lx_two x y → c_X4_sign g r c d w = some (.ok (), ch_si (ch_si w r fX4_kind 3) r fX4_to (Int32.ofNat (fr + 2)))) ∧
    (¬ lx_two x y → lx_one x → c_X4_sign g r c d w = some (.ok (), ch_si (ch_si w r fX4_kind 3) r fX4_to (Int32.ofNat (fr + 1)))) ∧
    (¬ lx_two x y → ¬ lx_one x → c_X4_sign g r c d w = c_X4_sign_177 g r 0 0 r w) := by
  have d61 : d = 61 ↔ y = 61 := bx_eq (y := 61) hd (by decide)
  have c61 : c = 61 ↔ x = 61 := bx_eq (y := 61) hc (by decide)
  have c33 : c = 33 ↔ x = 33 := bx_eq (y := 33) hc (by decide)
  have c60 : c = 60 ↔ x = 60 := bx_eq (y := 60) hc (by decide)
  have c38 : c = 38 ↔ x = 38 := bx_eq (y := 38) hc (by decide)
  have c124 : c = 124 ↔ x = 124 := bx_eq (y := 124) hc (by decide)
  have cd := bx_inj hc hd
  have h41 : c_X4_sign_41 g r c w = some (.ok (), ch_si (ch_si w r fX4_kind 3) r fX4_to (Int32.ofNat (fr + 2))) := by
    unfold c_X4_sign_41
    rcases lc_s46 (g := g) (r := r) (w := w) (y := 1) hc with ⟨-, e⟩ | ⟨-, e⟩
    · rw [e]; unfold c_X4_sign_155 c_X4_sign_160 c_X4_sign_172; rw [if_neg (by decide)]; exact lc_s177 hr hf (Or.inr ⟨rfl, rfl⟩)
    · rw [e]; unfold c_X4_sign_160 c_X4_sign_172; rw [if_neg (by decide)]; exact lc_s177 hr hf (Or.inr ⟨rfl, rfl⟩)
  have hsel : c_X4_sign g r c d w = if (y = 61 ∧ (x = 61 ∨ x = 33 ∨ x = 60)) ∨ (x = y ∧ (x = 38 ∨ x = 124)) then c_X4_sign_41 g r c w else c_X4_sign_45 g r c w := by
    unfold c_X4_sign c_X4_sign_24
    simp only [d61, c61, c33, c60, c38, c124, cd]
    by_cases q1 : y = 61 <;> by_cases q2 : x = 61 <;> by_cases q3 : x = 33 <;> by_cases q4 : x = 60 <;> by_cases q5 : x = y <;> by_cases q6 : x = 38 <;> by_cases q7 : x = 124 <;> simp_all
  refine ⟨fun h => ?_, fun h1 h2 => ?_, fun h1 h2 => ?_⟩
  · unfold lx_two at h
    rw [hsel, if_pos h, h41]
  · unfold lx_two at h1
    rw [hsel, if_neg h1]
    unfold c_X4_sign_45
    rcases lc_s46 (g := g) (r := r) (w := w) (y := 0) hc with ⟨-, e⟩ | ⟨e0, -⟩
    · rw [e]; unfold c_X4_sign_155 c_X4_sign_160 c_X4_sign_172; rw [if_pos rfl, if_neg (by decide)]; exact lc_s177 hr hf (Or.inl ⟨rfl, rfl⟩)
    · exact absurd h2 e0
  · unfold lx_two at h1
    rw [hsel, if_neg h1]
    unfold c_X4_sign_45
    rcases lc_s46 (g := g) (r := r) (w := w) (y := 0) hc with ⟨e0, -⟩ | ⟨-, e⟩
    · exact absurd e0 h2
    · rw [e]; unfold c_X4_sign_160; rw [if_pos rfl, if_pos rfl]
