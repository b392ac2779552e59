/-! LEVEL B2: expressions of both sides: simple ones -/
set_option maxRecDepth 100000
section EX
variable {g : State} {P r L S n C1 C2 : Nat} {f : Nat → Nat} {w w' : ch_W} {σ : ch_S} {tc fr tt op om ps : Nat} {rc : Nat → Int32 → Int32 → Int32 → ch_S → Option (Int32 × ch_S)}
theorem mfr_num (h : pjM n f σ tc fr tt om) (ht : lx_tk f n tc fr tt) (hq : tc = 2) : m_X3_first rc σ = (m_X3_next σ).bind fun p => m_X3_node 0 0 0 (Int32.ofNat (lx_num f fr (tt - fr))) p := by
  have hw := (ms_word h ht).2.1.mpr hq
  unfold m_X3_first
  rw [h.2.2.1, if_pos bn_m1, if_pos hw, (h.2.1.2.2.2.2.2.1 hq).2]
  simp only [pe_id]
theorem mfr_fail (h : pjM n f σ tc fr tt om) (ht : lx_tk f n tc fr tt) (h1 : tc ≠ 1) (h2 : tc ≠ 2) (h3 : tc ≠ 1040) (h4 : tc < 2014 ∨ 2019 < tc) : m_X3_first rc σ = some (-1, dz σ fr) := by
  have hw := ms_word h ht
  have s1 : m_X3_isSign 40 σ = _ := ms_sign (c := 40) h ht (by decide)
  have hf : m_X3_first_134 rc σ = some (-1, dz σ fr) := by
    unfold m_X3_first_134
    rw [ms_fails h.2.2.1 h.2.1.1]
    rfl
  unfold m_X3_first
  rw [h.2.2.1, if_pos bn_m1, if_neg (fun z => h2 (hw.2.1.mp z)), if_neg (fun z => h1 (hw.1.mp z)), s1, Option.bind_some, if_neg h3, if_pos rfl, hf]
  by_cases h5 : 2000 ≤ tc
  · obtain ⟨v1, v2⟩ := h.2.1.2.2.2.2.2.2.2 h5
    have hb := ht.rng
    have e1 : m_X3_isIn (Int32.ofNat (tc - 2000)).toInt64 14 19 σ = _ := lm_in (x := tc - 2000) (a := 14) (b := 19) (by omega) (by decide) (by decide)
    rw [if_pos v1, v2, e1, Option.bind_some, if_neg (show ¬ (14 ≤ tc - 2000 ∧ tc - 2000 ≤ 19) by omega), if_pos rfl]
  · rw [if_neg (fun z => h5 (hw.2.2.1.mp z))]
theorem mfr_null (h : pjM n f σ tc fr tt om) (ht : lx_tk f n tc fr tt) (hq : tc = 2015) : m_X3_first rc σ = (m_X3_next σ).bind fun p => m_X3_node 1 0 0 0 p := by
  have hw := ms_word h ht
  have s1 : m_X3_isSign 40 σ = _ := ms_sign (c := 40) h ht (by decide)
  obtain ⟨v1, v2⟩ := h.2.1.2.2.2.2.2.2.2 (by omega)
  have v3 : σ.1 fX3_wordValue = 15 := by rw [v2, hq]; rfl
  have e1 : m_X3_isIn ((15 : Int32)).toInt64 14 19 σ = _ := lm_in (x := 15) (a := 14) (b := 19) (by decide) (by decide) (by decide)
  unfold m_X3_first
  rw [h.2.2.1, if_pos bn_m1, if_neg (fun z => absurd (hw.2.1.mp z) (by omega)), if_neg (fun z => absurd (hw.1.mp z) (by omega)), s1, Option.bind_some, if_neg (show ¬ tc = 1040 by omega), if_pos rfl, if_pos v1, v3, e1, Option.bind_some, if_pos (show 14 ≤ 15 ∧ 15 ≤ 19 by decide), if_neg (by decide)]
  cases m_X3_next σ with
  | none => rfl
  | some p =>
    rw [Option.bind_some, Option.bind_some, if_neg (by decide), if_pos rfl, pe_id]
theorem mfr_this (h : pjM n f σ tc fr tt om) (ht : lx_tk f n tc fr tt) (hq : tc = 2018) : m_X3_first rc σ = (m_X3_next σ).bind fun p => m_X3_node 2 0 0 0 p := by
  have hw := ms_word h ht
  have s1 : m_X3_isSign 40 σ = _ := ms_sign (c := 40) h ht (by decide)
  obtain ⟨v1, v2⟩ := h.2.1.2.2.2.2.2.2.2 (by omega)
  have v3 : σ.1 fX3_wordValue = 18 := by rw [v2, hq]; rfl
  have e1 : m_X3_isIn ((18 : Int32)).toInt64 14 19 σ = _ := lm_in (x := 18) (a := 14) (b := 19) (by decide) (by decide) (by decide)
  unfold m_X3_first
  rw [h.2.2.1, if_pos bn_m1, if_neg (fun z => absurd (hw.2.1.mp z) (by omega)), if_neg (fun z => absurd (hw.1.mp z) (by omega)), s1, Option.bind_some, if_neg (show ¬ tc = 1040 by omega), if_pos rfl, if_pos v1, v3, e1, Option.bind_some, if_pos (show 14 ≤ 18 ∧ 18 ≤ 19 by decide), if_neg (by decide)]
  cases m_X3_next σ with
  | none => rfl
  | some p =>
    rw [Option.bind_some, Option.bind_some, if_neg (by decide), if_neg (by decide), if_pos rfl, pe_id]
theorem mfr_read (h : pjM n f σ tc fr tt om) (ht : lx_tk f n tc fr tt) (hq : tc = 2019) : m_X3_first rc σ = (m_X3_next σ).bind fun p => m_X3_node 3 0 0 0 p := by
  have hw := ms_word h ht
  have s1 : m_X3_isSign 40 σ = _ := ms_sign (c := 40) h ht (by decide)
  obtain ⟨v1, v2⟩ := h.2.1.2.2.2.2.2.2.2 (by omega)
  have v3 : σ.1 fX3_wordValue = 19 := by rw [v2, hq]; rfl
  have e1 : m_X3_isIn ((19 : Int32)).toInt64 14 19 σ = _ := lm_in (x := 19) (a := 14) (b := 19) (by decide) (by decide) (by decide)
  unfold m_X3_first
  rw [h.2.2.1, if_pos bn_m1, if_neg (fun z => absurd (hw.2.1.mp z) (by omega)), if_neg (fun z => absurd (hw.1.mp z) (by omega)), s1, Option.bind_some, if_neg (show ¬ tc = 1040 by omega), if_pos rfl, if_pos v1, v3, e1, Option.bind_some, if_pos (show 14 ≤ 19 ∧ 19 ≤ 19 by decide), if_neg (by decide)]
  cases m_X3_next σ with
  | none => rfl
  | some p =>
    rw [Option.bind_some, Option.bind_some, if_neg (by decide), if_neg (by decide), if_neg (by decide), if_pos rfl, pe_id]
theorem mfr_true (h : pjM n f σ tc fr tt om) (ht : lx_tk f n tc fr tt) (hq : tc = 2016) : m_X3_first rc σ = (m_X3_next σ).bind fun p => m_X3_node 21 0 0 1 p := by
  have hw := ms_word h ht
  have s1 : m_X3_isSign 40 σ = _ := ms_sign (c := 40) h ht (by decide)
  obtain ⟨v1, v2⟩ := h.2.1.2.2.2.2.2.2.2 (by omega)
  have v3 : σ.1 fX3_wordValue = 16 := by rw [v2, hq]; rfl
  have e1 : m_X3_isIn ((16 : Int32)).toInt64 14 19 σ = _ := lm_in (x := 16) (a := 14) (b := 19) (by decide) (by decide) (by decide)
  unfold m_X3_first
  rw [h.2.2.1, if_pos bn_m1, if_neg (fun z => absurd (hw.2.1.mp z) (by omega)), if_neg (fun z => absurd (hw.1.mp z) (by omega)), s1, Option.bind_some, if_neg (show ¬ tc = 1040 by omega), if_pos rfl, if_pos v1, v3, e1, Option.bind_some, if_pos (show 14 ≤ 16 ∧ 16 ≤ 19 by decide), if_neg (by decide)]
  cases m_X3_next σ with
  | none => rfl
  | some p =>
    rw [Option.bind_some, Option.bind_some, if_neg (by decide), if_neg (by decide), if_neg (by decide), if_neg (by decide), if_pos rfl]
    unfold m_X3_first_289
    rw [pe_id]
theorem mfr_false (h : pjM n f σ tc fr tt om) (ht : lx_tk f n tc fr tt) (hq : tc = 2017) : m_X3_first rc σ = (m_X3_next σ).bind fun p => m_X3_node 21 0 0 0 p := by
  have hw := ms_word h ht
  have s1 : m_X3_isSign 40 σ = _ := ms_sign (c := 40) h ht (by decide)
  obtain ⟨v1, v2⟩ := h.2.1.2.2.2.2.2.2.2 (by omega)
  have v3 : σ.1 fX3_wordValue = 17 := by rw [v2, hq]; rfl
  have e1 : m_X3_isIn ((17 : Int32)).toInt64 14 19 σ = _ := lm_in (x := 17) (a := 14) (b := 19) (by decide) (by decide) (by decide)
  unfold m_X3_first
  rw [h.2.2.1, if_pos bn_m1, if_neg (fun z => absurd (hw.2.1.mp z) (by omega)), if_neg (fun z => absurd (hw.1.mp z) (by omega)), s1, Option.bind_some, if_neg (show ¬ tc = 1040 by omega), if_pos rfl, if_pos v1, v3, e1, Option.bind_some, if_pos (show 14 ≤ 17 ∧ 17 ≤ 19 by decide), if_neg (by decide)]
  cases m_X3_next σ with
  | none => rfl
  | some p =>
    rw [Option.bind_some, Option.bind_some, if_neg (by decide), if_neg (by decide), if_neg (by decide), if_neg (by decide), if_neg (by decide)]
    unfold m_X3_first_289
    rw [pe_id]
theorem lc_215 {a : Nat} (hr : ch_tg w r = 5) : c_X4_simple_215 g r (some a) w = ch_tb (c_X4_next g r w) (fun a w => (Except.error a, w)) (fun _ w3 => some (Except.ok (some a), w3)) := by
  unfold c_X4_simple_215
  rw [d_rc hr]
/-- the number -/
theorem lc_82 (h : pj g P r L S n f C1 C2 w σ tc fr tt op om ps) (hq : tc = 2) : ∀ (c i : Nat), (tt - fr) - i ≤ c → i ≤ tt - fr → ch_loop (fun (s : Int32 × Int32) => c_X4_simple_82 g r s.1 s.2 w) (Int32.ofNat (lx_num f fr i), Int32.ofNat (fr + i)) = ((ch_nO w 11 6).bind fun w2 => (c_X10_init (ch_nx w) 0 (Int32.ofNat (lx_num f fr (tt - fr))) w2).bind fun p3 => c_X4_simple_215 g r (some (ch_nx w)) p3) := by
  obtain ⟨s1, s2, s3, s4, s5, s6, s7, s8⟩ := h.1.2.2.2.2.2.2.1.1
  have hft := h.1.2.2.2.2.2.2.1.2.1
  have htk := h.1.2.2.2.2.2.2.1.2.2.2
  have hn := htk.2.1
  have hlt := htk.lt (by omega)
  have hdg : ∀ i : Nat, fr ≤ i → i < tt → lx_dig (f i) = true := by
    obtain ⟨t1, t2, t | t | t | t | t | t⟩ := htk
    · omega
    · omega
    · obtain ⟨-, -, -, t3, -⟩ := t
      rw [← t3]
      exact lx_all n fr (by omega)
    · omega
    · omega
    · obtain ⟨j, j1, j2, -⟩ := t
      omega
  have fin : ∀ i : Nat, i = tt - fr → ch_loop (fun (s : Int32 × Int32) => c_X4_simple_82 g r s.1 s.2 w) (Int32.ofNat (lx_num f fr i), Int32.ofNat (fr + i)) = ((ch_nO w 11 6).bind fun w2 => (c_X10_init (ch_nx w) 0 (Int32.ofNat (lx_num f fr (tt - fr))) w2).bind fun p3 => c_X4_simple_215 g r (some (ch_nx w)) p3) := by
    intro i hi
    rw [lp_eq]
    show (c_X4_simple_82 g r (Int32.ofNat (lx_num f fr i)) (Int32.ofNat (fr + i)) w).bind _ = _
    unfold c_X4_simple_82
    rw [d_gI s1, hft.2, if_neg (by rw [bn_lt (by omega) (by omega)]; omega), hi]
    cases ch_nO w 11 6 with
    | none => rfl
    | some w2 =>
      rw [Option.bind_some, Option.bind_some]
      cases c_X10_init (ch_nx w) 0 (Int32.ofNat (lx_num f fr (tt - fr))) w2 with
      | none => rfl
      | some p3 =>
        rw [Option.bind_some, Option.bind_some]
        cases c_X4_simple_215 g r (some (ch_nx w)) p3 <;> rfl
  intro c
  induction c with
  | zero => intro i h1 h2; exact fin i (by omega)
  | succ c ih =>
    intro i h1 h2
    by_cases hi : i = tt - fr
    · exact fin i hi
    · have hd9 := lx_digI.mp (hdg (fr + i) (by omega) (by omega))
      have hb9 : ch_gi w S (fr + i) = Int32.ofNat (f (fr + i)) := (bx_eq (s8 (fr + i) (by omega)) (by omega)).mpr rfl
      have e1 : Int32.ofNat (fr + i) + 1 = Int32.ofNat (fr + (i + 1)) := bn_add (b := 1)
      have e2 : 10 * Int32.ofNat (lx_num f fr i) = Int32.ofNat (10 * lx_num f fr i) := bn_mul (a := 10)
      have e3 : Int32.ofNat (10 * lx_num f fr i + f (fr + i)) - 48 = Int32.ofNat (10 * lx_num f fr i + f (fr + i) - 48) := bn_sub (b := 48) (by omega)
      have e4 : 10 * lx_num f fr i + f (fr + i) - 48 = lx_num f fr (i + 1) := by rw [lx_num]; omega
      have hb : c_X4_simple_82 g r (Int32.ofNat (lx_num f fr i)) (Int32.ofNat (fr + i)) w = some (.inl (Int32.ofNat (lx_num f fr (i + 1)), Int32.ofNat (fr + (i + 1)))) := by
        unfold c_X4_simple_82
        rw [d_gI s1, hft.2, if_pos (by rw [bn_lt (by omega) (by omega)]; omega), d_gR s1, s2, b_lI (Or.inl s3) (by omega) (by omega), Option.bind_some, hb9, e2, bn_add, e3, e4, e1]
      rw [ch_loop_inl hb]
      exact ih (i + 1) (by omega) (by omega)
/-- SIMPLE -/
theorem po_simple (h : pj g P r L S n f C1 C2 w σ tc fr tt op op fr) (hn31 : n < 2 ^ 31) (h1 : tc ≠ 1) (h2 : tc ≠ 1040) (h3 : tc ≠ 2014) : po P n C1 C2 0 w σ fr (c_X4_simple g r w) (m_X3_first rc σ) (vQ g P r L S n f C1 C2 op w σ fr) := by
  obtain ⟨s1, s2, s3, s4, s5, s6, s7, s8⟩ := h.1.2.2.2.2.2.2.1.1
  have hkd := h.1.2.2.2.2.2.2.1.2.2.1
  have htk := h.1.2.2.2.2.2.2.1.2.2.2
  have hat := h.1.2.2.2.2.2.2.1
  have hft := hat.2.1
  obtain ⟨r1, r2⟩ := pjC_room h htk.1
  have iT := it_349 hat h.1.1
  have iF := it_351 hat h.1.1
  have iN := it_353 hat h.1.1
  have iS := it_355 hat h.1.1
  have iR := it_357 hat h.1.1
  have kd2 : lx_kd tc = 2 ↔ tc = 2 := by
    unfold lx_kd
    by_cases z0 : tc = 0
    · rw [if_pos z0]; constructor
      · intro q; exact absurd q (by decide)
      · intro q; omega
    · rw [if_neg z0, if_neg h1]
      by_cases z2 : tc = 2
      · rw [if_pos z2]; exact ⟨fun _ => z2, fun _ => rfl⟩
      · rw [if_neg z2]; exact ⟨fun q => absurd q (by decide), fun q => absurd q z2⟩
  unfold c_X4_simple
  rw [d_gI s1, hkd]
  by_cases z2 : tc = 2
  · rw [if_pos (kd2.mpr z2)]
    unfold c_X4_simple_59 c_X4_simple_64
    rw [d_rc s1, lc_must1]
    show po P n C1 C2 0 w σ fr ((ch_gI w (some r) 5 fX4_kind).bind _) _ _
    rw [d_gI s1, hkd, if_pos (kd2.mpr z2), d_gI s1, hft.1]
    have e := lc_82 (g := g) h z2 (tt - fr) 0 (by omega) (by omega)
    rw [Nat.add_zero] at e
    show po P n C1 C2 0 w σ fr (ch_loop (fun (s : Int32 × Int32) => c_X4_simple_82 g r s.1 s.2 w) (Int32.ofNat (lx_num f fr 0), Int32.ofNat fr)) _ _
    rw [e, mfr_num h.2.1 htk z2]
    obtain ⟨w', e1, e2⟩ := lc_val (w := w) (k := 0) (x := Int32.ofNat (lx_num f fr (tt - fr))) (F := fun p3 => c_X4_simple_215 g r (some (ch_nx w)) p3) (by omega) (by omega)
    rw [e1, lc_215 (by
      have := pj_alloc h (by omega) e2.1 e2.2.1 (by decide)
      exact this.1.1.2.2.2.2.2.2.1.1.1)]
    exact po_leaf h (by omega) e2 hn31 (fun w' σ' a m y1 y2 y3 y4 y5 => Or.inl ⟨y1, y4, y3, by rw [y2, y5]⟩)
  · rw [if_neg (fun z => z2 (kd2.mp z)), d_rc s1, iT, Option.bind_some]
    have step : ∀ (kd wh : Int32) (nm : Nat), True := fun _ _ _ => trivial
    have s59 : c_X4_simple_59 g r r w = (if tc = 2016 then c_X4_simple_144 g r w else if tc = 2017 then c_X4_simple_144 g r w else (ch_nO w 11 6).bind fun w11 => (ch_rc w11 (some r) 5).bind fun _ => (c_X4_isThe g r (some (ch_sa g RX4 353)) w11).bind fun v13 => if v13 = 0 then ((ch_rc w11 (some r) 5).bind fun _ => (c_X4_isThe g r (some (ch_sa g RX4 355)) w11).bind fun v16 => if v16 = 0 then (c_X4_simple_210 g r 3 (ch_nx w) (ch_nx w) w11) else (c_X4_simple_210 g r 2 (ch_nx w) (ch_nx w) w11)) else (c_X4_simple_210 g r 1 (ch_nx w) (ch_nx w) w11)) := by
      unfold c_X4_simple_59 c_X4_simple_64
      rw [d_rc s1, lc_must1]
      show (ch_gI w (some r) 5 fX4_kind).bind _ = _
      rw [d_gI s1, hkd, if_neg (fun z => z2 (kd2.mp z)), d_rc s1, iT, Option.bind_some]
      by_cases q1 : tc = 2016
      · rw [if_pos q1, if_neg (by decide), if_pos q1]
      · rw [if_neg q1, if_pos rfl, if_neg q1, d_rc s1, iF, Option.bind_some]
        by_cases q2 : tc = 2017
        · rw [if_pos q2, if_neg (by decide), if_pos q2]
        · rw [if_neg q2, if_pos rfl, if_neg q2]
    have hnw : ∀ (a : Nat), a ≠ ch_nx w → (ch_nw w (ch_new 11 6)).1 a = w.1 a := fun a ha => b_oN ha
    have hal := fun (h0 : tc ≠ 0) => (pj_alloc h h0 hnw (show (ch_nw w (ch_new 11 6)).2 = (ch_nx w + 1, ch_cs w + 1, ch_sl w + 6) from rfl) (by decide)).1
    have bools : ∀ v : Int32, (v = 0 ∨ v = 1) → tc ≠ 0 → (c_X4_isThe g r (some (ch_sa g RX4 349)) (ch_nw w (ch_new 11 6)) = some v) → c_X4_simple_144 g r w = (ch_nO w 11 6).bind fun w1 => (c_X10_init (ch_nx w) 0 v w1).bind fun p1 => (ch_pI p1 (some (ch_nx w)) 11 fX10_type (-2)).bind fun w3 => c_X4_simple_215 g r (some (ch_nx w)) w3 := by
      intro v hv h0 hi
      unfold c_X4_simple_144
      rw [d_nO (by omega) (by omega), d_nO (by omega) (by omega), d_rc (hal h0).1.2.2.2.2.2.2.1.1.1, hi, Option.bind_some]
      unfold c_X4_simple_164
      rcases hv with rfl | rfl
      · rw [if_pos rfl]
      · rw [if_neg (by decide)]
    have boolp : ∀ v : Int32, (v = 0 ∨ v = 1) → tc ≠ 0 → m_X3_first rc σ = ((m_X3_next σ).bind fun p => m_X3_node 21 0 0 v p) → (c_X4_isThe g r (some (ch_sa g RX4 349)) (ch_nw w (ch_new 11 6)) = some v) → po P n C1 C2 0 w σ fr (c_X4_simple_144 g r w) (m_X3_first rc σ) (vQ g P r L S n f C1 C2 op w σ fr) := by
      intro v hv h0 hm hi
      rw [bools v hv h0 hi, hm]
      obtain ⟨w', e1, e2⟩ := lc_val (w := w) (k := 0) (x := v) (F := fun p1 => (ch_pI p1 (some (ch_nx w)) 11 fX10_type (-2)).bind fun w3 => c_X4_simple_215 g r (some (ch_nx w)) w3) (by omega) (by omega)
      obtain ⟨v1, v2, v3, v4, v5, v6, v7, v8, v9⟩ := e2
      rw [e1, d_pI v3]
      have e3 : vn w (ch_si w' (ch_nx w) fX10_type (-2)) 0 v (-2) none none none := ⟨fun a ha => by rw [b_oI ha]; exact v1 a ha, v2, by rw [b_tI]; exact v3, by rw [b_II, if_neg (fun q => absurd q.2 (by decide))]; exact v4, by rw [b_II, if_neg (fun q => absurd q.2 (by decide))]; exact v5, by rw [b_II, if_pos ⟨rfl, rfl⟩], by rw [b_RI]; exact v7, by rw [b_RI]; exact v8, by rw [b_RI]; exact v9⟩
      rw [lc_215 (by
        have := pj_alloc h h0 e3.1 e3.2.1 (by decide)
        exact this.1.1.2.2.2.2.2.2.1.1.1)]
      refine po_leaf h h0 e3 hn31 (fun w' σ' a m y1 y2 y3 y4 y5 => Or.inr (Or.inl ⟨y1, y4, y3, by rw [y2, y5], ?_⟩))
      rw [y5]; exact hv
    have plain : ∀ (kd is : Int32), tc ≠ 0 → m_X3_first rc σ = ((m_X3_next σ).bind fun p => m_X3_node is 0 0 0 p) → ((kd = 1 ∧ is = 1) ∨ (kd = 2 ∧ is = 2) ∨ (kd = 3 ∧ is = 3)) → po P n C1 C2 0 w σ fr ((ch_nO w 11 6).bind fun w11 => c_X4_simple_210 g r kd (ch_nx w) (ch_nx w) w11) (m_X3_first rc σ) (vQ g P r L S n f C1 C2 op w σ fr) := by
      intro kd is h0 hm hk
      unfold c_X4_simple_210
      obtain ⟨w', e1, e2⟩ := lc_val (w := w) (k := kd) (x := 0) (F := fun p1 => c_X4_simple_215 g r (some (ch_nx w)) p1) (by omega) (by omega)
      rw [e1, hm, lc_215 (by
        have := pj_alloc h h0 e2.1 e2.2.1 (by decide)
        exact this.1.1.2.2.2.2.2.2.1.1.1)]
      refine po_leaf h h0 e2 hn31 (fun w' σ' a m y1 y2 y3 y4 y5 => ?_)
      rcases hk with ⟨rfl, rfl⟩ | ⟨rfl, rfl⟩ | ⟨rfl, rfl⟩
      · exact Or.inr (Or.inr (Or.inl ⟨y1, y4⟩))
      · exact Or.inr (Or.inr (Or.inr (Or.inl ⟨y1, y4⟩)))
      · exact Or.inr (Or.inr (Or.inr (Or.inr (Or.inl ⟨y1, y4⟩))))
    by_cases q1 : tc = 2016
    · rw [if_pos q1, if_neg (by decide), s59, if_pos q1]
      exact boolp 1 (Or.inr rfl) (by omega) (mfr_true h.2.1 htk q1) (by rw [it_349 (hal (by omega)).1.2.2.2.2.2.2.1 (hal (by omega)).1.1, if_pos q1])
    rw [if_neg q1, if_pos rfl, d_rc s1, iF, Option.bind_some]
    by_cases q2 : tc = 2017
    · rw [if_pos q2, if_neg (by decide), s59, if_neg q1, if_pos q2]
      exact boolp 0 (Or.inl rfl) (by omega) (mfr_false h.2.1 htk q2) (by rw [it_349 (hal (by omega)).1.2.2.2.2.2.2.1 (hal (by omega)).1.1, if_neg q1])
    rw [if_neg q2, if_pos rfl, d_rc s1, iN, Option.bind_some]
    by_cases q3 : tc = 2015
    · rw [if_pos q3, if_neg (by decide), s59, if_neg q1, if_neg q2]
      have := plain 1 1 (by omega) (mfr_null h.2.1 htk q3) (Or.inl ⟨rfl, rfl⟩)
      rw [d_nO (by omega) (by omega)] at this
      rw [d_nO (by omega) (by omega), d_rc (hal (by omega)).1.2.2.2.2.2.2.1.1.1, it_353 (hal (by omega)).1.2.2.2.2.2.2.1 (hal (by omega)).1.1, Option.bind_some, if_pos q3, if_neg (by decide)]
      exact this
    rw [if_neg q3, if_pos rfl, d_rc s1, iS, Option.bind_some]
    by_cases q4 : tc = 2018
    · rw [if_pos q4, if_neg (by decide), s59, if_neg q1, if_neg q2]
      have := plain 2 2 (by omega) (mfr_this h.2.1 htk q4) (Or.inr (Or.inl ⟨rfl, rfl⟩))
      rw [d_nO (by omega) (by omega)] at this
      rw [d_nO (by omega) (by omega), d_rc (hal (by omega)).1.2.2.2.2.2.2.1.1.1, it_353 (hal (by omega)).1.2.2.2.2.2.2.1 (hal (by omega)).1.1, Option.bind_some, if_neg q3, if_pos rfl, d_rc (hal (by omega)).1.2.2.2.2.2.2.1.1.1, it_355 (hal (by omega)).1.2.2.2.2.2.2.1 (hal (by omega)).1.1, Option.bind_some, if_pos q4, if_neg (by decide)]
      exact this
    rw [if_neg q4, if_pos rfl, d_rc s1, iR, Option.bind_some]
    by_cases q5 : tc = 2019
    · rw [if_pos q5, if_neg (by decide), s59, if_neg q1, if_neg q2]
      have := plain 3 3 (by omega) (mfr_read h.2.1 htk q5) (Or.inr (Or.inr ⟨rfl, rfl⟩))
      rw [d_nO (by omega) (by omega)] at this
      rw [d_nO (by omega) (by omega), d_rc (hal (by omega)).1.2.2.2.2.2.2.1.1.1, it_353 (hal (by omega)).1.2.2.2.2.2.2.1 (hal (by omega)).1.1, Option.bind_some, if_neg q3, if_pos rfl, d_rc (hal (by omega)).1.2.2.2.2.2.2.1.1.1, it_355 (hal (by omega)).1.2.2.2.2.2.2.1 (hal (by omega)).1.1, Option.bind_some, if_neg q4, if_pos rfl]
      exact this
    rw [if_neg q5, if_pos rfl]
    unfold c_X4_simple_64
    obtain ⟨w', a1, a2⟩ := pj_must h htk.1
    rw [d_rc s1, tb_er a1, mfr_fail h.2.1 htk h1 z2 h2 (by omega)]
    exact Or.inr ⟨ch_nx w, w', -1, dz σ fr, fr, rfl, rfl, a2, dz_pd h.2.1 htk⟩
end EX
