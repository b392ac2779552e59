/-! LEVEL B2: classes: a class, the whole of it; the program's classes -/
set_option maxRecDepth 100000
section KC
variable {g : State} {P r L S n C1 C2 : Nat} {f : Nat → Nat} {wS w w' : ch_W} {σS σ σ' : ch_S} {frS c m0 h0 a Lm op om cl op' tc fr tt M Q tc' fr' tt' q j ps : Nat} {u u2 s2 t2 : Int}
theorem kI.weak {u' : Int} (h : kI g P r L S n f C1 C2 wS σS frS c m0 h0 a Lm op cl w σ tc fr tt M Q u) (hu : u' ≤ u) : kI g P r L S n f C1 C2 wS σS frS c m0 h0 a Lm op cl w σ tc fr tt M Q u' := by
  obtain ⟨a1, a2, a3, a4, a5, a6, a7, a8, a9, a10, a11, a12, a13, a14, a15, b1, b2, b3, b4, b5, b6, b7, b8, b9, AK, capK, EK, mF, A, cap, E, c1, c2, c3, c4, c5, c6, c7, c8, d1, d2, d3, d4, d5, d6⟩ := h
  refine ⟨a1, a2, a3, a4, a5, a6, a7, a8, a9, a10, a11, a12, a13, a14, a15, b1, b2, b3, b4, b5, b6, b7, b8, b9, AK, capK, EK, mF, A, cap, E, c1, c2, c3, c4, c5, c6, c7, c8, d1, d2, d3, d4, d5, ?_⟩
  unfold rmC at *
  omega
/-- the class is counted -/
theorem kI.cls {cl' : Nat} (h : kI g P r L S n f C1 C2 wS σS frS c m0 h0 a Lm op cl w σ tc fr tt M Q u) : kI g P r L S n f C1 C2 wS σS frS c m0 h0 a Lm op cl' w (md_si σ fX3_classes (Int32.ofNat cl')) tc fr tt M Q u := by
  obtain ⟨a1, a2, a3, a4, a5, a6, a7, a8, a9, a10, a11, a12, a13, a14, a15, b1, b2, b3, b4, b5, b6, b7, b8, b9, AK, capK, EK, mF, A, cap, E, c1, c2, c3, c4, c5, c6, c7, c8, d1, d2, d3, d4, d5, d6⟩ := h
  have hk : mfk (nn σ fX3_statements) M Q σ (md_si σ fX3_classes (Int32.ofNat cl')) := mfk_si (by decide)
  have en : ∀ k : Nat, k ≠ fX3_classes → nn (md_si σ fX3_classes (Int32.ofNat cl')) k = nn σ k := fun k hk => nn_ck hk
  have ek : ∀ k : Nat, k ≠ fX3_classes → (md_si σ fX3_classes (Int32.ofNat cl')).1 k = σ.1 k := fun k hk => by rw [md_get, if_neg hk]
  have hA := a1.2.2
  have hA' := hA
  unfold pjA at hA'
  have kI' : ∀ x y : Int32, iota g w L σ x y → iota g w L (md_si σ fX3_classes (Int32.ofNat cl')) x y := fun x y z => z.keep0 (fun _ _ h => h) hk.1
  refine ⟨⟨a1.1, pjM_ck a1.2.1 (by decide), ?_⟩, a2, a3, a4.trans (md_fr.refl.si (List.mem_append_right _ (by decide))), md_gs, by rw [ek _ (by decide)]; exact a6, by rw [ek _ (by decide)]; exact a7, a8, a9, a10, a11, a12, a13, a14, a15, b1, b2, b3, kI' _ _ b4, b5, b6, ?_, b8, b9, AK, capK, EK, mF, A, cap, E, c1, c2, c3, c4, c5, fun i hi => ?_, c7, c8, d1, d2, d3, d4, fun k hk2 => ?_, ?_⟩
  · unfold pjA at *
    rw [en _ (by decide), en _ (by decide), en _ (by decide), en _ (by decide)]
    exact hA
  · rcases b7 with z | z
    · exact Or.inl z
    · exact Or.inr (kI' _ _ z)
  · exact (c6 i hi).keep cf.refl.c1 hk ⟨fun _ _ => ⟨rfl, rfl, rfl⟩, fun _ _ => rfl⟩ (by rw [en _ (by decide)]; omega) (by rw [en _ (by decide)]; omega) (Nat.le_refl _) (by rw [en _ (by decide)]; omega) (Nat.le_refl _) (Nat.le_refl _) (by rw [en _ (by decide)]; omega) (Nat.le_refl _)
  · exact (d5 k hk2).keep cf.refl.c0 hk (by rw [en _ (by decide)]; omega) (by rw [en _ (by decide)]; omega) (Nat.le_refl _) (by rw [en _ (by decide)]; omega) (Nat.le_refl _) (Nat.le_refl _) (by rw [en _ (by decide)]; omega)
  · unfold rmC at *
    rw [en _ (by decide), en _ (by decide), en _ (by decide)]
    exact d6
/-- the parent's name -/
theorem kI.par {v y : Int32} (h : kI g P r L S n f C1 C2 wS σS frS c m0 h0 a Lm op cl w σ tc fr tt M Q u) (hM : M = m0) (hv : iota g w L σ v y) : kI g P r L S n f C1 C2 wS σS frS c m0 h0 a Lm op cl (ch_si w a fX6_parentName v) (md_sa σ fX3_parentId (5 + c) y) tc fr tt M Q u := by
  obtain ⟨a1, a2, a3, a4, a5, a6, a7, a8, a9, a10, a11, a12, a13, a14, a15, b1, b2, b3, b4, b5, b6, b7, b8, b9, AK, capK, EK, mF, A, cap, E, c1, c2, c3, c4, c5, c6, c7, c8, d1, d2, d3, d4, d5, d6⟩ := h
  have hk : mfk (nn σ fX3_statements) M Q σ (md_sa σ fX3_parentId (5 + c) y) := mfk_sa (by decide) (Or.inr (Or.inr (Or.inr (Or.inr (Or.inr (Or.inl rfl))))))
  have ea : ∀ x : Nat, x ≠ fX3_parentId → (md_sa σ fX3_parentId (5 + c) y).2 x = σ.2 x := fun x hx => md_an hx
  have o : ∀ x : Nat, x ≠ a → (ch_si w a fX6_parentName v).1 x = w.1 x := fun x hx => b_oI hx
  have hwf := a1.1.2.2.2.2.2.1
  have hPn : P ≤ ch_nx w := by omega
  have hal : a ≠ r ∧ a ≠ L ∧ ch_gr w L fJ5_elementData ≠ some a := by
    rcases b1.1 with z | z
    · have := b1.2.1; omega
    · exact z.2
  obtain ⟨p1, p2, p3, p4, p5⟩ := pjC_gen (w' := ch_si w a fX6_parentName v) a1.1 (fun x hx => by
    by_cases hxa : x = a
    · left
      rw [hxa]
      exact ⟨b1.2.1, hal.1, hal.2.1, hal.2.2, by rw [b3]; decide⟩
    · exact Or.inr (o x hxa)) (Nat.le_refl _) (fun x hx => by rw [b_tI] at hx; exact hwf x hx)
  have hKa : L + 1 ≠ a := fun z => b1.2.2.1 z.symm
  have hKr : ch_gr (ch_si w a fX6_parentName v) (L + 1) fJ5_elementData = ch_gr w (L + 1) fJ5_elementData := b_RI
  have o2 : ∀ x : Nat, ow2 r L (L + 1) P w x → ow2 r L (L + 1) P (ch_si w a fX6_parentName v) x := fun x hx => ⟨p3 x hx.1, hx.2.1, hx.2.2.1, by rw [hKr]; exact hx.2.2.2⟩
  have hc0 : cf0 g r L (L + 1) P h0 w (ch_si w a fX6_parentName v) := ⟨Nat.le_refl _, fun x hx hl _ => ⟨o x (by omega), o2 x hx⟩, fun x hx ht => ⟨o x (fun z => by rw [z, b3] at ht; omega), p3 x hx⟩, p4, fun x hx => o x (by have := b1.2.1; omega)⟩
  have hc1 : cf1 g r L (L + 1) P h0 w (ch_si w a fX6_parentName v) := ⟨hc0, fun x hx hl _ => ⟨o x (by omega), o2 x hx⟩⟩
  have kI' : ∀ x z : Int32, iota g w L σ x z → iota g (ch_si w a fX6_parentName v) L (md_sa σ fX3_parentId (5 + c) y) x z := fun x z q => q.keep0 p4 hk.1
  have hA := a1.2.2
  have hA' := hA
  unfold pjA at hA'
  have hAKa : AK ≠ a := fun z => b1.2.2.2 (by rw [← z]; exact c1.2.1)
  have hLma : Lm ≠ a := fun z => by have h7 := d1.1; rw [z, b3] at h7; omega
  have hAa : A ≠ a := fun z => by
    rcases d4 with y | y
    · have := b1.2.1; omega
    · have h7 := y.2.2; rw [z, b3] at h7; omega
  have hg : ∀ k : Nat, k ≠ fX6_parentName → ch_gi (ch_si w a fX6_parentName v) a k = ch_gi w a k := fun k hk => by rw [b_II, if_neg (fun z => hk z.2)]
  refine ⟨⟨p1, pjM_cl a1.2.1 (by decide), ?_⟩, fun x hx => (o x (by have := b1.2.1; omega)).trans (a2 x hx), a3, a4.trans (md_fr.refl.sa (List.mem_append_right _ (by decide))), a5, a6, a7, by rw [ea _ (by decide)]; exact a8, by rw [ea _ (by decide)]; exact a9, a10, a11, a12, a13, a14, a15, o2 a b1, b2, by rw [b_tI]; exact b3, by rw [hg _ (by decide), ea _ (by decide)]; exact kI' _ _ b4, by rw [hg _ (by decide), ea _ (by decide)]; exact b5, by rw [ea _ (by decide)]; exact b6, Or.inr ?_, by rw [b_RI]; exact b8, by rw [b_RI]; exact b9, AK, capK, EK, mF, A, cap, E, c1.keep (o _ hKa) (o _ hAKa) (fun i hi => by rw [b_tI]; exact (c1.2.2.2.2.2.2.2 i hi).2), p3 _ c2, c3, ?_, c5, fun i hi => ?_, c7, c8, d1.keep (o _ hLma) (o _ hAa) (fun i hi => by rw [b_tI]; exact (d1.2.2.2.2.2.2.2 i hi).2), o2 _ d2, d3, ?_, fun k hk2 => by omega, ?_⟩
  · unfold pjA at *
    rw [p2]
    exact hA
  · rw [b_II, if_pos ⟨rfl, rfl⟩, md_ga, if_pos ⟨rfl, rfl⟩]
    exact kI' _ _ hv
  · rcases c4 with z | z
    · exact Or.inl ⟨z.1, by rw [b_tI]; exact z.2⟩
    · exact Or.inr ⟨p3 _ z.1, z.2.1, by rw [b_tI]; exact z.2.2⟩
  · exact (c6 i hi).keep hc1 hk ⟨fun k hk3 => ⟨by rw [ea _ (by decide)], by rw [ea _ (by decide)], by rw [md_ga, if_neg (fun z => by omega)]⟩, fun k _ => by rw [ea _ (by decide)]⟩ (by show nn σ _ ≤ _; omega) (by show nn σ _ ≤ _; omega) (Nat.le_refl _) (Nat.le_refl _) (Nat.le_refl _) (Nat.le_refl _) (by show nn σ _ ≤ _; omega) (Nat.le_refl _)
  · rcases d4 with z | z
    · exact Or.inl ⟨z.1, by rw [b_tI]; exact z.2⟩
    · exact Or.inr ⟨o2 _ z.1, z.2.1, by rw [b_tI]; exact z.2.2⟩
  · unfold rmC at *
    rw [p2]
    exact d6
/-- what a class leaves; or both are stuck -/
def pok (g : State) (P r L S n : Nat) (f : Nat → Nat) (C1 C2 : Nat) (wS : ch_W) (σS : ch_S) (frS c fr : Nat) (x : Option (ch_W ⊕ (Except Nat Unit × ch_W))) (y : Option ch_S) : Prop :=
    (∃ w' σ' tc' fr' tt' M' Q', x = some (if tc' = 0 then .inr (.ok (), w') else .inl w') ∧ y = some σ' ∧ cI g P r L S n f C1 C2 wS σS frS (c + 1) M' Q' w' σ' tc' fr' tt' 0 ∧ fr < fr') ∨
    (∃ e w' σ' q, x = some (.inr (.error e, w')) ∧ y = some σ' ∧ pe P C1 C2 wS w' e q ∧ dC n q 6 σ' ∧ fc σS σ')
theorem pok.lt {x : Option (ch_W ⊕ (Except Nat Unit × ch_W))} {y : Option ch_S} (h : pok g P r L S n f C1 C2 wS σS frS c fr x y) (hl : fr' ≤ fr) : pok g P r L S n f C1 C2 wS σS frS c fr' x y := by
  rcases h with ⟨w', σ', tc', f2, tt', M', Q', z1, z2, z3, z4⟩ | z
  · exact Or.inl ⟨w', σ', tc', f2, tt', M', Q', z1, z2, z3, by omega⟩
  · exact Or.inr z
/-- { and what is in the class -/
theorem po_60 (hAS : pjA L n C1 C2 wS σS frS) (h : kI g P r L S n f C1 C2 wS σS frS c m0 h0 a Lm 0 (5 + c) w σ tc fr tt M Q u) (hu : 0 ≤ u) : pok g P r L S n f C1 C2 wS σS frS c fr (c_X4_program_60 g r (some a) w) (m_X3_readClass_55 σ) := by
  have hcl := h.2.2.2.2.1
  have h42 := h.2.2.2.2.2.2.2.2.2.2.1
  have h1 := h.cls (cl' := 6 + c)
  have hj1 := h1.1
  have hat := hj1.1.2.2.2.2.2.2.1
  have hr := hat.1.1
  have hn12 := hj1.2.1.2.2.2.2.1
  have e6 : σ.1 fX3_classes + 1 = Int32.ofNat (6 + c) := by
    rw [hcl, show 6 + c = 5 + c + 1 by omega]
    exact bn_add (b := 1)
  unfold c_X4_program_60 m_X3_readClass_55
  rw [d_rc hr, e6, m_mI]
  have s123 : m_X3_isSign 123 (md_si σ fX3_classes (Int32.ofNat (6 + c))) = some (if tc = 1000 + 123 then 1 else 0) := ms_sign (c := 123) hj1.2.1 hat.2.2.2 (by decide)
  rw [s123, Option.bind_some]
  have hcB := h1.cB (by omega)
  have hlow := h1.2.1
  have hnx := h1.2.2.1
  have hfc := h1.2.2.2.1
  generalize md_si σ fX3_classes (Int32.ofNat (6 + c)) = σ1 at *
  rcases po_opens (c := 1123) hj1 (Nat.le_refl _) hat.2.2.2.1 (by decide) (it_132 hat hj1.1.1) with ⟨x2, w2, y2, σ2, e1, e2, e3, e4, e5, ⟨tc2, fr2, tt2, j2, p2, l2⟩, -⟩ | ⟨e, w2, y2, σ2, q, e1, e2, e3, e4⟩
  · have h2 := (h1.step j2 p2.s0 (by omega) (by omega)).weak (u' := 0) (by omega)
    have e2' : m_X3_opens (if tc = 1000 + 123 then 1 else 0) σ1 = some (y2, σ2) := e2
    rw [tb_ok e1, e2', Option.bind_some]
    dsimp only
    rw [e3, if_neg (show ¬ (1 : Int32) = 0 by decide)]
    have := lp_mem hAS n w2 σ2 tc2 fr2 tt2 M Q (by omega) (by omega) h2
    exact pok.lt (fr := fr2) this (by omega)
  · right
    rw [tb_er e1]
    obtain ⟨d1, d2⟩ := dC_pds e4.s hn12 hcB
    have e2' : m_X3_opens (if tc = 1000 + 123 then 1 else 0) σ1 = some (y2, σ2) := e2
    rw [e2', Option.bind_some]
    dsimp only
    by_cases hy : y2 = 0
    · rw [if_pos hy]
      exact ⟨e, w2, σ2, q, rfl, rfl, e3.low hlow hnx, d1.mono (by omega), hfc.trans d2⟩
    · obtain ⟨σ', f1, f2, f3, -⟩ := dm_79 d1 (by omega)
      rw [if_neg hy]
      exact ⟨e, w2, σ', q, rfl, f1, e3.low hlow hnx, f2.mono (by omega), hfc.trans (d2.trans f3)⟩
theorem cB_cl {c M Q : Nat} (h1 : σ.1 fX3_classes = Int32.ofNat (5 + c)) (hc : c ≤ 320) : 5 + c < 350 := by omega
/-- stuck at a class' name -/
theorem dm_kn {v : Int32} (h : dC n q j σ) (hc : 5 + c < 350) : ∃ σ', ((ch_mw σ fX3_classId (Int32.ofNat (5 + c)) v).bind fun σ4 => (ch_mw σ4 fX3_parentId (Int32.ofNat (5 + c)) (-1)).bind fun σ5 => (m_X3_isSign 58 σ5).bind fun v6 => if v6 = 0 then (m_X3_readClass_55 σ5) else ((m_X3_next σ5).bind fun p8 => (m_X3_name p8).bind fun p10 => (ch_mw p10.2 fX3_parentId (Int32.ofNat (5 + c)) p10.1).bind fun σ12 => m_X3_readClass_55 σ12)) = some σ' ∧ dC n q (j + 1) σ' ∧ fc σ σ' := by
  obtain ⟨f1, f2⟩ := h.sa (a := fX3_classId) (i := 5 + c) (v := v) (by decide)
  obtain ⟨g1, g2⟩ := f1.sa (a := fX3_parentId) (i := 5 + c) (v := -1) (by decide)
  obtain ⟨σ', i1, i2, i3, -⟩ := dm_55 g1
  refine ⟨σ', ?_, i2, f2.trans (g2.trans i3)⟩
  rw [m_mw (show 5 + c < 350 by omega) (by decide), m_mw (show 5 + c < 350 by omega) (by decide), dm_sign g1.1 g1.lt, Option.bind_some, if_pos rfl, i1]
theorem dm_kp {v : Int32} (h : dC n q j σ) (hc : 5 + c < 350) : ∃ σ', ((ch_mw σ fX3_parentId (Int32.ofNat (5 + c)) v).bind fun σ12 => m_X3_readClass_55 σ12) = some σ' ∧ dC n q (j + 1) σ' ∧ fc σ σ' := by
  obtain ⟨g1, g2⟩ := h.sa (a := fX3_parentId) (i := 5 + c) (v := v) (by decide)
  obtain ⟨σ', i1, i2, i3, -⟩ := dm_55 g1
  exact ⟨σ', by rw [m_mw (show 5 + c < 350 by omega) (by decide), i1], i2, g2.trans i3⟩
/-- A CLASS, behind its keyword -/
theorem po_cls (hAS : pjA L n C1 C2 wS σS frS) (h : cI g P r L S n f C1 C2 wS σS frS c M Q w σ tc fr tt u) (hu : 1 ≤ u) (h41 : 4 * c + 1 ≤ fr) : pok g P r L S n f C1 C2 wS σS frS c fr ((ch_nO w 7 8).bind fun w4 => (ch_rc w4 (some r) 5).bind fun _ => ch_tb (c_X4_name g r w4) (fun a w => .inr ((.error a, w))) fun v6 w7 => (ch_gI w7 (some r) 5 fX4_from).bind fun v8 => (c_X6_init g (ch_nx w) v6 v8 w7).bind fun p9 => (ch_gR p9 (some r) 5 fX4_kinds).bind fun v11 => (ch_rc p9 v11 14).bind fun b13 => (c_J5_add g b13 (some (ch_nx w)) p9).bind fun p14 => (ch_rc p14.2 (some r) 5).bind fun _ => ch_tb (c_X4_next g r p14.2) (fun a w => .inr ((.error a, w))) fun _ w18 => (ch_rc w18 (some r) 5).bind fun _ => (c_X4_isThe g r (some (ch_sa g RX4 124)) w18).bind fun v20 => if v20 = 0 then (c_X4_program_60 g r (some (ch_nx w)) w18) else ((ch_rc w18 (some r) 5).bind fun _ => ch_tb (c_X4_next g r w18) (fun a w => .inr ((.error a, w))) fun _ w24 => (ch_rc w24 (some r) 5).bind fun _ => ch_tb (c_X4_nextName g r w24) (fun a w => .inr ((.error a, w))) fun v26 w27 => (ch_pI w27 (some (ch_nx w)) 7 fX6_parentName v26).bind fun w28 => c_X4_program_60 g r (some (ch_nx w)) w28)) (m_X3_readClass σ) := by
  have hj := h.1
  have hn12 := hj.2.1.2.2.2.2.1
  have hf1 := hj.1.2.2.2.2.2.2.1.2.2.2.1
  have hf2 := hj.1.2.2.2.2.2.2.1.2.2.2.2.1
  have hcl := h.2.2.2.2.1
  have h4c := h.2.2.2.2.2.2.2.2.2.1
  have hwf := hj.2.1.2.1.1
  unfold m_X3_readClass
  rw [hcl, m_mw (show 5 + c < 350 by omega) (by decide), hwf]
  rcases po_kb (er := fun a w => (Sum.inr (Except.error a, w) : ch_W ⊕ (Except Nat Unit × ch_W))) (F := fun w18 => (ch_rc w18 (some r) 5).bind fun _ => (c_X4_isThe g r (some (ch_sa g RX4 124)) w18).bind fun v20 => if v20 = 0 then (c_X4_program_60 g r (some (ch_nx w)) w18) else ((ch_rc w18 (some r) 5).bind fun _ => ch_tb (c_X4_next g r w18) (fun a w => .inr ((.error a, w))) fun _ w24 => (ch_rc w24 (some r) 5).bind fun _ => ch_tb (c_X4_nextName g r w24) (fun a w => .inr ((.error a, w))) fun v26 w27 => (ch_pI w27 (some (ch_nx w)) 7 fX6_parentName v26).bind fun w28 => c_X4_program_60 g r (some (ch_nx w)) w28)) hAS h hu h41 with ⟨w2, y, σ2, tc2, fr2, tt2, Lm, k1, k2, k3, k4⟩ | ⟨e, w2, y, σ2, q, k1, k2, k3, k4, k5⟩
  · rw [k1, k2, Option.bind_some]
    dsimp only
    rw [m_mw (show 5 + c < 350 by omega) (by decide), m_mw (show 5 + c < 350 by omega) (by decide)]
    generalize md_sa (md_sa σ2 fX3_classId (5 + c) y) fX3_parentId (5 + c) (-1) = σ3 at *
    have hj3 := k3.1
    have hat3 := hj3.1.2.2.2.2.2.2.1
    have hr3 := hat3.1.1
    have s58 : m_X3_isSign 58 σ3 = some (if tc2 = 1000 + 58 then 1 else 0) := ms_sign (c := 58) hj3.2.1 hat3.2.2.2 (by decide)
    rw [d_rc hr3, it_124 hat3 hj3.1.1, Option.bind_some, s58, Option.bind_some]
    by_cases hq : tc2 = 1058
    · rw [if_pos hq, if_neg (show ¬ (1 : Int32) = 0 by decide), if_neg (show ¬ (1 : Int32) = 0 by decide), d_rc hr3]
      rcases po_next (v := 1) hj3 (by omega) (Nat.le_refl _) hat3.2.2.2.1 with ⟨x4, w4, y4, σ4, e1, e2, e3, ⟨tc4, fr4, tt4, j4, p4, l4⟩, -⟩ | ⟨e, w4, y4, σ4, q, e1, e2, e3, e4⟩
      · have h4 := k3.step j4 p4.s0 (by omega) (by omega)
        have hr4 := j4.1.2.2.2.2.2.2.1.1.1
        rw [tb_ok e1, bnd_s e2, Option.bind_some, d_rc hr4]
        rcases po_name j4 with ⟨x5, w5, y5, σ5, n1, n2, -, ⟨ii, jj, n3, n4, n5, n6, n7, n8⟩, ⟨tc5, fr5, tt5, j5, p5, l5⟩, -⟩ | ⟨e, w5, y5, σ5, q, n1, n2, n3, n4⟩
        · have h5 := (h4.step j5 p5.s0 (by omega) (by omega)).par (v := x5) (y := y5) rfl ⟨ii, jj, _, n3, n4, n5, n6, n7, n8⟩
          have ht5 : ch_tg w5 (ch_nx w) = 7 := by
            have := (h4.step j5 p5.s0 (by omega) (by omega)).2.2.2.2.2.2.2.2.2.2.2.2.2.2.2.2.2.1
            exact this
          rw [tb_ok n1, d_pI ht5, n2, Option.bind_some]
          dsimp only
          rw [m_mw (show 5 + c < 350 by omega) (by decide)]
          exact (po_60 hAS h5 (by omega)).lt (by omega)
        · right
          rw [tb_er n1, n2, Option.bind_some]
          obtain ⟨d1, d2⟩ := dC_pds n4.s hn12 (h4.cB (by omega))
          obtain ⟨σ', f1, f2, f3⟩ := dm_kp (c := c) (v := y5) d1 (by omega)
          exact ⟨e, w5, σ', q, rfl, f1, n3.low h4.2.1 h4.2.2.1, f2.mono (by omega), h4.2.2.2.1.trans (d2.trans f3)⟩
      · right
        rw [tb_er e1, bnd_s e2, Option.bind_some]
        obtain ⟨d1, d2⟩ := dC_pds e4.s hn12 (k3.cB (by omega))
        obtain ⟨σ5, g1, g2⟩ := dm_name d1.1 d1.lt
        obtain ⟨i1, i2⟩ := d1.rd g2
        obtain ⟨σ', f1, f2, f3⟩ := dm_kp (c := c) (v := -1) i1 (by omega)
        rw [g1, Option.bind_some]
        exact ⟨e, w4, σ', q, rfl, f1, e3.low k3.2.1 k3.2.2.1, f2.mono (by omega), k3.2.2.2.1.trans (d2.trans (i2.trans f3))⟩
    · rw [if_neg hq, if_pos rfl, if_pos rfl]
      exact (po_60 hAS k3 (by omega)).lt (by omega)
  · right
    rw [k1, k2, Option.bind_some]
    obtain ⟨σ', f1, f2, f3⟩ := dm_kn (c := c) (v := y) k4 (by omega)
    exact ⟨e, w2, σ', q, rfl, f1, k3, f2.mono (by omega), k5.trans f3⟩
end KC
