/-! LEVEL B2: classes: a class begins -/
set_option maxRecDepth 100000
theorem ar_kb {C1 C2 cs cs5 csS sl sl5 slS n fr tt frS cp cp3 cpS no li he st noS liS heS stS kK k5 c : Nat} {u : Int} (h : C1 ≤ 601000 ∧ C2 ≤ 7250000 ∧ cs + 128 * (n - fr) ≤ C1 ∧ sl + 1024 * (n - fr) ≤ C2 + 4 * cp ∧ no + (n - fr) ≤ 1400 ∧ li + (n - fr) ≤ 1400 ∧ he ≤ fr ∧ st + (n - fr) ≤ 1400) (hS : C1 ≤ 601000 ∧ C2 ≤ 7250000 ∧ csS + 128 * (n - frS) ≤ C1 ∧ slS + 1024 * (n - frS) ≤ C2 + 4 * cpS ∧ noS + (n - frS) ≤ 1400 ∧ liS + (n - frS) ≤ 1400 ∧ heS ≤ frS ∧ stS + (n - frS) ≤ 1400) (d1 : frS ≤ fr) (d2 : (cs : Int) + 32 * (u + c) ≤ csS + 128 * ((fr : Int) - frS)) (d3 : (sl : Int) + 4 * cpS + 256 * (u + c) ≤ slS + 1024 * ((fr : Int) - frS) + 4 * cp + 4 * kK) (z1 : cs5 ≤ cs + 5) (z2 : sl5 + 4 * kK + 4 * cp ≤ sl + 11 + (tt - fr) + 4 * k5 + 4 * cp3) (z3 : 4 * k5 ≤ 8 * (c + 1) + 40) (hu : 1 ≤ u) (hlt : fr < tt) (hn : tt ≤ n) : C1 ≤ 601000 ∧ C2 ≤ 7250000 ∧ cs5 + 128 * (n - tt) ≤ C1 ∧ sl5 + 1024 * (n - tt) ≤ C2 + 4 * cp3 ∧ no + (n - tt) ≤ 1400 ∧ li + (n - tt) ≤ 1400 ∧ he ≤ tt ∧ st + (n - tt) ≤ 1400 := by
  obtain ⟨X, rfl⟩ : ∃ X, n = tt + X := ⟨n - tt, by omega⟩
  obtain ⟨Y, rfl⟩ : ∃ Y, tt = fr + Y := ⟨tt - fr, by omega⟩
  obtain ⟨Z, rfl⟩ : ∃ Z, fr = frS + Z := ⟨fr - frS, by omega⟩
  rw [show frS + Z + Y + X - (frS + Z) = Y + X by omega] at h
  rw [show frS + Z + Y + X - frS = Z + Y + X by omega] at hS
  rw [show frS + Z + Y - (frS + Z) = Y by omega] at z2
  rw [show frS + Z + Y + X - (frS + Z + Y) = X by omega]
  omega
theorem ar_kc {cs cs6 csS sl sl6 slS fr tt fr6 frS cp cp3 cpS no li st no6 li6 st6 noS liS stS kK k5 c : Nat} {u : Int} (d : frS ≤ fr ∧ (cs : Int) + 32 * (u + c) ≤ csS + 128 * ((fr : Int) - frS) ∧ (sl : Int) + 4 * cpS + 256 * (u + c) ≤ slS + 1024 * ((fr : Int) - frS) + 4 * cp + 4 * kK ∧ (no : Int) ≤ noS + ((fr : Int) - frS) ∧ (li : Int) ≤ liS + ((fr : Int) - frS) ∧ (st : Int) ≤ stS + ((fr : Int) - frS)) (z1 : cs6 ≤ cs + 5) (z2 : sl6 + 4 * kK + 4 * cp ≤ sl + 11 + (tt - fr) + 4 * k5 + 4 * cp3) (hlt : fr < tt) (h6 : tt ≤ fr6) (e8 : (no6 : Int) + 1 ≤ no + ((fr6 : Int) - fr)) (e9 : (li6 : Int) + 1 ≤ li + ((fr6 : Int) - fr)) (e10 : (st6 : Int) + 1 ≤ st + ((fr6 : Int) - fr)) : frS ≤ fr6 ∧ (cs6 : Int) + 32 * (u + ((c : Int) + 1) + (0 : Nat)) ≤ csS + 128 * ((fr6 : Int) - frS) ∧ (sl6 : Int) + 4 * cpS + 256 * (u + ((c : Int) + 1) + (0 : Nat)) ≤ slS + 1024 * ((fr6 : Int) - frS) + 4 * cp3 + (4 * k5 + 4 * (0 : Nat)) ∧ (no6 : Int) ≤ noS + ((fr6 : Int) - frS) ∧ (li6 : Int) ≤ liS + ((fr6 : Int) - frS) ∧ (st6 : Int) ≤ stS + ((fr6 : Int) - frS) := by
  obtain ⟨Y, rfl⟩ : ∃ Y, tt = fr + Y := ⟨tt - fr, by omega⟩
  rw [show fr + Y - fr = Y by omega] at z2
  omega
section KB
variable {g : State} {P r L S n C1 C2 K hA : Nat} {f : Nat → Nat} {wS w w1 w' : ch_W} {σS σ σ' : ch_S} {frS c m0 h0 a Lm op om cl op' tc fr tt M Q tc' fr' tt' q j ps : Nat} {u u2 s2 t2 : Int}
theorem cf0.trans (h : cf0 g r L K P hA w w1) (h2 : cf0 g r L K P hA w1 w') : cf0 g r L K P hA w w' := by
  refine ⟨Nat.le_trans h.1 h2.1, fun x hx hl ht => ?_, fun x hx ht => ?_, fun i t q => h2.2.2.2.1 i t (h.2.2.2.1 i t q), fun x hx => (h2.2.2.2.2 x hx).trans (h.2.2.2.2 x hx)⟩
  · obtain ⟨a1, a2⟩ := h.2.1 x hx hl ht
    obtain ⟨b1, b2⟩ := h2.2.1 x a2 hl (by rw [(b_cell a1).1]; exact ht)
    exact ⟨b1.trans a1, b2⟩
  · obtain ⟨a1, a2⟩ := h.2.2.1 x hx ht
    obtain ⟨b1, b2⟩ := h2.2.2.1 x a2 (by rw [(b_cell a1).1]; exact ht)
    exact ⟨b1.trans a1, b2⟩
theorem cf1.trans (h : cf1 g r L K P hA w w1) (h2 : cf1 g r L K P hA w1 w') : cf1 g r L K P hA w w' := by
  refine ⟨h.1.trans h2.1, fun x hx hl ht => ?_⟩
  obtain ⟨a1, a2⟩ := h.2 x hx hl ht
  obtain ⟨b1, b2⟩ := h2.2 x a2 hl (by rw [(b_cell a1).1]; exact ht)
  exact ⟨b1.trans a1, b2⟩
/-- no name -/
theorem name_err (h : pj g P r L S n f C1 C2 w σ tc fr tt op om ps) (hps : ps ≤ tt) (hq : tc ≠ 1) : ∃ w', c_X4_name g r w = some (.error (ch_nx w), w') ∧ pe P C1 C2 w w' (ch_nx w) fr := by
  have hat := h.1.2.2.2.2.2.2.1
  have hr := hat.1.1
  have e : c_X4_name g r w = ch_tb (c_X4_must g r 0 w) (fun a w => (Except.error a, w)) fun _ w3 => (ch_gR w3 (some r) 5 fX4_s).bind fun v4 => (ch_gI w3 (some r) 5 fX4_from).bind fun v5 => (ch_gI w3 (some r) 5 fX4_to).bind fun v6 => (ch_rc w3 (some r) 5).bind fun _ => (c_X4_numberOf g r v4 v5 v6 w3).bind fun p8 => some ((.ok p8.1, p8.2)) := by
    unfold c_X4_name
    have hk : ¬ lx_kd tc = 1 := by
      unfold lx_kd
      rw [if_neg hq]
      split
      · decide
      · split <;> decide
    rw [d_gI hr, hat.2.2.1, if_neg hk]
    unfold c_X4_name_14
    rw [d_rc hr]
  obtain ⟨w', a1, a2⟩ := pj_must h hps
  exact ⟨w', by rw [e, tb_er a1], a2⟩
/-- the model's name -/
theorem ms_name1 (h : pjM n f σ tc fr tt op) (ht : lx_tk f n tc fr tt) (hq : tc = 1) : ∃ j : Nat, j < 1600 ∧ m_X3_name σ = ((m_X3_next σ).bind fun p => some (Int32.ofNat j, p)) ∧ mn σ j (lx_tx f fr tt) := by
  have hwr := h.2.2.1
  have hw := ms_word h ht
  obtain ⟨kM, TM, m6, m7, m8⟩ := h.2.2.2.2.2.1
  obtain ⟨j, j1, j2, j3⟩ := m8 hq
  have hn := h.2.2.2.2.1
  have h1 := ht.1
  have h2 := ht.2.1
  refine ⟨j, by omega, ?_, kM, TM, m6, by omega, j1, j3⟩
  unfold m_X3_name m_X3_name_19
  rw [if_pos (hw.1.mpr hq), ms_passes hwr, if_neg (show ¬ (1 : Int32) = 0 by decide), j2]
  cases m_X3_next σ with
  | none => rfl
  | some p => rfl
theorem ms_name0 (h : pjM n f σ tc fr tt op) (ht : lx_tk f n tc fr tt) (hq : tc ≠ 1) : m_X3_name σ = some (-1, dz σ fr) := by
  have hwr := h.2.2.1
  have hw := ms_word h ht
  unfold m_X3_name m_X3_name_19
  rw [if_neg (fun z => hq (hw.1.mp z)), ms_passes hwr, if_pos rfl, ms_fails hwr h.2.1.1]
  rfl
theorem ow_new2 {x : Nat} (hC : pjC g P r L S n f w tc fr tt op ps) (hL : w'.1 L = w.1 L) (h1 : ch_nx w ≤ x) (h2 : x < ch_nx w') : ow r L P w' x := by
  have hwf := hC.2.2.2.2.2.1
  obtain ⟨A1, k1, cap1, E1, T1, m1, -, -⟩ := hC.2.2.2.2.2.2.2.2.2.2
  have hLn := hwf L (by rw [m1.1.1]; decide)
  have hrn := hwf r (by rw [hC.2.2.2.2.2.2.1.1.1]; decide)
  have hA1n := hwf A1 (by rcases m1.1.2.2.2.2.2.2.1 with q | q <;> omega)
  refine Or.inr ⟨h2, by omega, by omega, fun y => ?_⟩
  rw [(b_cell hL).2.2.2.1, m1.1.2.1] at y
  have := Option.some.inj y
  omega
theorem cI.cB (h : cI g P r L S n f C1 C2 wS σS frS c M Q w σ tc fr tt u) : cB 0 σ := by
  obtain ⟨a1, a2, a3, a4, a5, a6, a7, a8, a9, a10, a11, a12, -⟩ := h
  have hf2 := a1.1.2.2.2.2.2.2.1.2.2.2.2.1
  have hf1 := a1.1.2.2.2.2.2.2.1.2.2.2.1
  have hn12 := a1.2.1.2.2.2.2.1
  exact ⟨5 + c, M, Q, a5, a6, a7, by omega, by omega, by omega⟩
/-- reading on -/
theorem cI.step (h : cI g P r L S n f C1 C2 wS σS frS c M Q w σ tc fr tt u) (hj : pj g P r L S n f C1 C2 w' σ' tc' fr' tt' 0 0 fr') (hp : prs g P r L u2 s2 t2 w σ fr w' σ' fr') (hs : 0 ≤ s2) (ht : 0 ≤ t2) : cI g P r L S n f C1 C2 wS σS frS c M Q w' σ' tc' fr' tt' (u + u2) := by
  obtain ⟨a1, a2, a3, a4, a5, a6, a7, a8, a9, a10, a11, a12, AK, capK, EK, mF, c1, c2, c3, c4, c6, c7, c8, d6⟩ := h
  obtain ⟨p1, p2, p3⟩ := hp
  unfold bds at p3
  have hA' := hj.2.2
  unfold pjA at hA'
  have hPn : P ≤ ch_nx w := by
    have := a1.1.2.2.1
    have := a1.1.2.2.2.2.2.1 r (by rw [a1.1.2.2.2.2.2.2.1.1.1]; decide)
    omega
  have e : ∀ a : Nat, a ∈ cla → σ'.2 a = σ.2 a := fun a ha => p2.1.2 a (by revert a; decide)
  have ek : ∀ a : Nat, a ∈ clk → σ'.1 a = σ.1 a := fun a ha => p2.1.1 a (by revert a; decide)
  have hcf : ∀ hA : Nat, cf g r L (L + 1) P hA w w' := fun hA => p1.cf c2
  have hkc : ∀ Cn : Nat, kcc Cn σ σ' := fun Cn => kcc.of (fun a ha => e a (by revert a; decide))
  have hst := p2.2.2.2.1
  have o2 : ∀ x : Nat, ow2 r L (L + 1) P w x → w'.1 x = w.1 x ∧ ow2 r L (L + 1) P w' x := fun x hx => (hcf (ch_nx w)).2.1 x hx (hx.1.lt hPn)
  have sAK : w'.1 AK = w.1 AK ∧ lrw r L P w' AK := by
    rcases c4 with z | z
    · have := p1.2.1 AK (Or.inl z.1)
      exact ⟨this.1, Or.inl ⟨z.1, by rw [(b_cell this.1).1]; exact z.2⟩⟩
    · have := p1.2.1 AK z.1
      exact ⟨this.1, Or.inr ⟨this.2, z.2.1, by rw [(b_cell this.1).1]; exact z.2.2⟩⟩
  have tE : ∀ i : Nat, i < c → ch_tg w' (EK i) = 7 := fun i hi => by
    obtain ⟨z1, z2, z3, z4, -⟩ := c6 i hi
    rw [(b_cell (o2 _ z1).1).1]; exact z4
  refine ⟨hj, fun x hx => ((p1.2.1 x (Or.inl hx)).1).trans (a2 x hx), by have := p1.1; omega, a4.trans p2.fc, by rw [ek _ (by decide)]; exact a5, by rw [ek _ (by decide)]; exact a6, by rw [ek _ (by decide)]; exact a7, by rw [e _ (by decide)]; exact a8, by rw [e _ (by decide)]; exact a9, by omega, by omega, by omega, AK, capK, EK, mF, c1.keep (p1.2.1 _ c2).1 sAK.1 tE, (p1.2.1 _ c2).2, c3, sAK.2, fun i hi => (c6 i hi).keep (hcf _).c1 (p2.k (Nat.le_refl _)) (hkc _) (by omega) (by omega) p1.1 hst (Nat.le_refl _) (Nat.le_refl _) (by omega) (Nat.le_refl _), c7, c8, ?_⟩
  unfold rmC at *
  omega
/-- A CLASS BEGINS -/
theorem po_kb {γ : Type} {er : Nat → ch_W → γ} {F : ch_W → Option γ} (hAS : pjA L n C1 C2 wS σS frS) (h : cI g P r L S n f C1 C2 wS σS frS c M Q w σ tc fr tt u) (hu : 1 ≤ u) (h41 : 4 * c + 1 ≤ fr) :
    (∃ w' y σ2 tc' fr' tt' Lm, ((ch_nO w 7 8).bind fun w4 => (ch_rc w4 (some r) 5).bind fun _ => ch_tb (c_X4_name g r w4) er fun v6 w7 => (ch_gI w7 (some r) 5 fX4_from).bind fun v8 => (c_X6_init g (ch_nx w) v6 v8 w7).bind fun p9 => (ch_gR p9 (some r) 5 fX4_kinds).bind fun v11 => (ch_rc p9 v11 14).bind fun b13 => (c_J5_add g b13 (some (ch_nx w)) p9).bind fun p14 => (ch_rc p14.2 (some r) 5).bind fun _ => ch_tb (c_X4_next g r p14.2) er fun _ w18 => F w18) = F w' ∧ m_X3_name (md_sa σ fX3_classAt (5 + c) (Int32.ofNat fr)) = some (y, σ2) ∧ kI g P r L S n f C1 C2 wS σS frS c M (ch_nx w) (ch_nx w) Lm 0 (5 + c) w' (md_sa (md_sa σ2 fX3_classId (5 + c) y) fX3_parentId (5 + c) (-1)) tc' fr' tt' M Q u ∧ fr < fr') ∨
    (∃ e w' y σ2 q, ((ch_nO w 7 8).bind fun w4 => (ch_rc w4 (some r) 5).bind fun _ => ch_tb (c_X4_name g r w4) er fun v6 w7 => (ch_gI w7 (some r) 5 fX4_from).bind fun v8 => (c_X6_init g (ch_nx w) v6 v8 w7).bind fun p9 => (ch_gR p9 (some r) 5 fX4_kinds).bind fun v11 => (ch_rc p9 v11 14).bind fun b13 => (c_J5_add g b13 (some (ch_nx w)) p9).bind fun p14 => (ch_rc p14.2 (some r) 5).bind fun _ => ch_tb (c_X4_next g r p14.2) er fun _ w18 => F w18) = some (er e w') ∧ m_X3_name (md_sa σ fX3_classAt (5 + c) (Int32.ofNat fr)) = some (y, σ2) ∧ pe P C1 C2 wS w' e q ∧ dC n q 0 σ2 ∧ fc σS σ2) := by
  have hcB := h.cB
  obtain ⟨a1, a2, a3, a4, a5, a6, a7, a8, a9, a10, a11, a12, AK, capK, EK, mF, c1, c2, c3, c4, c6, c7, c8, d6⟩ := id h
  have hat := a1.1.2.2.2.2.2.2.1
  have hr := hat.1.1
  have htk := hat.2.2.2
  have hn12 := a1.2.1.2.2.2.2.1
  have hf1 := htk.1
  have hf2 := htk.2.1
  have hAw := a1.2.2
  have hAS' := hAS
  unfold pjA at hAw hAS'
  unfold rmC at d6
  obtain ⟨r1, r2⟩ := pjC_room a1 hf1
  have hcapK := c1.2.2.2.2.2.1
  have hkcap := c1.2.2.2.2.1
  obtain ⟨p1, p2, p3, p4, p5⟩ := pjC_new (w' := ch_nw w (ch_new 7 8)) a1.1 (fun x hx => b_oN hx) rfl
  have tN : ch_tg (ch_nw w (ch_new 7 8)) (ch_nx w) = 7 := by rw [b_tN, if_pos rfl]; rfl
  have rN : ∀ k : Nat, ch_gr (ch_nw w (ch_new 7 8)) (ch_nx w) k = none := fun k => by rw [b_RN, if_pos rfl]; rfl
  have csN : ch_cs (ch_nw w (ch_new 7 8)) = ch_cs w + 1 := rfl
  have slN : ch_sl (ch_nw w (ch_new 7 8)) = ch_sl w + 8 := rfl
  have nxN : ch_nx (ch_nw w (ch_new 7 8)) = ch_nx w + 1 := rfl
  rw [d_nO (by omega) (by omega)]
  generalize ch_nw w (ch_new 7 8) = w2 at *
  have hj2 : pj g P r L S n f C1 C2 w2 σ tc fr tt 0 0 fr := by
    refine ⟨p1, a1.2.1, ?_⟩
    unfold pjA
    rw [p3]
    omega
  have hr2 := p1.2.2.2.2.2.2.1.1.1
  have hσa : pjM n f (md_sa σ fX3_classAt (5 + c) (Int32.ofNat fr)) tc fr tt 0 := pjM_cl a1.2.1 (by decide)
  have hka : mfk (nn σ fX3_statements) M Q σ (md_sa σ fX3_classAt (5 + c) (Int32.ofNat fr)) := mfk_sa (by decide) (Or.inr (Or.inr (Or.inr (Or.inr (Or.inl rfl)))))
  have eaa : ∀ x : Nat, x ≠ fX3_classAt → (md_sa σ fX3_classAt (5 + c) (Int32.ofNat fr)).2 x = σ.2 x := fun x hx => md_an hx
  have eav : (md_sa σ fX3_classAt (5 + c) (Int32.ofNat fr)).2 fX3_classAt (5 + c) = Int32.ofNat fr := by rw [md_ga, if_pos ⟨rfl, rfl⟩]
  have eal : ∀ k : Nat, k < 5 + c → (md_sa σ fX3_classAt (5 + c) (Int32.ofNat fr)).2 fX3_classAt k = σ.2 fX3_classAt k := fun k hk => by rw [md_ga, if_neg (fun z => by omega)]
  have eai : (md_sa σ fX3_classAt (5 + c) (Int32.ofNat fr)).1 = σ.1 := rfl
  have hfca : fc σ (md_sa σ fX3_classAt (5 + c) (Int32.ofNat fr)) := md_fr.refl.sa (List.mem_append_right _ (by decide))
  generalize md_sa σ fX3_classAt (5 + c) (Int32.ofNat fr) = σa at *
  have ean : ∀ k : Nat, nn σa k = nn σ k := fun k => by unfold nn; rw [eai]
  have hcBa : cB 0 σa := by obtain ⟨cc, m1, q1, z1, z2, z3, z4⟩ := hcB; exact ⟨cc, m1, q1, by rw [eai]; exact z1, by rw [eai]; exact z2, by rw [eai]; exact z3, z4⟩
  rw [d_rc hr2]
  by_cases hq : tc = 1
  · obtain ⟨ii, w3, n1, n2, n3, n4, n5, n6, n7⟩ := lc_name hj2 hq
    have hat3 := n3.1.2.2.2.2.2.2.1
    have hr3 := hat3.1.1
    rw [tb_ok n1, d_gI hr3, hat3.2.1.1]
    have sa3 := n5.2.1 _ p4
    have t3 : ch_tg w3 (ch_nx w) = 7 := by rw [(b_cell sa3.1).1]; exact tN
    have g3 : ∀ k : Nat, ch_gr w3 (ch_nx w) k = none := fun k => by rw [(b_cell sa3.1).2.2.2.1]; exact rN k
    obtain ⟨r31, r32⟩ := pjC_room n3 (Nat.le_refl _)
    have hn3 : ch_nx w + 1 ≤ ch_nx w3 := by have := n5.1; omega
    obtain ⟨w4, ae, k1, k2, k3, k4, k5, k6, k7, k8, k9, k10, k11⟩ := kin_new (nm := Int32.ofNat ii) (pl := Int32.ofNat fr) (E := fun _ => 0) n3.1.1 t3 (by omega) g3 (by omega) (by omega) n3.1.2.1 p5
    rw [k1, Option.bind_some]
    have nx4 : ch_nx w4 = ch_nx w3 + 1 := by unfold ch_nx; rw [k2]; rfl
    have cs4 : ch_cs w4 = ch_cs w3 + 1 := by unfold ch_cs; rw [k2]; rfl
    have sl4 : ch_sl w4 = ch_sl w3 + 3 := by unfold ch_sl; rw [k2]; rfl
    have hwf3 := n3.1.2.2.2.2.2.1
    have hPn : P ≤ ch_nx w := p5
    have hKn : L + 1 < ch_nx w := c2.lt hPn
    obtain ⟨o1, o2, o3, o4, o5, o6⟩ := own_gen (w' := w4) (K := L + 1) (hA := ch_nx w) n3.1 (fun x hx => by
      by_cases hxa : x = ch_nx w
      · left
        rw [hxa, t3]
        exact ⟨sa3.2, Nat.le_refl _, by decide, by decide, by decide, by decide, by decide⟩
      · exact Or.inr (k3 x hxa (by omega))) hPn hKn (by omega) (by omega) (fun x hx => by
        by_cases hxa : x = ch_nx w
        · omega
        · by_cases hxb : x = ch_nx w3
          · omega
          · rw [(b_cell (k3 x hxa hxb)).1] at hx
            have := hwf3 x hx
            omega)
    have hcf4 : cf g r L (L + 1) P (ch_nx w) w w4 := ((p2.trans n5).cf c2).trans o5
    have hK4 := hcf4.2.2.2.2.2.1 c2
    have sAK4 : w4.1 AK = w.1 AK ∧ lrw r L P w4 AK := by
      rcases c4 with z | z
      · have := hcf4.2.2.2.2.1 AK z.1
        exact ⟨this, Or.inl ⟨z.1, by rw [(b_cell this).1]; exact z.2⟩⟩
      · have := hcf4.2.2.2.2.2.2 AK z.1 (z.1.lt hPn)
        exact ⟨this.1, Or.inr ⟨this.2, z.2.1, by rw [(b_cell this.1).1]; exact z.2.2⟩⟩
    have hAKn : AK < ch_nx w := by
      rcases c4 with z | z
      · omega
      · exact z.1.lt hPn
    have tE4 : ∀ i : Nat, i < c → ch_tg w4 (EK i) = 7 := fun i hi => by
      obtain ⟨z1, z2, z3, z4, -⟩ := c6 i hi
      rw [(b_cell (hcf4.2.1 _ z1 z2).1).1]; exact z4
    have c14 := c1.keep hK4.1 sAK4.1 tE4
    have hr4 := o1.2.2.2.2.2.2.1.1.1
    have hL3 : L < ch_nx w3 := by
      obtain ⟨A1, _, _, _, _, m1, -, -⟩ := n3.1.2.2.2.2.2.2.2.2.2.2
      exact hwf3 L (by rw [m1.1.1]; decide)
    have hLa : L ≠ ch_nx w := by
      rcases p4 with z | z
      · omega
      · exact fun y => z.2.2.1 y.symm
    have hLm4 : ow r L P w4 (ch_nx w3) := ow_new2 n3.1 (k3 L hLa (by omega)) (Nat.le_refl _) (by omega)
    have ha4 : ow r L P w4 (ch_nx w) := o3 _ sa3.2
    have hdK4 : ch_gr w4 (L + 1) fJ5_elementData = some AK := c14.2.1
    have a24 : ow2 r L (L + 1) P w4 (ch_nx w) := ⟨ha4, hPn, by omega, fun z => by rw [hdK4] at z; have := Option.some.inj z; omega⟩
    have m24 : ow2 r L (L + 1) P w4 (ch_nx w3) := ⟨hLm4, by omega, by omega, fun z => by rw [hdK4] at z; have := Option.some.inj z; omega⟩
    have hkd4 : ch_gr w4 r fX4_kinds = some (L + 1) := o1.2.2.2.2.2.2.2.2.2.1.2
    rw [d_gR hr4, hkd4, d_rc c14.1]
    obtain ⟨w5, AK5, capK5, g1, g2, g3', g4, g5, g6, g7, g8, g9, g10, g11, g12⟩ := k_add (x := ch_nx w) o1 c14 hK4.2 c3 sAK4.2 (by omega) k4 (by omega) (by omega)
    have hcapK5 := g2.2.2.2.2.2.1
    rw [g1, Option.bind_some]
    dsimp only
    have hr5 := g3'.2.2.2.2.2.2.1.1.1
    rw [d_rc hr5]
    have hj5 : pj g P r L S n f C1 C2 w5 σa tc fr tt 0 0 tt := by
      refine ⟨g3', hσa, ?_⟩
      unfold pjA
      rw [g4, o2, ean, ean, ean, ean]
      rw [p3] at n7
      have z1 : ch_cs w5 ≤ ch_cs w + 5 := by clear d6 hAS' hAw; omega
      have z2 : ch_sl w5 + 4 * capK + 4 * cpN w L ≤ ch_sl w + 11 + (tt - fr) + 4 * capK5 + 4 * cpN w3 L := by clear d6 hAS' hAw; omega
      have z3 : 4 * capK5 ≤ 8 * (c + 1) + 40 := by clear d6 hAS' hAw; omega
      have hlt := htk.lt (by omega)
      exact ar_kb hAw hAS' d6.1 d6.2.1 d6.2.2.1 z1 z2 z3 hu hlt hf2
    obtain ⟨jj, j1, j2, j3⟩ := ms_name1 hσa htk hq
    rw [p3] at n7
    rcases pj_next hj5 (Nat.le_refl _) hf1 (by omega) with ⟨w6, σ6, tc6, fr6, tt6, e1, e2, e3, e4, e5, e6, e7⟩ | ⟨e, w6, σ6, q, e1, e2, e3, e4, -⟩
    · left
      have hms := e5.2.1.s
      have cs6 : ch_cs w6 = ch_cs w5 := by rw [e6]; rfl
      have sl6 : ch_sl w6 = ch_sl w5 := by rw [e6]; rfl
      have hb6 := e5.2.2
      unfold bd at hb6
      have hcp6 : cpN w6 L = cpN w5 L := by
        rw [e6]
        unfold cpN rd_set
        rw [b_RI, b_RI, b_RI]
        cases ch_gr w5 L fJ5_elementData with
        | none => rfl
        | some A => show ch_ln _ A = ch_ln _ A; rw [b_nI, b_nI, b_nI]
      have hlt := htk.lt (by omega)
      have hat6 := e3.1.2.2.2.2.2.2.1
      have hf61 := hat6.2.2.2.1
      have hf62 := hat6.2.2.2.2.1
      have hA6 := e3.2.2
      unfold pjA at hA6
      have e2' : ∀ x : Nat, x ∈ cla → σ6.2 x = σa.2 x := fun x hx => hms.1.2 x (by revert x; decide)
      have ek6 : ∀ x : Nat, x ∈ clk → σ6.1 x = σ.1 x := fun x hx => by rw [hms.1.1 x (by revert x; decide), eai]
      have hst6 := hms.2.2.2.1
      rw [ean] at hst6
      have hk6 : mfk (nn σ fX3_statements) M Q σ6 (md_sa (md_sa σ6 fX3_classId (5 + c) (Int32.ofNat jj)) fX3_parentId (5 + c) (-1)) := (mfk_sa (by decide) (Or.inr (Or.inr (Or.inr (Or.inl rfl))))).trans (mfk_sa (by decide) (Or.inr (Or.inr (Or.inr (Or.inr (Or.inr (Or.inl rfl)))))))
      have hkk : mfk (nn σ fX3_statements) M Q σ (md_sa (md_sa σ6 fX3_classId (5 + c) (Int32.ofNat jj)) fX3_parentId (5 + c) (-1)) := hka.trans ((hms.k (by rw [ean]; omega)).trans hk6)
      have ea7 : ∀ x : Nat, x ≠ fX3_classId → x ≠ fX3_parentId → (md_sa (md_sa σ6 fX3_classId (5 + c) (Int32.ofNat jj)) fX3_parentId (5 + c) (-1)).2 x = σ6.2 x := fun x h1 h2 => by rw [md_an h2, md_an h1]
      have eid : ∀ k : Nat, (md_sa (md_sa σ6 fX3_classId (5 + c) (Int32.ofNat jj)) fX3_parentId (5 + c) (-1)).2 fX3_classId k = if k = 5 + c then Int32.ofNat jj else σ6.2 fX3_classId k := fun k => by
        rw [md_an (by decide), md_ga]
        by_cases hk : k = 5 + c
        · rw [if_pos ⟨rfl, hk⟩, if_pos hk]
        · rw [if_neg (fun z => hk z.2), if_neg hk]
      have epi : ∀ k : Nat, (md_sa (md_sa σ6 fX3_classId (5 + c) (Int32.ofNat jj)) fX3_parentId (5 + c) (-1)).2 fX3_parentId k = if k = 5 + c then -1 else σ6.2 fX3_parentId k := fun k => by
        rw [md_ga, md_an (by decide)]
        by_cases hk : k = 5 + c
        · rw [if_pos ⟨rfl, hk⟩, if_pos hk]
        · rw [if_neg (fun z => hk z.2), if_neg hk]
      have hkc : kcc (5 + c) σ (md_sa (md_sa σ6 fX3_classId (5 + c) (Int32.ofNat jj)) fX3_parentId (5 + c) (-1)) := by
        refine ⟨fun k hk => ⟨?_, ?_, ?_⟩, fun k hk => ?_⟩
        · rw [eid, if_neg (by omega), e2' _ (by decide), eaa _ (by decide)]
        · rw [ea7 _ (by decide) (by decide), e2' _ (by decide), eal k hk]
        · rw [epi, if_neg (by omega), e2' _ (by decide), eaa _ (by decide)]
        · rw [ea7 _ (by decide) (by decide), e2' _ (by decide), eaa _ (by decide)]
      have hj7 : pjM n f (md_sa (md_sa σ6 fX3_classId (5 + c) (Int32.ofNat jj)) fX3_parentId (5 + c) (-1)) tc6 fr6 tt6 0 := pjM_cl (pjM_cl e3.2.1 (by decide)) (by decide)
      have ei7 : (md_sa (md_sa σ6 fX3_classId (5 + c) (Int32.ofNat jj)) fX3_parentId (5 + c) (-1)).1 = σ6.1 := rfl
      have hfc7 : fc σ6 (md_sa (md_sa σ6 fX3_classId (5 + c) (Int32.ofNat jj)) fX3_parentId (5 + c) (-1)) := (md_fr.refl.sa (List.mem_append_right _ (by decide))).sa (List.mem_append_right _ (by decide))
      refine ⟨w6, Int32.ofNat jj, σ6, tc6, fr6, tt6, ch_nx w3, by rw [tb_ok e1], by rw [j2, e2]; rfl, ?_, by omega⟩
      generalize md_sa (md_sa σ6 fX3_classId (5 + c) (Int32.ofNat jj)) fX3_parentId (5 + c) (-1) = σ7 at *
      have en7 : ∀ k : Nat, nn σ7 k = nn σ6 k := fun k => by unfold nn; rw [ei7]
      have hK5 : ow r L P w5 (L + 1) := g5 _ hK4.2
      have pf6 := e5.1
      have a25 := g6 _ a24
      have m25 := g6 _ m24
      have hPn5 : P ≤ ch_nx w5 := by omega
      have hcf6 : cf g r L (L + 1) P (ch_nx w5) w5 w6 := pf6.cf hK5
      have o26 : ∀ x : Nat, ow2 r L (L + 1) P w5 x → w6.1 x = w5.1 x ∧ ow2 r L (L + 1) P w6 x := fun x hx => hcf6.2.1 x hx (hx.1.lt hPn5)
      have a26 := o26 _ a25.2
      have m26 := o26 _ m25.2
      have hc1 : cf1 g r L (L + 1) P (ch_nx w) w w6 := hcf4.c1.trans ((g7 _).trans (hcf6.c1.weak (by omega)))
      obtain ⟨q1, q2, q3, q4, -⟩ := b_cell (a26.1.trans a25.1)
      have sae : w6.1 ae = w4.1 ae := ((pf6.2.1 ae (Or.inl k11)).1).trans ((g7 0).1.2.2.2.2 ae k11)
      have hcn6 : cn g w6 L ii (lx_tx f fr tt) := hcf6.2.2.2.1 _ _ ((g7 0).1.2.2.2.1 _ _ (o4 _ _ n4))
      have hmn7 : mn σ7 jj (lx_tx f fr tt) := hk6.1.2.2.2.2 _ _ (hms.mg.2.2.2.2 _ _ j3)
      have tE : ∀ i : Nat, i < c + 1 → ch_tg w6 (le_up EK c (ch_nx w) i) = 7 := fun i hi => by
        unfold le_up
        by_cases hic : i = c
        · rw [if_pos hic, q1]; exact k4
        · rw [if_neg hic]
          obtain ⟨z1, z2, z3, z4, -⟩ := c6 i (by omega)
          rw [(b_cell (hc1.2 _ z1 z2 (Or.inl z4)).1).1]; exact z4
      have sAK6 : w6.1 AK5 = w5.1 AK5 ∧ lrw r L P w6 AK5 := by
        rcases g8 with z | z
        · have := pf6.2.1 AK5 (Or.inl z.1)
          exact ⟨this.1, Or.inl ⟨z.1, by rw [(b_cell this.1).1]; exact z.2⟩⟩
        · have := pf6.2.1 AK5 z.1
          exact ⟨this.1, Or.inr ⟨this.2, z.2.1, by rw [(b_cell this.1).1]; exact z.2.2⟩⟩
      have hK6 := pf6.2.1 _ hK5
      refine ⟨⟨e3.1, hj7, ?_⟩, fun x hx => (hc1.1.2.2.2.2 x hx).trans (a2 x hx), by have := hc1.1.1; omega, a4.trans (hfca.trans (hms.fc.trans hfc7)), by rw [ei7, ek6 _ (by decide)]; exact a5, by rw [ei7, ek6 _ (by decide)]; exact a6, by rw [ei7, ek6 _ (by decide)]; exact a7, by rw [ea7 _ (by decide) (by decide), e2' _ (by decide), eaa _ (by decide)]; exact a8, by rw [ea7 _ (by decide) (by decide), e2' _ (by decide), eaa _ (by decide)]; exact a9, Nat.le_refl _, by omega, by omega, by omega, hc1.1.1, hPn, a26.2, Nat.le_refl _, by rw [q1]; exact k4, ?_, ?_, ?_, ?_, by rw [q4]; exact k8, by rw [q4]; exact k9, AK5, capK5, le_up EK c (ch_nx w), mF, ae, 0, fun _ => 0, g2.keep hK6.1 sAK6.1 tE, hK6.2, c3, sAK6.2, by unfold le_up; rw [if_pos rfl], fun i hi => ?_, c7, c8, ?_, m26.2, by omega, Or.inl ⟨k11, ?_⟩, fun k hk => by omega, ?_⟩
      · unfold pjA
        rw [en7, en7, en7, en7]
        exact hA6
      · rw [q3, k5, eid, if_pos rfl]
        exact ⟨ii, jj, _, rfl, n2, rfl, j1, hcn6, hmn7⟩
      · rw [q3, k6, ea7 _ (by decide) (by decide), e2' _ (by decide), eav]
      · rw [ea7 _ (by decide) (by decide), e2' _ (by decide), eav]; exact ⟨fr, rfl, by omega⟩
      · left
        rw [q3, k7, epi, if_pos rfl]
        exact ⟨rfl, rfl⟩
      · unfold le_up
        rw [if_neg (show ¬ i = c by omega)]
        exact (c6 i hi).keep hc1 hkk hkc (by rw [en7]; omega) (by rw [en7]; omega) (Nat.le_refl _) (by rw [en7]; omega) (Nat.le_refl _) (Nat.le_refl _) (by rw [en7]; omega) (Nat.le_refl _)
      · rw [Nat.sub_self]
        exact k10.keep (m26.1.trans m25.1) sae (fun i hi => by omega)
      · rw [(b_cell sae).1]
        rcases k10.2.2.2.2.2.2.1 with z | z
        · omega
        · exact z.1
      · unfold rmC
        rw [en7, en7, en7, Nat.sub_self, hcp6, g4, o2]
        have e8 := hb6.2.2.2.1
        have e9 := hb6.2.2.2.2.1
        have e10 := hb6.2.2.2.2.2
        rw [ean] at e8 e9 e10
        have z1 : ch_cs w6 ≤ ch_cs w + 5 := by clear d6 hAS' hAw hA6 hb6 e8 e9 e10; omega
        have z2 : ch_sl w6 + 4 * capK + 4 * cpN w L ≤ ch_sl w + 11 + (tt - fr) + 4 * capK5 + 4 * cpN w3 L := by clear d6 hAS' hAw hA6 hb6 e8 e9 e10; omega
        exact ar_kc d6 z1 z2 hlt e4 e8 e9 e10
    · right
      obtain ⟨d1, d2⟩ := dC_pds e4.s hn12 hcBa
      refine ⟨e, w6, Int32.ofNat jj, σ6, q, by rw [tb_er e1], by rw [j2, e2]; rfl, e3.low (fun x hx => ((g7 0).1.2.2.2.2 x hx).trans ((hcf4.2.2.2.2.1 x hx).trans (a2 x hx))) (by have := hcf4.1; omega), d1, a4.trans (hfca.trans d2)⟩
  · right
    obtain ⟨w3, e1, e2⟩ := name_err hj2 hf1 hq
    have hpd := (dz_pd hσa htk).s
    obtain ⟨d1, d2⟩ := dC_pds hpd hn12 hcBa
    refine ⟨_, w3, -1, _, fr, by rw [tb_er e1], ms_name0 hσa htk hq, e2.low (fun x hx => ((p2.2.1 x (Or.inl hx)).1).trans (a2 x hx)) (by have := p2.1; omega), d1, a4.trans (hfca.trans d2)⟩
end KB
