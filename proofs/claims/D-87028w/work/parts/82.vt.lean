/-! LEVEL B2: trees of both sides -/
set_option maxRecDepth 100000
section PJ
variable {g : State} {P r L S n C1 C2 : Nat} {f : Nat → Nat} {w : ch_W} {σ : ch_S} {tc fr tt op om ps : Nat}
/-- NEXT NAME -/
theorem po_name1 (h : pj g P r L S n f C1 C2 w σ tc fr tt op om fr) (hq : tc = 1) : po P n C1 C2 1 w σ fr (c_X4_nextName g r w) (m_X3_name σ) (fun x w' y σ' => tc = 1 ∧ (∃ i j, x = Int32.ofNat i ∧ i < 3000 ∧ y = Int32.ofNat j ∧ j < 1600 ∧ cn g w' L i (lx_tx f fr tt) ∧ mn σ' j (lx_tx f fr tt)) ∧ pq g P r L S n f C1 C2 3 1 op om w σ fr w' σ') := by
  have hr := h.1.2.2.2.2.2.2.1.1.1
  have hkd := h.1.2.2.2.2.2.2.1.2.2.1
  have ht := h.1.2.2.2.2.2.2.1.2.2.2
  have hwr := h.2.1.2.2.1
  have hw := ms_word h.2.1 ht
  unfold c_X4_nextName m_X3_name
  rw [d_rc hr]
  obtain ⟨i, w1, a1, a2, a3, a4, a5, a6, a7⟩ := lc_name h hq
  have hlt := ht.lt (by omega)
  rw [tb_ok a1, d_rc a3.1.2.2.2.2.2.2.1.1.1, if_pos (hw.1.mpr hq)]
  unfold m_X3_name_19
  rw [ms_passes hwr, if_neg (by decide)]
  obtain ⟨kM, TM, m6, m7, m8⟩ := h.2.1.2.2.2.2.2.1
  obtain ⟨j, j1, j2, j3⟩ := m8 hq
  have hmn : mn σ j (lx_tx f fr tt) := ⟨kM, TM, m6, by have := h.2.1.2.2.2.2.1; have := ht.2.1; omega, j1, j3⟩
  have hj6 : j < 1600 := by
    obtain ⟨_, _, _, z1, z2, _⟩ := hmn
    omega
  rcases pj_next a3 (Nat.le_refl _) (Nat.le_of_lt hlt) (by omega) with ⟨w', σ', tc', fr', tt', b1, b2, b3, b4, b5, b6, b7⟩ | ⟨e, w', σ', q, b1, b2, b3, b4, b5⟩
  · refine Or.inl ⟨Int32.ofNat i, w', Int32.ofNat j, σ', ?_, ?_, hq, ⟨i, j, rfl, a2, rfl, hj6, b5.1.2.2 i _ a4, b5.2.1.2.2.2.2.2.2.2.2.2 j _ hmn⟩, ⟨tc', fr', tt', b3, ⟨a5.trans b5.1, b5.2.1, ?_⟩, by omega⟩, b7.mono (by decide) (by decide)⟩
    · rw [tb_ok b1]
    · rw [b2, j2]; rfl
    · have e1 : ch_cs w' = ch_cs w1 := by rw [b6]; rfl
      have e2 : ch_sl w' = ch_sl w1 := by rw [b6]; rfl
      have e3 : cpN w' L = cpN w1 L := by
        rw [b6]
        unfold cpN rd_set
        rw [b_RI, b_RI, b_RI]
        cases ch_gr w1 L fJ5_elementData with
        | none => rfl
        | some A => show ch_ln _ A = ch_ln _ A; rw [b_nI, b_nI, b_nI]
      have hb := b5.2.2
      unfold bd at *
      rw [e1, e2, e3] at *
      omega
  · have hp1 : pe P C1 C2 w w' e q := b3.base a5
    refine Or.inr ⟨e, w', Int32.ofNat j, σ', q, ?_, ?_, hp1, b4⟩
    · rw [tb_er b1]
    · rw [b2, j2]; rfl
theorem po_name (h : pj g P r L S n f C1 C2 w σ tc fr tt op om fr) : po P n C1 C2 0 w σ fr (c_X4_nextName g r w) (m_X3_name σ) (fun x w' y σ' => tc = 1 ∧ (∃ i j, x = Int32.ofNat i ∧ i < 3000 ∧ y = Int32.ofNat j ∧ j < 1600 ∧ cn g w' L i (lx_tx f fr tt) ∧ mn σ' j (lx_tx f fr tt)) ∧ pq g P r L S n f C1 C2 3 1 op om w σ fr w' σ') := by
  by_cases hq : tc = 1
  · exact (po_name1 h hq).mono (by decide) (fun _ _ _ _ q => q)
  have hr := h.1.2.2.2.2.2.2.1.1.1
  have hkd := h.1.2.2.2.2.2.2.1.2.2.1
  have ht := h.1.2.2.2.2.2.2.1.2.2.2
  have hwr := h.2.1.2.2.1
  have hw := ms_word h.2.1 ht
  unfold c_X4_nextName m_X3_name
  rw [d_rc hr]
  have e : c_X4_name g r w = ch_tb (c_X4_must g r 0 w) (fun a w => (Except.error a, w)) fun _ w3 => (ch_gR w3 (some r) 5 fX4_s).bind fun v4 => (ch_gI w3 (some r) 5 fX4_from).bind fun v5 => (ch_gI w3 (some r) 5 fX4_to).bind fun v6 => (ch_rc w3 (some r) 5).bind fun _ => (c_X4_numberOf g r v4 v5 v6 w3).bind fun p8 => some ((.ok p8.1, p8.2)) := by
    unfold c_X4_name
    have hk : ¬ lx_kd tc = 1 := by
      unfold lx_kd
      rw [if_neg hq]
      split
      · decide
      · split <;> decide
    rw [d_gI hr, hkd, if_neg hk]
    unfold c_X4_name_14
    rw [d_rc hr]
  obtain ⟨w', a1, a2⟩ := pj_must h ht.1
  rw [e, tb_er a1, tb_er rfl, if_neg (fun z => hq (hw.1.mp z))]
  unfold m_X3_name_19
  rw [ms_passes hwr, if_pos rfl, ms_fails hwr h.2.1.2.1.1]
  exact Or.inr ⟨ch_nx w, w', -1, dz σ fr, fr, rfl, rfl, a2, dz_pd h.2.1 ht⟩
end PJ
/-- names of both sides that are one -/
def iota (g : State) (w : ch_W) (L : Nat) (σ : ch_S) (x y : Int32) : Prop := ∃ i j t, x = Int32.ofNat i ∧ i < 3000 ∧ y = Int32.ofNat j ∧ j < 1600 ∧ cn g w L i t ∧ mn σ j t
def v_leaf (g : State) (L : Nat) (w : ch_W) (σ : ch_S) (a n : Nat) : Prop :=
  (ch_gi w a fX10_kind = 0 ∧ σ.2 fX3_is n = 0 ∧ ch_gi w a fX10_type = -1 ∧ ch_gi w a fX10_what = σ.2 fX3_of n) ∨
  (ch_gi w a fX10_kind = 0 ∧ σ.2 fX3_is n = 21 ∧ ch_gi w a fX10_type = -2 ∧ ch_gi w a fX10_what = σ.2 fX3_of n ∧ (σ.2 fX3_of n = 0 ∨ σ.2 fX3_of n = 1)) ∨
  (ch_gi w a fX10_kind = 1 ∧ σ.2 fX3_is n = 1) ∨ (ch_gi w a fX10_kind = 2 ∧ σ.2 fX3_is n = 2) ∨ (ch_gi w a fX10_kind = 3 ∧ σ.2 fX3_is n = 3) ∨
  (ch_gi w a fX10_kind = 4 ∧ σ.2 fX3_is n = 4 ∧ iota g w L σ (ch_gi w a fX10_what) (σ.2 fX3_of n)) ∨
  (ch_gi w a fX10_kind = 6 ∧ σ.2 fX3_is n = 5 ∧ iota g w L σ (ch_gi w a fX10_what) (σ.2 fX3_of n))
def v_un (w : ch_W) (σ : ch_S) (a n : Nat) : Prop :=
  (ch_gi w a fX10_kind = 7 ∧ σ.2 fX3_is n = 12) ∨ (ch_gi w a fX10_kind = 8 ∧ σ.2 fX3_is n = 13) ∨ (ch_gi w a fX10_kind = 9 ∧ σ.2 fX3_is n = 14)
def v_nm (g : State) (L : Nat) (w : ch_W) (σ : ch_S) (a n : Nat) : Prop :=
  ((ch_gi w a fX10_kind = 10 ∧ σ.2 fX3_is n = 6) ∨ (ch_gi w a fX10_kind = 13 ∧ σ.2 fX3_is n = 10) ∨ (ch_gi w a fX10_kind = 14 ∧ σ.2 fX3_is n = 11)) ∧ iota g w L σ (ch_gi w a fX10_what) (σ.2 fX3_of n)
def v_sg (x y : Int32) : Prop := (x = 61 ∧ y = 317) ∨ (x = 33 ∧ y = 289) ∨ (x = 60 ∧ y = 60) ∨ (x = 108 ∧ y = 316) ∨ (x = 43 ∧ y = 43) ∨ (x = 45 ∧ y = 45) ∨ (x = 42 ∧ y = 42) ∨ (x = 47 ∧ y = 47) ∨ (x = 37 ∧ y = 37)
def v_bi (w : ch_W) (σ : ch_S) (a n : Nat) : Prop :=
  (ch_gi w a fX10_kind = 12 ∧ σ.2 fX3_is n = 7) ∨ (ch_gi w a fX10_kind = 16 ∧ σ.2 fX3_is n = 16) ∨ (ch_gi w a fX10_kind = 17 ∧ σ.2 fX3_is n = 17) ∨ (ch_gi w a fX10_kind = 15 ∧ σ.2 fX3_is n = 15 ∧ v_sg (ch_gi w a fX10_what) (σ.2 fX3_of n))
/-- a row of arguments, from node y0 up to n -/
def v_row (r L P : Nat) (w : ch_W) (σ : ch_S) (a n y0 v m B : Nat) (Y : Nat → Nat) : Prop :=
  ch_gr w a fX10_arguments = some v ∧ ow r L P w v ∧ P ≤ v ∧ ch_tg w v = 27 ∧ ch_ln w v = m ∧ σ.2 fX3_two n = Int32.ofNat B ∧ σ.2 fX3_typeOf n = Int32.ofNat m ∧ B + m ≤ nn σ fX3_listed ∧ m ≤ 1400 ∧ nn σ fX3_listed ≤ 1500 ∧ Y 0 = y0 ∧ Y m = n ∧ ∀ i : Nat, i < m → Y i < Y (i + 1) ∧ Y (i + 1) ≤ n ∧ σ.2 fX3_list (B + i) = Int32.ofNat (Y (i + 1) - 1)
/-- THE SAME TREE: the component's at a; the model's at n, its nodes from lo on -/
def vt (g : State) (r L P : Nat) (w : ch_W) (σ : ch_S) (a lo n : Nat) : Prop :=
  ow r L P w a ∧ P ≤ a ∧ ch_tg w a = 11 ∧ lo ≤ n ∧ n < nn σ fX3_nodes ∧ nn σ fX3_nodes ≤ 1500 ∧
  ((lo = n ∧ v_leaf g L w σ a n) ∨
   (v_un w σ a n ∧ ∃ b, ch_gr w a fX10_right = some b ∧ ∃ _ : 0 < n, σ.2 fX3_one n = Int32.ofNat (n - 1) ∧ vt g r L P w σ b lo (n - 1)) ∨
   (v_nm g L w σ a n ∧ ∃ b, ch_gr w a fX10_left = some b ∧ ∃ _ : 0 < n, σ.2 fX3_one n = Int32.ofNat (n - 1) ∧ vt g r L P w σ b lo (n - 1)) ∨
   (v_bi w σ a n ∧ ∃ b c x, ch_gr w a fX10_left = some b ∧ ch_gr w a fX10_right = some c ∧ ∃ _ : x + 1 < n, σ.2 fX3_one n = Int32.ofNat x ∧ σ.2 fX3_two n = Int32.ofNat (n - 1) ∧ vt g r L P w σ b lo x ∧ vt g r L P w σ c (x + 1) (n - 1)) ∨
   (ch_gi w a fX10_kind = 5 ∧ σ.2 fX3_is n = 9 ∧ iota g w L σ (ch_gi w a fX10_what) (σ.2 fX3_of n) ∧ ∃ v m B Y, v_row r L P w σ a n lo v m B Y ∧ ∀ (i : Nat) (_ : i < m ∧ Y i < Y (i + 1) ∧ Y (i + 1) ≤ n), ∃ b, ch_gr w v i = some b ∧ vt g r L P w σ b (Y i) (Y (i + 1) - 1)) ∨
   (ch_gi w a fX10_kind = 11 ∧ σ.2 fX3_is n = 8 ∧ iota g w L σ (ch_gi w a fX10_what) (σ.2 fX3_of n) ∧ ∃ c x, ch_gr w a fX10_left = some c ∧ ∃ _ : x < n, σ.2 fX3_one n = Int32.ofNat x ∧ vt g r L P w σ c lo x ∧ ∃ v m B Y, v_row r L P w σ a n (x + 1) v m B Y ∧ ∀ (i : Nat) (_ : i < m ∧ Y i < Y (i + 1) ∧ Y (i + 1) ≤ n), ∃ b, ch_gr w v i = some b ∧ vt g r L P w σ b (Y i) (Y (i + 1) - 1)))
termination_by n
decreasing_by all_goals omega
