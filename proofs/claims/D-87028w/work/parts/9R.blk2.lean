/-! LEVEL B2: blocks of both sides -/
set_option maxRecDepth 100000
/-- a statement of the model answers its number, or -1 -/
def rtO (x : Option (Int32 × ch_S)) (v : Int32) : Prop := ∀ p, x = some p → p.1 = v ∨ p.1 = -1
theorem rtO.bd {α : Type} {x : Option α} {k : α → Option (Int32 × ch_S)} {v : Int32} (h : ∀ a, x = some a → rtO (k a) v) : rtO (x.bind k) v := by
  intro p hp
  cases x with
  | none => cases hp
  | some a => exact h a rfl p hp
theorem rtO.ite {c : Prop} [Decidable c] {a b : Option (Int32 × ch_S)} {v : Int32} (h1 : rtO a v) (h2 : rtO b v) : rtO (if c then a else b) v := by
  split
  · exact h1
  · exact h2
theorem rtO.ok {v : Int32} {σ : ch_S} : rtO (some (v, σ)) v := fun p hp => by
  injection hp with hp
  left
  rw [← hp]
theorem rt_beg {kd : Int32} {σ : ch_S} {p : Int32 × ch_S} (h : m_X3_begun kd σ = some p) : p.1 = σ.1 fX3_statements := by
  unfold m_X3_begun at h
  simp only [Option.bind_eq_some_iff] at h
  obtain ⟨_, _, _, _, _, _, _, _, _, _, _, _, _, _, _, _, _, _, _, _, h⟩ := h
  injection h with h
  rw [← h]
theorem rt_78 {rc : Nat → ch_S → Option (Int32 × ch_S)} {x : Int32} {σ : ch_S} : rtO (m_X3_statement_78 rc x σ) x := by
  unfold m_X3_statement_78
  exact rtO.bd fun _ _ => rtO.bd fun _ _ => rtO.ok
theorem rt_29 {rc : Nat → ch_S → Option (Int32 × ch_S)} {σ : ch_S} : rtO (m_X3_statement_29 rc σ) (σ.1 fX3_statements) := by
  unfold m_X3_statement_29
  refine rtO.bd fun p1 h1 => ?_
  rw [← rt_beg h1]
  exact rtO.bd fun _ _ => rtO.bd fun _ _ => rtO.bd fun _ _ => rtO.bd fun _ _ => rtO.bd fun _ _ => rtO.ite rt_78 (rtO.bd fun _ _ => rtO.bd fun _ _ => rtO.bd fun _ _ => rt_78)
theorem rt_380 {rc : Nat → ch_S → Option (Int32 × ch_S)} {x y : Int32} {σ : ch_S} : rtO (m_X3_statement_380 rc x y σ) (σ.1 fX3_statements) := by
  unfold m_X3_statement_380 m_X3_statement_403
  refine rtO.bd fun p1 h1 => ?_
  rw [← rt_beg h1]
  exact rtO.bd fun _ _ => rtO.ite (rtO.bd fun _ _ => rtO.ite (rtO.bd fun _ _ => rtO.bd fun _ _ => (rt_78 (rc := rc))) (rt_78 (rc := rc))) (rtO.bd fun _ _ => rtO.bd fun _ _ => (rt_78 (rc := rc)))
theorem rt_132 {v : Int32} {σ : ch_S} : rtO (m_X3_placed_132 σ) v := by
  unfold m_X3_placed_132 m_X3_fails
  refine rtO.bd fun p h1 => ?_
  intro p2 hp
  injection hp with hp
  right
  rw [← hp]
  dsimp only
  split at h1
  · simp only [Option.bind_eq_some_iff] at h1
    obtain ⟨_, _, _, _, h1⟩ := h1
    injection h1 with h1
    rw [← h1]
  · simp only [Option.bind_eq_some_iff] at h1
    obtain ⟨_, _, h1⟩ := h1
    injection h1 with h1
    rw [← h1]
theorem rt_pl {σ : ch_S} : rtO (m_X3_placed σ) (σ.1 fX3_statements) := by
  have h101 : ∀ (x y : Int32) (σ : ch_S), rtO (m_X3_placed_101 x y σ) x := fun x y σ => by
    unfold m_X3_placed_101
    exact rtO.bd fun _ _ => rtO.ite rt_132 (rtO.bd fun _ _ => rtO.ite (rt_78 (rc := fun _ _ => none)) (rtO.bd fun _ _ => rtO.ite (rt_78 (rc := fun _ _ => none)) rt_132))
  have h69 : ∀ (x y : Int32) (σ : ch_S), rtO (m_X3_placed_69 x y σ) x := fun x y σ => by
    unfold m_X3_placed_69
    exact rtO.bd fun _ _ => rtO.bd fun _ _ => rtO.bd fun _ _ => rtO.bd fun _ _ => rtO.bd fun _ _ => (rt_78 (rc := fun _ _ => none))
  unfold m_X3_placed
  refine rtO.bd fun p1 h1 => ?_
  rw [← rt_beg h1]
  exact rtO.bd fun _ _ => rtO.ite (rtO.bd fun _ _ => rtO.bd fun _ _ => rtO.ite (h101 _ _ _) (rtO.bd fun _ _ => rtO.ite (h69 _ _ _) (rtO.bd fun _ _ => rtO.ite (h69 _ _ _) (rtO.bd fun _ _ => rtO.ite (h69 _ _ _) (h101 _ _ _))))) rtO.ok
theorem rt_107 {rc : Nat → ch_S → Option (Int32 × ch_S)} {y : Int32} {σ : ch_S} : rtO (m_X3_statement_107 rc y σ) (σ.1 fX3_statements) := by
  have h205 : ∀ (x y z : Int32) (σ : ch_S), rtO (m_X3_statement_205 rc x y z σ) x := fun x y z σ => by
    unfold m_X3_statement_205
    exact rtO.bd fun _ _ => rtO.bd fun _ _ => rtO.ite rtO.ok (rtO.bd fun _ _ => rtO.bd fun _ _ => rtO.bd fun _ _ => rtO.ok)
  have hpl : rtO ((m_X3_placed σ).bind fun p15 => some ((p15.1, p15.2))) (σ.1 fX3_statements) := by
    have : ((m_X3_placed σ).bind fun p15 => some ((p15.1, p15.2))) = m_X3_placed σ := by
      cases m_X3_placed σ <;> rfl
    rw [this]
    exact rt_pl
  have hrt : rtO (if y = 9 then (m_X3_statement_380 rc y 3 σ) else (if y = 10 then (m_X3_statement_380 rc y 4 σ) else (m_X3_statement_380 rc y 6 σ))) (σ.1 fX3_statements) := rtO.ite rt_380 (rtO.ite rt_380 rt_380)
  unfold m_X3_statement_107
  refine rtO.ite ?_ (rtO.ite hpl (rtO.ite ?_ (rtO.ite hrt (rtO.ite hrt (rtO.ite ?_ (rtO.ite hpl (rtO.ite hrt hpl)))))))
  · refine rtO.bd fun p1 h1 => ?_
    rw [← rt_beg h1]
    exact rtO.bd fun _ _ => rtO.bd fun _ _ => rtO.bd fun _ _ => rtO.bd fun _ _ => rtO.bd fun _ _ => rtO.bd fun _ _ => rtO.ite (h205 _ _ _ _) (h205 _ _ _ _)
  · refine rtO.bd fun p1 h1 => ?_
    rw [← rt_beg h1]
    exact rtO.bd fun _ _ => rtO.bd fun _ _ => rtO.bd fun _ _ => rtO.bd fun _ _ => rtO.bd fun _ _ => rtO.ok
  · refine rtO.bd fun p1 h1 => ?_
    rw [← rt_beg h1]
    exact rtO.bd fun _ _ => rtO.bd fun _ _ => rtO.bd fun _ _ => rtO.bd fun _ _ => rtO.bd fun _ _ => rtO.ite rtO.ok (rtO.bd fun _ _ => rtO.bd fun _ _ => rtO.ite rtO.ok (rtO.bd fun _ _ => rtO.bd fun _ _ => rtO.bd fun _ _ => rtO.bd fun _ _ => rtO.bd fun _ _ => rtO.bd fun _ _ => rtO.bd fun _ _ => rtO.ok))
section BL
variable {g : State} {P r L S n C1 C2 : Nat} {f : Nat → Nat} {w w' w0 : ch_W} {σ σ' σ0 : ch_S} {tc fr tt op fr0 : Nat}
theorem rt_stm {e : Nat} (h : pj g P r L S n f C1 C2 w σ tc fr tt op op fr) : rtO (cr_MB (e + 1) 1 σ) (Int32.ofNat (nn σ fX3_statements)) := by
  have e1 : Int32.ofNat (nn σ fX3_statements) = σ.1 fX3_statements := h.2.1.2.2.2.2.2.2.2.2.2.symm
  rw [e1]
  show rtO (m_X3_statement (cr_MB e) σ) _
  unfold m_X3_statement m_X3_statement_91
  obtain ⟨v, σ1, -, -, a3, a4, -, -⟩ := pj_ahead h
  have e2 : σ.1 fX3_statements = σ1.1 fX3_statements := (a4.1 _ (by decide)).symm
  refine rtO.bd fun _ _ => rtO.ite (rtO.ite (rtO.ite ?_ (rtO.ite rt_107 rt_107)) (rtO.ite rt_107 rt_107)) rt_29
  rw [a3, Option.bind_some]
  dsimp only
  rw [e2]
  exact rtO.ite (rtO.ite rt_107 rt_107) rt_29
theorem sth.keeps {hi hi' : Nat} (hp : pf g r L P w w') (hm : mfs σ σ') (hn1 : nn σ' fX3_nodes ≤ 1500) (hl1 : nn σ' fX3_listed ≤ 1500) (hh : hi ≤ nn σ fX3_statements) (h2 : hi ≤ hi') (h3 : hi' ≤ 1500) {a s : Nat} (h : sth g r L P w σ hi a s) : sth g r L P w' σ' hi' a s :=
  sth.keep0 (a0 := 0) (s1 := 0) (fun x hx _ => hp.2.1 x hx) hp.2.2 hm.mg hn1 hl1 h2 h3 (fun arr h1 _ k _ hk => hm.2.2.2.2.2.2.2.2.1 arr h1 k (by omega)) (fun k _ hk => hm.2.2.2.2.2.2.2.2.1 fX3_nextOf (by decide) k (by omega)) 1600 a s (by omega) (by omega) (by omega) h
/-- what a block leaves -/
def bQ (g : State) (P r L S n : Nat) (f : Nat → Nat) (C1 C2 op : Nat) (w : ch_W) (σ : ch_S) (fr : Nat) (x : Option Nat) (w' : ch_W) (y : Int32) (σ' : ch_S) : Prop := ∃ b m Z, x = some b ∧ s_row r L P w' σ' (nn σ' fX3_statements) b y (nn σ fX3_statements) m Z ∧ (∀ i : Nat, i < m → ∃ a', ch_gr w' b i = some a' ∧ ch_nx w ≤ a' ∧ st g r L P w' σ' a' (Z i)) ∧ (∃ cl, cl ≤ 3000 ∧ ch_gi w' r fX4_closing = Int32.ofNat cl ∧ σ'.1 fX3_blockEnd = Int32.ofNat cl) ∧ pgs g P r L S n f C1 C2 4 2 2 op op w σ fr w' σ'
def SP (g : State) (P r L S n : Nat) (f : Nat → Nat) (C1 C2 op d e : Nat) : Prop := ∀ w σ tc fr tt, pj g P r L S n f C1 C2 w σ tc fr tt op op fr → rm1 L n C1 C2 w σ fr → pos P n C1 C2 0 0 w σ fr (cr_PS g d 1 r 0 w) (cr_MB e 1 σ) (sQ g P r L S n f C1 C2 op w σ fr)
def BP (g : State) (P r L S n : Nat) (f : Nat → Nat) (C1 C2 op d e : Nat) : Prop := ∀ w σ tc fr tt, pj g P r L S n f C1 C2 w σ tc fr tt op op fr → pos P n C1 C2 0 0 w σ fr (cr_PS g d 0 r 0 w) (cr_MB e 0 σ) (bQ g P r L S n f C1 C2 op w σ fr)
/-- i statements of a block are there -/
def bI (g : State) (P r L S n : Nat) (f : Nat → Nat) (C1 C2 op : Nat) (w0 : ch_W) (σ0 : ch_S) (fr0 La : Nat) (w : ch_W) (σ : ch_S) (tc fr tt i A cap : Nat) (E Z : Nat → Nat) (x1 x2 : Int32) : Prop :=
  jo g P r L w w0 La A i cap 10 E ∧ pj g P r L S n f C1 C2 w σ tc fr tt (op + 1) (op + 1) fr ∧ pf g r L P w0 w ∧ mfs σ0 σ ∧ fr0 < fr ∧ (i = 0 ∧ x1 = -1 ∧ x2 = -1 ∨ 0 < i ∧ x1 = Int32.ofNat (Z 0) ∧ x2 = Int32.ofNat (Z (i - 1))) ∧ Z 0 = nn σ0 fX3_statements ∧ Z i = nn σ fX3_statements ∧ i ≤ fr ∧
  (∀ k : Nat, k < i → Z k < Z (k + 1) ∧ σ.2 fX3_nextOf (Z k) = (if k + 1 < i then Int32.ofNat (Z (k + 1)) else -1) ∧ ch_nx w0 ≤ E k ∧ sth g r L P w σ (Z (k + 1)) (E k) (Z k)) ∧
  ((ch_cs w : Int) + 32 * (2 + i) ≤ ch_cs w0 + 128 * ((fr : Int) - fr0) ∧ (ch_sl w : Int) + 4 * cpN w0 L + 256 * (2 + i) ≤ ch_sl w0 + 1024 * ((fr : Int) - fr0) + 4 * cpN w L + 4 * cap ∧ (nn σ fX3_nodes : Int) + 1 ≤ nn σ0 fX3_nodes + ((fr : Int) - fr0) ∧ (nn σ fX3_listed : Int) + 1 ≤ nn σ0 fX3_listed + ((fr : Int) - fr0) ∧ (nn σ fX3_statements : Int) + 1 ≤ nn σ0 fX3_statements + ((fr : Int) - fr0))
/-- the state behind another statement -/
theorem bI_more {La i A cap : Nat} {E Z : Nat → Nat} {w2 : ch_W} {σ2 : ch_S} {a2 s : Nat} {x1 x2 : Int32} (hA0 : pjA L n C1 C2 w0 σ0 fr0) (hP0 : P ≤ ch_nx w0) (hI : bI g P r L S n f C1 C2 op w0 σ0 fr0 La w σ tc fr tt i A cap E Z x1 x2) (hs : s = nn σ fX3_statements) (ha : ch_nx w ≤ a2) (hst : st g r L P w2 σ2 a2 s) (hnx : σ2.2 fX3_nextOf s = -1) (hg : pgs g P r L S n f C1 C2 2 0 0 (op + 1) (op + 1) w σ fr w2 σ2) :
    ∃ w4 A' cap' σ4 tc4 fr4 tt4 Z', ch_tg w2 La = 14 ∧ c_J5_add g La (some a2) w2 = some (1, w4) ∧ (if x2 < 0 then σ4 = σ2 else ∃ k : Nat, k < 1600 ∧ x2 = Int32.ofNat k ∧ σ4 = md_sa σ2 fX3_nextOf k (Int32.ofNat s)) ∧ nn σ fX3_statements < nn σ4 fX3_statements ∧ bI g P r L S n f C1 C2 op w0 σ0 fr0 La w4 σ4 tc4 fr4 tt4 (i + 1) A' cap' (le_up E i a2) Z' (if x1 < 0 then Int32.ofNat s else x1) (Int32.ofNat s) := by
  obtain ⟨j1, j2, j3, j4, j5, j6, j7, j8, j9, j10, i1, i2, i3, i4, i5⟩ := hI
  obtain ⟨tc4, fr4, tt4, z3, z4, z5⟩ := hg
  have hb4 := z4.2.2
  unfold bds at hb4
  have hA3 := z3.2.2
  have hA03 := hA0
  unfold pjA at hA3 hA03
  have htk3 := z3.1.2.2.2.2.2.2.1.2.2.2
  have hfn := htk3.2.1
  have hff := htk3.1
  have hn12 := z3.2.1.2.2.2.2.1
  have hvow : ∀ k : Nat, k < i → ow r L P w (E k) := fun k hk => by
    have := (j10 k hk).2.2.2
    rw [sth] at this
    exact this.1
  have hjo := j1.pf z4.1 hvow
  have hcapb := hjo.1.2.2.2.2.2.1
  have hst' := hst
  rw [st, sth] at hst'
  have hta2 : ch_tg w2 a2 = 10 := hst'.2.2.1
  have hslt : s < nn σ2 fX3_statements := hst'.2.2.2.1
  have how2 := hst'.1
  clear hst'
  obtain ⟨r1, r2⟩ := pjC_room z3 hff
  have hpf2 := j3.trans z4.1
  have hZm : ∀ a b : Nat, a ≤ b → b ≤ i → Z a ≤ Z b := Ymono (fun k hk => (j10 k hk).1)
  obtain ⟨w4, A', cap', g1, g2, g3, g4, g5, g6, g7, g8, g9, g10, g11⟩ := jo_add z3.1 hjo (by omega) (Or.inl rfl) hta2 hP0 hpf2.1 (by omega) (by omega)
  have hcap4 := g2.1.2.2.2.2.2.1
  -- the model's state
  have hσ4 : ∃ σ4, (if x2 < 0 then σ4 = σ2 else ∃ k : Nat, k < 1600 ∧ x2 = Int32.ofNat k ∧ σ4 = md_sa σ2 fX3_nextOf k (Int32.ofNat s)) ∧ pj g P r L S n f C1 C2 w2 σ4 tc4 fr4 tt4 (op + 1) (op + 1) fr4 ∧ mfs σ0 σ4 ∧ mg σ2 σ4 ∧ (∀ k : Nat, nn σ4 k = nn σ2 k) ∧ (∀ arr : Nat, arr ≠ fX3_nextOf → σ4.2 arr = σ2.2 arr) ∧ (∀ k : Nat, (0 < i → k ≠ Z (i - 1)) → σ4.2 fX3_nextOf k = σ2.2 fX3_nextOf k) ∧ (0 < i → σ4.2 fX3_nextOf (Z (i - 1)) = Int32.ofNat s) := by
    rcases j6 with ⟨q1, q2, q3⟩ | ⟨q1, q2, q3⟩
    · exact ⟨σ2, by rw [q3, if_pos bn_m1], z3, j4.trans z4.2.1, mf.refl.mg, fun _ => rfl, fun _ _ => rfl, fun _ _ => rfl, fun q => by omega⟩
    · have hz1 := hZm (i - 1) i (by omega) (Nat.le_refl _)
      have hz0 := hZm 0 (i - 1) (by omega) (by omega)
      refine ⟨md_sa σ2 fX3_nextOf (Z (i - 1)) (Int32.ofNat s), ?_, pj_sa z3 (by decide), mf_sa (j4.trans z4.2.1) (by decide) (by omega), mg_sa (by decide), fun _ => rfl, fun arr q => ?_, fun k q => ?_, fun _ => by rw [md_ga, if_pos ⟨rfl, rfl⟩]⟩
      · rw [q3, if_neg (bn_nn (by omega))]
        exact ⟨Z (i - 1), by omega, rfl, rfl⟩
      · funext k
        rw [md_an q]
      · rw [md_ga, if_neg (fun y => q q1 y.2)]
  obtain ⟨σ4, k1, k2, k3, k4, k5, k6, k7, k8⟩ := hσ4
  have hkk : ∀ (hi a s1 : Nat), hi ≤ 1500 → sth g r L P w2 σ2 hi a s1 → (0 < i → ∀ k' : Nat, s1 < k' → k' < hi → k' ≠ Z (i - 1)) → sth g r L P w4 σ4 hi a s1 := by
    intro hi a s1 h0 h1 h2
    refine sth.keep0 (a0 := 0) (s1 := s1) (fun x hx hor => ⟨g8 x (by omega), g5 x hx⟩) g6 k4 (by rw [k5]; omega) (by rw [k5]; omega) (Nat.le_refl _) h0 (fun arr _ q k _ _ => by rw [k6 arr q]) (fun k' q1 q2 => k7 k' (fun q => h2 q k' q1 q2)) 1600 a s1 (by omega) (by omega) (Nat.le_refl _) h1
  refine ⟨w4, A', cap', σ4, tc4, fr4, tt4, fun k => if k = i + 1 then nn σ2 fX3_statements else Z k, hjo.1.1, g1, k1, by rw [k5]; omega, g2, ⟨g3, k2.2.1, ?_⟩, g7 hpf2, k3, by omega, ?_, ?_, ?_, by omega, fun k hk => ?_, ?_, ?_, ?_, ?_, ?_⟩
  · unfold pjA
    rw [g4, k5, k5, k5, k5]
    omega
  · right
    refine ⟨by omega, ?_, ?_⟩
    · show _ = Int32.ofNat (if 0 = i + 1 then _ else Z 0)
      rw [if_neg (show ¬ 0 = i + 1 by omega)]
      rcases j6 with ⟨q1, q2, q3⟩ | ⟨q1, q2, q3⟩
      · rw [q2, if_pos bn_m1, hs, ← j8, q1]
      · rw [q2, if_neg (bn_nn (by omega))]
    · show _ = Int32.ofNat (if i + 1 - 1 = i + 1 then _ else Z (i + 1 - 1))
      rw [if_neg (show ¬ i + 1 - 1 = i + 1 by omega), Nat.add_sub_cancel, hs, j8]
  · show (if 0 = i + 1 then _ else Z 0) = _
    rw [if_neg (show ¬ 0 = i + 1 by omega)]; exact j7
  · show (if i + 1 = i + 1 then nn σ2 fX3_statements else _) = _
    rw [if_pos rfl, k5]
  · show (if k = i + 1 then _ else Z k) < (if k + 1 = i + 1 then nn σ2 fX3_statements else Z (k + 1)) ∧ σ4.2 fX3_nextOf (if k = i + 1 then _ else Z k) = (if k + 1 < i + 1 then Int32.ofNat (if k + 1 = i + 1 then nn σ2 fX3_statements else Z (k + 1)) else -1) ∧ ch_nx w0 ≤ le_up E i a2 k ∧ sth g r L P w4 σ4 (if k + 1 = i + 1 then nn σ2 fX3_statements else Z (k + 1)) (le_up E i a2 k) (if k = i + 1 then _ else Z k)
    rw [if_neg (show ¬ k = i + 1 by omega)]
    by_cases hki : k = i
    · subst hki
      rw [if_pos rfl, if_neg (show ¬ k + 1 < k + 1 by omega)]
      unfold le_up
      rw [if_pos rfl, j8, ← hs]
      have hz1 : 0 < k → Z (k - 1) < Z k := fun q => by
        have := (j10 (k - 1) (by omega)).1
        rw [show k - 1 + 1 = k by omega] at this
        exact this
      refine ⟨hslt, ?_, ?_, hkk _ _ _ (by omega) hst (fun q k' q1 q2 => ?_)⟩
      · rw [k7 s (fun q => ?_)]
        · exact hnx
        · have := hz1 q
          omega
      · have := j3.1
        omega
      · have := hz1 q
        omega
    · rw [if_neg (show ¬ k + 1 = i + 1 by omega), if_pos (show k + 1 < i + 1 by omega)]
      obtain ⟨y1, y2, y3, y4⟩ := j10 k (by omega)
      have hz2 := hZm (k + 1) i (by omega) (Nat.le_refl _)
      have hz0 := hZm 0 k (by omega) (by omega)
      unfold le_up
      rw [if_neg hki]
      refine ⟨y1, ?_, y3, hkk _ _ _ (by omega) (y4.keeps z4.1 z4.2.1 (by omega) (by omega) (by omega) (Nat.le_refl _) (by omega)) (fun q k' q1 q2 => ?_)⟩
      · by_cases hkl : k + 1 = i
        · have e1 : Z k = Z (i - 1) := by rw [show i - 1 = k by omega]
          rw [e1, k8 (by omega), hkl, j8, hs]
        · have hz3 := hZm (k + 1) (i - 1) (by omega) (by omega)
          rw [k7 (Z k) (fun _ => by omega), z4.2.1.2.2.2.2.2.2.2.2.1 fX3_nextOf (by decide) (Z k) (by omega), y2, if_pos (show k + 1 < i by omega)]
      · by_cases hkl : k + 1 = i
        · have e1 : Z k = Z (i - 1) := by rw [show i - 1 = k by omega]
          omega
        · have hz3 := hZm (k + 1) (i - 1) (by omega) (by omega)
          omega
  · omega
  · rw [g4]; omega
  · rw [k5]; omega
  · rw [k5]; omega
  · rw [k5]; omega
end BL
