/-! LEVEL B2: classes: lists of one's own, classes that are the same -/
set_option maxRecDepth 100000
/-- where a list's row lies -/
def lrw (r L P : Nat) (w : ch_W) (A : Nat) : Prop := (A < P ∧ ch_tg w A = 55) ∨ (ow r L P w A ∧ P ≤ A ∧ ch_tg w A = 25)
section LA
variable {g : State} {P r L S n K hA : Nat} {f : Nat → Nat} {w w' : ch_W} {tc fr tt op ps : Nat}
theorem lst_add {La A k cap T x : Nat} {E : Nat → Nat} (hC : pjC g P r L S n f w tc fr tt op ps) (h : jl g w La A k cap T E) (hLa : ow r L P w La) (hPL : P ≤ La) (hA1 : lrw r L P w A) (hk : k < 100000) (hT : 0 < T ∧ T < 31 ∧ T ≠ 20) (hx : ch_tg w x = T) (hc1 : ch_cs w + 1 ≤ 601024) (hc2 : ch_sl w + (2 * cap + 10) ≤ 7293034) :
    ∃ w' A' cap', c_J5_add g La (some x) w = some (1, w') ∧ jl g w' La A' (k + 1) cap' T (le_up E k x) ∧ pjC g P r L S n f w' tc fr tt op ps ∧ cpN w' L = cpN w L ∧ (∀ b : Nat, ow r L P w b → ow r L P w' b) ∧ (∀ (i : Nat) (t : List Nat), cn g w L i t → cn g w' L i t) ∧ (∀ a : Nat, a ≠ La → a ≠ A' → w'.1 a = w.1 a) ∧ ((A' = A ∧ ow r L P w A ∧ P ≤ A) ∨ A' = ch_nx w) ∧ lrw r L P w' A' ∧ P ≤ A' ∧ A' < ch_nx w' ∧ ch_nx w ≤ ch_nx w' ∧ ch_cs w' ≤ ch_cs w + 1 ∧ ch_sl w' + 4 * cap ≤ ch_sl w + 4 * cap' := by
  have hwf := hC.2.2.2.2.2.1
  obtain ⟨w', g1, A', cap', g2, g3, g4⟩ := jl_add (g := g) h hwf hk hT hx hc1 hc2
  have hLan := hwf La (by rw [h.1]; decide)
  have hAn := hwf A (by rcases h.2.2.2.2.2.2.1 with q | q <;> omega)
  have hk1 := g2.2.2.2.2.1
  have hPn : P ≤ ch_nx w := by
    have := hC.2.2.1
    have := hwf r (by rw [hC.2.2.2.2.2.2.1.1.1]; decide)
    omega
  obtain ⟨z1, z2, z3⟩ : ch_nx w ≤ ch_nx w' ∧ ch_cs w' ≤ ch_cs w + 1 ∧ ch_sl w' + 4 * cap ≤ ch_sl w + 4 * cap' := by
    rcases g3 with ⟨q1, q2, q3⟩ | ⟨q1, q2, q3, q4, q5⟩
    · have e1 : ch_nx w' = ch_nx w := by unfold ch_nx; rw [q3]
      have e2 : ch_cs w' = ch_cs w := by unfold ch_cs; rw [q3]
      have e3 : ch_sl w' = ch_sl w := by unfold ch_sl; rw [q3]
      omega
    · have e1 : ch_nx w' = ch_nx w + 1 := by unfold ch_nx; rw [q3]; rfl
      have e2 : ch_cs w' = ch_cs w + 1 := by unfold ch_cs; rw [q3]; rfl
      have e3 : ch_sl w' = ch_sl w + cap' := by unfold ch_sl; rw [q3]; rfl
      omega
  have hA' : (A' = A ∧ ow r L P w A ∧ P ≤ A ∧ ch_tg w A = 25) ∨ (A' = ch_nx w ∧ ch_nx w' = ch_nx w + 1) := by
    rcases g3 with ⟨q1, q2, q3⟩ | ⟨q1, q2, q3, q4, q5⟩
    · left
      rcases hA1 with q | q
      · exfalso
        rcases h.2.2.2.2.2.2.1 with y | y <;> omega
      · exact ⟨q1, q⟩
    · right
      exact ⟨q1, by unfold ch_nx; rw [q3]; rfl⟩
  have hwf' : ∀ b, ch_tg w' b ≠ 0 → b < ch_nx w' := by
    intro b hb
    by_cases b1 : b = La
    · omega
    · by_cases b2 : b = A'
      · rcases hA' with q | q <;> omega
      · rw [(b_cell (g4 b b1 b2)).1] at hb
        have := hwf b hb
        omega
  have owD : ∀ b : Nat, ow r L P w b → P ≤ b → b ≠ r ∧ b ≠ L ∧ ch_gr w L fJ5_elementData ≠ some b := by
    intro b hb hPb
    rcases hb with q | q
    · omega
    · exact q.2
  have hch : ∀ a : Nat, a < ch_nx w → (P ≤ a ∧ a ≠ r ∧ a ≠ L ∧ ch_gr w L fJ5_elementData ≠ some a ∧ ch_tg w a ≠ 22) ∨ w'.1 a = w.1 a := by
    intro a ha
    by_cases b1 : a = La
    · left
      rw [b1]
      obtain ⟨y1, y2, y3⟩ := owD La hLa hPL
      exact ⟨hPL, y1, y2, y3, by rw [h.1]; decide⟩
    · by_cases b2 : a = A'
      · rcases hA' with ⟨q1, q2, q3, q5⟩ | q
        · left
          rw [b2, q1]
          obtain ⟨y1, y2, y3⟩ := owD A q2 q3
          exact ⟨q3, y1, y2, y3, by rw [q5]; decide⟩
        · omega
      · right
        exact g4 a b1 b2
  obtain ⟨p1, p2, p3, p4, p5⟩ := pjC_gen hC hch z1 hwf'
  have ht25 : ch_tg w' A' = 25 := by
    rcases g2.2.2.2.2.2.2.1 with q | q
    · exact q.1
    · omega
  have howA : ow r L P w' A' := by
    rcases hA' with q | q
    · rw [q.1]; exact p3 A q.2.1
    · obtain ⟨A1, k1, cap1, E1, T1, m1, -, -⟩ := hC.2.2.2.2.2.2.2.2.2.2
      have hLn := hwf L (by rw [m1.1.1]; decide)
      have hrn := hwf r (by rw [hC.2.2.2.2.2.2.1.1.1]; decide)
      have hA1n := hwf A1 (by rcases m1.1.2.2.2.2.2.2.1 with q | q <;> omega)
      refine Or.inr ⟨by omega, by omega, by omega, fun y => ?_⟩
      rw [(b_cell (g4 L (fun z => (owD La hLa hPL).2.1 z.symm) (by omega))).2.2.2.1, m1.1.2.1] at y
      have := Option.some.inj y
      omega
  have hPA' : P ≤ A' := by rcases hA' with q | q <;> omega
  have hAn' : A' < ch_nx w' := by rcases hA' with q | q <;> omega
  refine ⟨w', A', cap', g1, g2, p1, p2, p3, p4, g4, ?_, Or.inr ⟨howA, hPA', ht25⟩, hPA', hAn', z1, z2, z3⟩
  rcases hA' with q | q
  · exact Or.inl ⟨q.1, q.2.1, q.2.2.1⟩
  · exact Or.inr q.1
/-- a new class -/
theorem kin_new {a : Nat} {nm pl : Int32} {E : Nat → Nat} (hb : bb g w) (ha : ch_tg w a = 7) (han : a < ch_nx w) (hz : ∀ k : Nat, ch_gr w a k = none) (hc1 : ch_cs w + 1 ≤ 601024) (hc2 : ch_sl w + 3 ≤ 7293034) (hP : g.heap.size ≤ P) (hPa : P ≤ a) : ∃ w' ae, c_X6_init g a nm pl w = some w' ∧ w'.2 = (ch_nx w + 1, ch_cs w + 1, ch_sl w + 3) ∧ (∀ x : Nat, x ≠ a → x ≠ ch_nx w → w'.1 x = w.1 x) ∧ ch_tg w' a = 7 ∧ ch_gi w' a fX6_name = nm ∧ ch_gi w' a fX6_place = pl ∧ ch_gi w' a fX6_parentName = -1 ∧ ch_gr w' a fX6_parent = none ∧ ch_gr w' a fX6_members = some (ch_nx w) ∧ jl g w' (ch_nx w) ae 0 0 8 E ∧ ae < P := by
  have t1 : ch_tg (ch_nw (ch_si w a fX6_parentName (-1)) (ch_new 14 3)) (ch_nx w) = 14 := by rw [b_tN, b_xI, if_pos rfl]; rfl
  have ta : ch_tg (ch_nw (ch_si w a fX6_parentName (-1)) (ch_new 14 3)) a = 7 := by rw [b_tN, if_neg (by rw [b_xI]; omega), b_tI]; exact ha
  have hb1 : bb g (ch_nw (ch_si w a fX6_parentName (-1)) (ch_new 14 3)) := hb.keep (Nat.le_refl _) (fun x hx => by rw [b_oN (by rw [b_xI]; omega), b_oI (by omega)])
  obtain ⟨w3, ae, e1, e2, e3, e4, e5⟩ := jl_init (T := 8) (e := E) hb1 t1 (by rw [b_IN, b_xI, if_pos rfl]; rfl)
  unfold c_X6_init
  rw [d_pI ha, d_nO (by rw [b_cI]; omega) (by rw [b_sI]; omega)]
  have x1 : ch_nx (ch_si w a fX6_parentName (-1)) = ch_nx w := rfl
  rw [x1, e1, Option.bind_some]
  have t3 : ch_tg w3 a = 7 := by rw [(b_cell (e4 a (by omega))).1]; exact ta
  rw [d_pR t3, d_pI (by rw [b_tR]; exact t3), d_pI (by rw [b_tI, b_tR]; exact t3)]
  have hea : ae ≠ a := by omega
  have hla : ch_nx w ≠ a := by omega
  refine ⟨_, ae, rfl, ?_, fun x h1 h2 => ?_, by rw [b_tI, b_tI, b_tR]; exact t3, ?_, ?_, ?_, ?_, ?_, e2.keep (by rw [b_oI hla, b_oI hla, b_oR hla]) (by rw [b_oI hea, b_oI hea, b_oR hea]) (fun i hi => by omega), by omega⟩
  · show w3.2 = _
    rw [e5]
    rfl
  · rw [b_oI h1, b_oI h1, b_oR h1, e4 x h2, b_oN (by rw [x1]; exact h2), b_oI h1]
  · rw [b_II, if_neg (fun z => absurd z.2 (by decide)), b_II, if_pos ⟨rfl, rfl⟩]
  · rw [b_II, if_pos ⟨rfl, rfl⟩]
  · rw [b_II, if_neg (fun z => absurd z.2 (by decide)), b_II, if_neg (fun z => absurd z.2 (by decide)), b_IR, (b_cell (e4 a (by omega))).2.2.1, b_IN, if_neg (by rw [x1]; omega), b_II, if_pos ⟨rfl, rfl⟩]
  · rw [b_RI, b_RI, b_RR, if_neg (fun z => absurd z.2 (by decide)), (b_cell (e4 a (by omega))).2.2.2.1, b_RN, if_neg (by rw [x1]; omega), b_RI]; exact hz _
  · rw [b_RI, b_RI, b_RR, if_pos ⟨rfl, rfl⟩]
end LA
/-- THE SAME CLASS: the component's at a, the model's c, its members m0..m1 -/
def kin (g : State) (r L K P : Nat) (w : ch_W) (σ : ch_S) (hA hs Cn M Q a c m0 m1 : Nat) : Prop :=
  ow2 r L K P w a ∧ a < hA ∧ c < Cn ∧ ch_tg w a = 7 ∧ iota g w L σ (ch_gi w a fX6_name) (σ.2 fX3_classId c) ∧ ch_gi w a fX6_place = σ.2 fX3_classAt c ∧ (∃ p, σ.2 fX3_classAt c = Int32.ofNat p ∧ p ≤ 3000) ∧ ((ch_gi w a fX6_parentName = -1 ∧ σ.2 fX3_parentId c = -1) ∨ iota g w L σ (ch_gi w a fX6_parentName) (σ.2 fX3_parentId c)) ∧ ch_gr w a fX6_parent = none ∧ m0 ≤ m1 ∧ m1 ≤ M ∧ σ.2 fX3_memberFrom c = Int32.ofNat m0 ∧ σ.2 fX3_memberFrom (c + 1) = Int32.ofNat m1 ∧
  ∃ Lm A cap E, ch_gr w a fX6_members = some Lm ∧ jl g w Lm A (m1 - m0) cap 8 E ∧ ow2 r L K P w Lm ∧ Lm < hA ∧ ((A < P ∧ ch_tg w A = 55) ∨ (ow2 r L K P w A ∧ A < hA ∧ ch_tg w A = 25)) ∧ ∀ k : Nat, k < m1 - m0 → mem g r L K P w σ hA hs M Q (E k) (m0 + k)
/-- what stays of the rows of classes -/
def kcc (Cn : Nat) (σ σ' : ch_S) : Prop := (∀ k : Nat, k < Cn → σ'.2 fX3_classId k = σ.2 fX3_classId k ∧ σ'.2 fX3_classAt k = σ.2 fX3_classAt k ∧ σ'.2 fX3_parentId k = σ.2 fX3_parentId k) ∧ ∀ k : Nat, k ≤ Cn → σ'.2 fX3_memberFrom k = σ.2 fX3_memberFrom k
/-- cf0, and classes' own cells stay -/
def cf1 (g : State) (r L K P hA : Nat) (w w' : ch_W) : Prop := cf0 g r L K P hA w w' ∧ ∀ x : Nat, ow2 r L K P w x → x < hA → (ch_tg w x = 7 ∨ ch_tg w x = 14 ∨ ch_tg w x = 25) → w'.1 x = w.1 x ∧ ow2 r L K P w' x
section KI
variable {g : State} {r L K P hA hs M Q hA' hs' M' Q' Cn Cn' : Nat} {w w' : ch_W} {σ σ' : ch_S}
theorem cf.c1 (h : cf g r L K P hA w w') : cf1 g r L K P hA w w' := ⟨h.c0, fun x h1 h2 _ => h.2.1 x h1 h2⟩
theorem cf1.weak {h0 : Nat} (h : cf1 g r L K P hA w w') (hh : h0 ≤ hA) : cf1 g r L K P h0 w w' := ⟨⟨h.1.1, fun x h1 h2 => h.1.2.1 x h1 (by omega), h.1.2.2⟩, fun x h1 h2 => h.2 x h1 (by omega)⟩
theorem kcc.of (h : ∀ a ∈ ccA, σ'.2 a = σ.2 a) : kcc Cn σ σ' := ⟨fun k _ => ⟨by rw [h _ (by decide)], by rw [h _ (by decide)], by rw [h _ (by decide)]⟩, fun k _ => by rw [h _ (by decide)]⟩
theorem kcc.refl : kcc Cn σ σ := ⟨fun _ _ => ⟨rfl, rfl, rfl⟩, fun _ _ => rfl⟩
theorem kcc.trans {σ1 : ch_S} (h : kcc Cn σ σ1) (h2 : kcc Cn σ1 σ') : kcc Cn σ σ' := ⟨fun k hk => ⟨(h2.1 k hk).1.trans (h.1 k hk).1, (h2.1 k hk).2.1.trans (h.1 k hk).2.1, (h2.1 k hk).2.2.trans (h.1 k hk).2.2⟩, fun k hk => (h2.2 k hk).trans (h.2 k hk)⟩
theorem kin.keep {a c m0 m1 : Nat} (h : kin g r L K P w σ hA hs Cn M Q a c m0 m1) (hc : cf1 g r L K P hA w w') (hm : mfk hs M Q σ σ') (hk : kcc Cn σ σ') (hn1 : nn σ' fX3_nodes ≤ 1500) (hl1 : nn σ' fX3_listed ≤ 1500) (h1 : hA ≤ hA') (h2 : hs ≤ hs') (h3 : M ≤ M') (h4 : Q ≤ Q') (h5 : hs' ≤ 1500) (h6 : Cn ≤ Cn') : kin g r L K P w' σ' hA' hs' Cn' M' Q' a c m0 m1 := by
  obtain ⟨a1, a2, a3, a4, a5, a6, a7, a8, a9, a10, a11, a12, a13, Lm, A, cap, E, b1, b2, b3, b4, b5, b6⟩ := h
  obtain ⟨c1, c2⟩ := hc.2 a a1 a2 (Or.inl a4)
  obtain ⟨e1, e2, e3, e4, -⟩ := b_cell c1
  obtain ⟨k1, k2, k3⟩ := hk.1 c a3
  have kI : ∀ x y : Int32, iota g w L σ x y → iota g w' L σ' x y := fun x y z => z.keep0 hc.1.2.2.2.1 hm.1
  obtain ⟨d1, d2⟩ := hc.2 Lm b3 b4 (Or.inr (Or.inl b2.1))
  have hA1 : w'.1 A = w.1 A := by
    rcases b5 with z | z
    · exact hc.1.2.2.2.2 A z.1
    · exact (hc.2 A z.1 z.2.1 (Or.inr (Or.inr z.2.2))).1
  refine ⟨c2, by omega, by omega, by rw [e1]; exact a4, by rw [e3, k1]; exact kI _ _ a5, by rw [e3, k2]; exact a6, by rw [k2]; exact a7, ?_, by rw [e4]; exact a9, a10, by omega, by rw [hk.2 c (by omega)]; exact a12, by rw [hk.2 (c + 1) (by omega)]; exact a13, Lm, A, cap, E, by rw [e4]; exact b1, b2.keep d1 hA1 (fun i hi => ?_), d2, by omega, ?_, fun k hk => (b6 k hk).keep hc.1 hm hn1 hl1 h1 h2 h3 h4 h5⟩
  · rw [e3, k3]
    rcases a8 with z | z
    · exact Or.inl z
    · exact Or.inr (kI _ _ z)
  · obtain ⟨q1, q2, -, q3, -⟩ := b6 i hi
    rw [(b_cell (hc.1.2.1 _ q1 q2 (Or.inl q3)).1).1]
    exact q3
  · rw [(b_cell hA1).1]
    rcases b5 with z | z
    · exact Or.inl z
    · exact Or.inr ⟨(hc.2 A z.1 z.2.1 (Or.inr (Or.inr z.2.2))).2, by omega, z.2.2⟩
end KI
