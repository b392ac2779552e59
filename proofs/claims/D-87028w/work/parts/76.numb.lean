/-! LEVEL B2: the component's names -/
set_option maxRecDepth 100000
/-- a row of bytes is the text t -/
def rd_tx (w : ch_W) (a : Nat) (t : List Nat) : Prop := ch_tg w a = 22 ∧ ch_ln w a = t.length ∧ t.length ≤ 3000 ∧ ∀ i : Nat, i < t.length → bx (ch_gi w a i) (t.getD i 0)
/-- from b to s a row of bytes has the text t -/
def rd_rw (w : ch_W) (R b s : Nat) (t : List Nat) : Prop := ch_tg w R = 22 ∧ b ≤ s ∧ s ≤ ch_ln w R ∧ ch_ln w R ≤ 3000 ∧ t.length = s - b ∧ ∀ i : Nat, i < s - b → bx (ch_gi w R (b + i)) (t.getD i 0)
theorem lc_at0 {w : ch_W} {x y : Option Nat} {b : Int32} {k : Nat} : ch_loop (fun (s : Int32 × Int32) => c_X4_isAt_18 x y b s.1 s.2 w) (0, Int32.ofNat k) = some 0 := by
  refine ch_loop_inr ?_
  show c_X4_isAt_18 x y b 0 (Int32.ofNat k) w = _
  unfold c_X4_isAt_18
  rw [if_pos rfl]
  rfl
theorem lc_at1 {w : ch_W} {a R b s : Nat} {t u : List Nat} (ha : rd_tx w a u) (hR : rd_rw w R b s t) (hl : u.length = s - b) : ∀ (c i : Nat), (s - b) - i ≤ c → i ≤ s - b → (∀ x : Nat, x < i → u.getD x 0 = t.getD x 0) →
    ch_loop (fun (q : Int32 × Int32) => c_X4_isAt_18 (some a) (some R) (Int32.ofNat b) q.1 q.2 w) (1, Int32.ofNat i) = some (if u = t then 1 else 0) := by
  obtain ⟨a1, a2, a3, a4⟩ := ha
  obtain ⟨r1, r2, r3, r4, r5, r6⟩ := hR
  have fin : ∀ i : Nat, i = s - b → (∀ x : Nat, x < i → u.getD x 0 = t.getD x 0) → ch_loop (fun (q : Int32 × Int32) => c_X4_isAt_18 (some a) (some R) (Int32.ofNat b) q.1 q.2 w) (1, Int32.ofNat i) = some (if u = t then 1 else 0) := by
    intro i hi hx
    rw [if_pos (lx_ext.mpr ⟨by omega, fun x q => hx x (by omega)⟩)]
    refine ch_loop_inr ?_
    show c_X4_isAt_18 (some a) (some R) (Int32.ofNat b) 1 (Int32.ofNat i) w = _
    unfold c_X4_isAt_18
    rw [if_neg (by decide), b_le (Or.inl a1), Option.bind_some, a2, if_neg (by rw [bn_lt (by omega) (by omega)]; omega)]
    rfl
  intro c
  induction c with
  | zero => intro i h1 h2 hx; exact fin i (by omega) hx
  | succ c ih =>
    intro i h1 h2 hx
    by_cases hi : i = s - b
    · exact fin i hi hx
    · have e1 : Int32.ofNat i + 1 = Int32.ofNat (i + 1) := bn_add (b := 1)
      have hbx := a4 i (by omega)
      have hby := r6 i (by omega)
      have hb : c_X4_isAt_18 (some a) (some R) (Int32.ofNat b) 1 (Int32.ofNat i) w = if u.getD i 0 = t.getD i 0 then some (.inl (1, Int32.ofNat (i + 1))) else some (.inl (0, Int32.ofNat (i + 1))) := by
        unfold c_X4_isAt_18
        rw [if_neg (by decide), b_le (Or.inl a1), Option.bind_some, a2, if_pos (by rw [bn_lt (by omega) (by omega)]; omega), b_lI (Or.inl a1) (by omega) (by omega), Option.bind_some, bn_add, b_lI (Or.inl r1) (by omega) (by omega), Option.bind_some, e1]
        simp only [bx_inj hbx hby]
      by_cases hq2 : u.getD i 0 = t.getD i 0
      · rw [if_pos hq2] at hb
        rw [ch_loop_inl hb]
        refine ih (i + 1) (by omega) (by omega) (fun x q => ?_)
        by_cases hx2 : x = i
        · subst hx2; exact hq2
        · exact hx x (by omega)
      · rw [if_neg hq2] at hb
        rw [ch_loop_inl hb, lc_at0, if_neg]
        intro h
        exact hq2 (by rw [h])
theorem lc_isAt {w : ch_W} {a R b s : Nat} {t u : List Nat} (ha : rd_tx w a u) (hR : rd_rw w R b s t) : c_X4_isAt (some a) (some R) (Int32.ofNat b) (Int32.ofNat s) w = some (if u = t then 1 else 0) := by
  obtain ⟨a1, a2, a3, a4⟩ := id ha
  obtain ⟨r1, r2, r3, r4, r5, r6⟩ := id hR
  unfold c_X4_isAt
  rw [b_le (Or.inl a1), Option.bind_some, a2, bn_sub r2]
  by_cases hl : u.length = s - b
  · rw [if_pos (by rw [hl])]
    exact lc_at1 ha hR hl (s - b) 0 (by omega) (by omega) (fun x q => absurd q (by omega))
  · rw [if_neg (by rw [bn_eq (by omega) (by omega)]; exact hl), if_neg (fun h => hl (by rw [h]; exact r5))]
    exact lc_at0 (k := 0)
/-- the reader's names: k of them, T their texts, E their rows -/
def rd_N (g : State) (w : ch_W) (L A k cap : Nat) (E : Nat → Nat) (T : Nat → List Nat) : Prop := jl g w L A k cap 22 E ∧ (∀ i : Nat, i < k → rd_tx w (E i) (T i)) ∧ (∀ i j : Nat, i < k → j < k → T i = T j → i = j) ∧ ∀ i : Nat, i < k → E i ≠ A ∧ E i ≠ L
theorem rd_N.keep {g : State} {w w' : ch_W} {L A k cap : Nat} {E : Nat → Nat} {T : Nat → List Nat} (h : rd_N g w L A k cap E T) (h1 : w'.1 L = w.1 L) (h2 : w'.1 A = w.1 A) (h3 : ∀ i : Nat, i < k → w'.1 (E i) = w.1 (E i)) : rd_N g w' L A k cap E T := by
  obtain ⟨a1, a2, a3, a4⟩ := h
  refine ⟨a1.keep h1 h2 (fun i hi => by rw [(b_cell (h3 i hi)).1]; exact (a2 i hi).1), fun i hi => ?_, a3, a4⟩
  obtain ⟨b1, b2, b3, b4⟩ := a2 i hi
  obtain ⟨c1, c2, c3, -, -⟩ := b_cell (h3 i hi)
  exact ⟨by rw [c1]; exact b1, by rw [c2]; exact b2, b3, fun j hj => by rw [c3]; exact b4 j hj⟩
theorem bx_cpf {c : Int32} {x : Nat} (h : bx c x) : ch_cpf 22 c = true := by
  obtain ⟨h1, h2⟩ := h
  unfold ch_cpf
  rw [if_pos rfl]
  show (decide (-128 ≤ c) && decide (c ≤ 127)) = true
  have e1 : (-128 : Int32).toInt = -128 := rfl
  have e2 : (127 : Int32).toInt = 127 := rfl
  simp only [Bool.and_eq_true, decide_eq_true_eq, Int32.le_iff_toInt_le, e1, e2]
  split at h2 <;> omega
/-- what a new name leaves -/
def rd_nn (g : State) (w w' : ch_W) (L A k cap : Nat) (E : Nat → Nat) (T : Nat → List Nat) (t : List Nat) : Prop := ∃ A' cap', rd_N g w' L A' (k + 1) cap' (le_up E k (ch_nx w)) (lx_up T k t) ∧ (A' = A ∧ cap' = cap ∨ A' = ch_nx w + 1) ∧ (∀ a : Nat, a < ch_nx w → a ≠ L → a ≠ A → w'.1 a = w.1 a) ∧ (A' ≠ A → w'.1 A = w.1 A) ∧ ch_nx w < ch_nx w' ∧ ch_nx w' ≤ ch_nx w + 2 ∧ ch_cs w' ≤ ch_cs w + 2 ∧ ch_sl w' + 4 * cap ≤ ch_sl w + t.length + 4 * cap' ∧ (∀ b, ch_tg w' b ≠ 0 → b < ch_nx w')
theorem lc_num42 {g : State} {w : ch_W} {r L A k cap R b s : Nat} {E : Nat → Nat} {T : Nat → List Nat} {t : List Nat} (hr : ch_tg w r = 5) (hL : ch_gr w r fX4_names = some L) (hN : rd_N g w L A k cap E T) (hwf : ∀ b, ch_tg w b ≠ 0 → b < ch_nx w) (hk : k < 3000) (hR : rd_rw w R b s t) (hnew : ∀ i : Nat, i < k → T i ≠ t) (hc1 : ch_cs w + 2 ≤ 601024) (hc2 : ch_sl w + (3000 + 2 * cap + 10) ≤ 7293034) :
    ∃ w', c_X4_numberOf_42 g r (some R) (Int32.ofNat b) (Int32.ofNat s) (Int32.ofNat k) w = some (Int32.ofNat k, w') ∧ rd_nn g w w' L A k cap E T t := by
  obtain ⟨n1, n2, n3, n4⟩ := id hN
  obtain ⟨r1, r2, r3, r4, r5, r6⟩ := id hR
  have hLn := hwf L (by rw [n1.1]; decide)
  have hrn := hwf r (by rw [hr]; decide)
  have hRn := hwf R (by rw [r1]; decide)
  have hAn : A < ch_nx w := hwf A (by rcases n1.2.2.2.2.2.2.1 with q | q <;> omega)
  unfold c_X4_numberOf_42
  rw [d_gR hr, hL, d_rc n1.1, jl_size n1, Option.bind_some, if_pos rfl, bn_sub r2, d_nA (by omega) (by omega) (by omega), b_le (by rw [b_tN, if_pos rfl]; exact Or.inl rfl), Option.bind_some, b_nN, if_pos rfl]
  have h00 : ¬ (0 : Int32) < 0 := by decide
  have h0b : ¬ Int32.ofNat b < 0 := fun q => absurd ((bn_lt (b := 0) (by omega) (by decide)).mp q) (by omega)
  have h0s : ¬ Int32.ofNat (s - b) < 0 := fun q => absurd ((bn_lt (b := 0) (by omega) (by decide)).mp q) (by omega)
  have hz : (0 : Int32).toNatClampNeg = 0 := rfl
  have hbz : (Int32.ofNat b).toNatClampNeg = b := lw_nat (by omega)
  have hsz : (Int32.ofNat (s - b)).toNatClampNeg = s - b := lw_nat (by omega)
  have hcp : ch_cp (ch_nw w (ch_new 22 (s - b))) 22 (some R) (Int32.ofNat b) (some (ch_nx w)) 0 (Int32.ofNat (s - b)) = some (va_up (ch_nw w (ch_new 22 (s - b))).1 (ch_nx w) (ch_cpO ((ch_nw w (ch_new 22 (s - b))).1 R) ((ch_nw w (ch_new 22 (s - b))).1 (ch_nx w)) b 0 (s - b)), (ch_nw w (ch_new 22 (s - b))).2) := by
    unfold ch_cp
    show (if _ then _ else _) = _
    rw [hz, hsz, hbz, if_pos]
    refine ⟨⟨by rw [b_tN, if_neg (by omega)]; exact r1, by rw [b_tN, if_pos rfl]; rfl, h0b, h00, h0s, by rw [b_nN, if_neg (by omega)]; omega, by rw [b_nN, if_pos rfl]; show 0 + (s - b) ≤ s - b; omega⟩, fun i hi => ?_⟩
    rw [b_IN, if_neg (by omega)]
    exact bx_cpf (r6 i hi)
  show ∃ w', ((ch_cp (ch_nw w (ch_new 22 (s - b))) 22 (some R) (Int32.ofNat b) (some (ch_nx w)) 0 (Int32.ofNat (s - b))).bind _) = some (Int32.ofNat k, w') ∧ _
  rw [hcp, Option.bind_some]
  generalize hw2 : (va_up (ch_nw w (ch_new 22 (s - b))).1 (ch_nx w) (ch_cpO ((ch_nw w (ch_new 22 (s - b))).1 R) ((ch_nw w (ch_new 22 (s - b))).1 (ch_nx w)) b 0 (s - b)), (ch_nw w (ch_new 22 (s - b))).2) = w2
  have o2 : ∀ b, b ≠ ch_nx w → w2.1 b = w.1 b := by
    intro b hb
    rw [← hw2]
    show va_up _ _ _ b = _
    unfold va_up
    rw [if_neg hb, b_oN hb]
  have at2 : w2.1 (ch_nx w) = ch_cpO (w.1 R) (ch_new 22 (s - b)) b 0 (s - b) := by
    rw [← hw2]
    show va_up _ _ _ _ = _
    unfold va_up
    rw [if_pos rfl, b_oN (by omega), b_atN]
  have zz2 : w2.2 = (ch_nx w + 1, ch_cs w + 1, ch_sl w + (s - b)) := by
    rw [← hw2]
    rfl
  have zn : ch_nx w2 = ch_nx w + 1 := by unfold ch_nx; rw [zz2]; rfl
  have zc : ch_cs w2 = ch_cs w + 1 := by unfold ch_cs; rw [zz2]; rfl
  have zs : ch_sl w2 = ch_sl w + (s - b) := by unfold ch_sl; rw [zz2]; rfl
  have t2 : ch_tg w2 (ch_nx w) = 22 := by unfold ch_tg; rw [at2]; rfl
  have x2 : rd_tx w2 (ch_nx w) t := by
    refine ⟨t2, by unfold ch_ln; rw [at2]; show s - b = _; omega, by omega, fun i hi => ?_⟩
    have := r6 i (by omega)
    unfold ch_gi at this ⊢
    rw [at2]
    show bx (va_cpy (w.1 R).2.2.1 _ b 0 (s - b) i) _
    unfold va_cpy
    rw [if_pos ⟨by omega, by omega⟩, Nat.sub_zero]
    exact this
  have wf2 : ∀ c, ch_tg w2 c ≠ 0 → c < ch_nx w2 := by
    intro c hc
    rw [zn]
    by_cases hcn : c = ch_nx w
    · omega
    · rw [(b_cell (o2 c hcn)).1] at hc
      have := hwf c hc
      omega
  have j2 : jl g w2 L A k cap 22 E := n1.keep (o2 L (by omega)) (o2 A (by omega)) (fun i hi => by
    have := hwf (E i) (by rw [(n2 i hi).1]; decide)
    rw [(b_cell (o2 (E i) (by omega))).1]; exact (n2 i hi).1)
  obtain ⟨w3, g1, A', cap', g2, g3, g4⟩ := jl_add (g := g) j2 wf2 (by omega) (by decide) t2 (by omega) (by omega)
  rw [d_gR (by rw [(b_cell (o2 r (by omega))).1]; exact hr), (b_cell (o2 r (by omega))).2.2.2.1, hL, d_rc j2.1, g1, Option.bind_some]
  have hA'n : A' = A ∨ A' = ch_nx w + 1 := by
    rcases g3 with q | q
    · exact Or.inl q.1
    · exact Or.inr (by rw [← zn]; exact q.1)
  refine ⟨w3, rfl, A', cap', ⟨g2, fun i hi => ?_, fun i j hi hj hij => ?_, fun i hi => ?_⟩, ?_, fun a h1 h2 h3 => ?_, fun h => ?_, ?_, ?_, ?_, ?_, fun c hc => ?_⟩
  · unfold le_up lx_up
    by_cases hik : i = k
    · rw [if_pos hik, if_pos hik]
      obtain ⟨y1, y2, y3, y4⟩ := x2
      obtain ⟨c1, c2, c3, -, -⟩ := b_cell (g4 (ch_nx w) (by omega) (by omega))
      exact ⟨by rw [c1]; exact y1, by rw [c2]; exact y2, y3, fun j hj => by rw [c3]; exact y4 j hj⟩
    · rw [if_neg hik, if_neg hik]
      have hi' : i < k := by omega
      have hEn := hwf (E i) (by rw [(n2 i hi').1]; decide)
      obtain ⟨y1, y2, y3, y4⟩ := n2 i hi'
      have hEA := n4 i hi'
      have e9 : w3.1 (E i) = w.1 (E i) := by rw [g4 (E i) hEA.2 (by rcases hA'n with q | q <;> omega), o2 (E i) (by omega)]
      obtain ⟨c1, c2, c3, -, -⟩ := b_cell e9
      exact ⟨by rw [c1]; exact y1, by rw [c2]; exact y2, y3, fun j hj => by rw [c3]; exact y4 j hj⟩
  · unfold lx_up at hij
    by_cases h1 : i = k
    · by_cases h2 : j = k
      · omega
      · rw [if_pos h1, if_neg h2] at hij
        exact absurd hij.symm (hnew j (by omega))
    · by_cases h2 : j = k
      · rw [if_neg h1, if_pos h2] at hij
        exact absurd hij (hnew i (by omega))
      · rw [if_neg h1, if_neg h2] at hij
        exact n3 i j (by omega) (by omega) hij
  · unfold le_up
    by_cases hik : i = k
    · rw [if_pos hik]
      refine ⟨?_, by omega⟩
      rcases hA'n with q | q <;> omega
    · rw [if_neg hik]
      have hi' : i < k := by omega
      have hEn := hwf (E i) (by rw [(n2 i hi').1]; decide)
      refine ⟨?_, (n4 i hi').2⟩
      rcases hA'n with q | q
      · rw [q]; exact (n4 i hi').1
      · omega
  · rcases g3 with q | q
    · exact Or.inl ⟨q.1, q.2.1⟩
    · exact Or.inr (by rw [← zn]; exact q.1)
  · rw [g4 a h2 (by rcases hA'n with q | q <;> omega), o2 a (by omega)]
  · rw [g4 A (fun q => by rw [q] at n1; have := n1.1; rcases n1.2.2.2.2.2.2.1 with z | z <;> omega) (fun q => h q.symm), o2 A (by omega)]
  · rcases g3 with q | q
    · unfold ch_nx; rw [q.2.2, zz2]; exact Nat.lt_succ_self _
    · have : ch_nx w3 = ch_nx w2 + 1 := by unfold ch_nx; rw [q.2.2.1]; rfl
      omega
  · rcases g3 with q | q
    · have : ch_nx w3 = ch_nx w2 := by unfold ch_nx; rw [q.2.2]
      omega
    · have : ch_nx w3 = ch_nx w2 + 1 := by unfold ch_nx; rw [q.2.2.1]; rfl
      omega
  · rcases g3 with q | q
    · have : ch_cs w3 = ch_cs w2 := by unfold ch_cs; rw [q.2.2]
      omega
    · have : ch_cs w3 = ch_cs w2 + 1 := by unfold ch_cs; rw [q.2.2.1]; rfl
      omega
  · rcases g3 with q | q
    · have h8 : ch_sl w3 = ch_sl w2 := by unfold ch_sl; rw [q.2.2]
      have h9 := q.2.1
      omega
    · have h8 : ch_sl w3 = ch_sl w2 + cap' := by unfold ch_sl; rw [q.2.2.1]; rfl
      have h9 := q.2.2.2.2
      have h10 := q.2.1
      have h11 := g2.2.2.2.2.1
      omega
  · have hx3 : ch_nx w2 ≤ ch_nx w3 := by
      rcases g3 with q | q
      · have : ch_nx w3 = ch_nx w2 := by unfold ch_nx; rw [q.2.2]
        omega
      · have : ch_nx w3 = ch_nx w2 + 1 := by unfold ch_nx; rw [q.2.2.1]; rfl
        omega
    by_cases hcL : c = L
    · omega
    · by_cases hcA : c = A'
      · rw [hcA]
        rcases g3 with q | q
        · omega
        · have : ch_nx w3 = ch_nx w2 + 1 := by unfold ch_nx; rw [q.2.2.1]; rfl
          omega
      · rw [(b_cell (g4 c hcL hcA)).1] at hc
        have := wf2 c hc
        omega
/-- NUMBER OF -/
theorem lc_num {g : State} {w : ch_W} {r L A k cap R b s : Nat} {E : Nat → Nat} {T : Nat → List Nat} {t : List Nat} (hr : ch_tg w r = 5) (hL : ch_gr w r fX4_names = some L) (hN : rd_N g w L A k cap E T) (hwf : ∀ b, ch_tg w b ≠ 0 → b < ch_nx w) (hk : k < 3000) (hR : rd_rw w R b s t) (hc1 : ch_cs w + 2 ≤ 601024) (hc2 : ch_sl w + (3000 + 2 * cap + 10) ≤ 7293034) : ∀ (c i : Nat), k - i ≤ c → i ≤ k → (∀ x : Nat, x < i → T x ≠ t) →
    (∃ x : Nat, x < k ∧ T x = t ∧ ch_loop (fun (s_ : Int32) => c_X4_numberOf_3 g r (some R) (Int32.ofNat b) (Int32.ofNat s) s_ w) (Int32.ofNat i) = some (Int32.ofNat x, w)) ∨
    (∃ w', ch_loop (fun (s_ : Int32) => c_X4_numberOf_3 g r (some R) (Int32.ofNat b) (Int32.ofNat s) s_ w) (Int32.ofNat i) = some (Int32.ofNat k, w') ∧ rd_nn g w w' L A k cap E T t) := by
  obtain ⟨n1, n2, n3, n4⟩ := id hN
  obtain ⟨j1, j2, j3, j4, j5, j6, j7, j8⟩ := id n1
  have fin : ∀ i : Nat, i = k → (∀ x : Nat, x < i → T x ≠ t) → ∃ w', ch_loop (fun (s_ : Int32) => c_X4_numberOf_3 g r (some R) (Int32.ofNat b) (Int32.ofNat s) s_ w) (Int32.ofNat i) = some (Int32.ofNat k, w') ∧ rd_nn g w w' L A k cap E T t := by
    intro i hi hx
    subst hi
    obtain ⟨w', g1, g2⟩ := lc_num42 (g := g) hr hL hN hwf hk hR hx hc1 hc2
    refine ⟨w', ch_loop_inr ?_, g2⟩
    show c_X4_numberOf_3 g r (some R) (Int32.ofNat b) (Int32.ofNat s) (Int32.ofNat i) w = _
    unfold c_X4_numberOf_3
    rw [d_gR hr, hL, d_rc j1, jl_size n1, Option.bind_some, if_neg (by rw [bn_lt (by omega) (by omega)]; omega), g1]
    rfl
  intro c
  induction c with
  | zero => intro i h1 h2 hx; exact Or.inr (fin i (by omega) hx)
  | succ c ih =>
    intro i h1 h2 hx
    by_cases hi : i = k
    · exact Or.inr (fin i hi hx)
    · have e1 : Int32.ofNat i + 1 = Int32.ofNat (i + 1) := bn_add (b := 1)
      have h42 : c_X4_numberOf_42 g r (some R) (Int32.ofNat b) (Int32.ofNat s) (Int32.ofNat i) w = some (Int32.ofNat i, w) := by
        unfold c_X4_numberOf_42
        rw [d_gR hr, hL, d_rc j1, jl_size n1, Option.bind_some, if_neg (by rw [bn_eq (by omega) (by omega)]; exact hi)]
      have hb : c_X4_numberOf_3 g r (some R) (Int32.ofNat b) (Int32.ofNat s) (Int32.ofNat i) w = if T i = t then some (.inr (Int32.ofNat i, w)) else some (.inl (Int32.ofNat (i + 1))) := by
        unfold c_X4_numberOf_3
        rw [d_gR hr, hL, d_rc j1, jl_size n1, Option.bind_some, if_pos (by rw [bn_lt (by omega) (by omega)]; omega), d_gR hr, hL, d_rc j1, jl_get n1 (by omega) (by omega), Option.bind_some]
        have hcast : ch_cast w (some (E i)) 22 = some () := by
          unfold ch_cast
          show (if ch_tg w (E i) = 22 then _ else _) = _
          rw [if_pos (n2 i (by omega)).1]
        rw [hcast, Option.bind_some, lc_isAt (n2 i (by omega)) hR, Option.bind_some, e1, h42]
        by_cases ht : T i = t
        · rw [if_pos ht, if_neg (by decide), if_pos ht]; rfl
        · rw [if_neg ht, if_pos rfl, if_neg ht]
      by_cases ht : T i = t
      · rw [if_pos ht] at hb
        exact Or.inl ⟨i, by omega, ht, ch_loop_inr hb⟩
      · rw [if_neg ht] at hb
        rw [ch_loop_inl hb]
        refine ih (i + 1) (by omega) (by omega) (fun x q => ?_)
        by_cases hx2 : x = i
        · subst hx2; exact ht
        · exact hx x (by omega)
