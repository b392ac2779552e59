/-! LEVEL B2: ArrayList -/
set_option maxRecDepth 100000
theorem bn_shr1 {c : Nat} (h : c < 2 ^ 31) : Int32.ofNat c >>> ((1 : Int32) &&& 31) = Int32.ofNat (c / 2) := by
  rw [← Int32.toInt_inj, lw_int (by omega)]
  show (Int32.ofNat c >>> ((1 : Int32) &&& 31)).toBitVec.toInt = _
  rw [Int32.toBitVec_shiftRight]
  show ((Int32.ofNat c).toBitVec.sshiftRight 1).toInt = _
  rw [BitVec.toInt_sshiftRight]
  show (Int32.ofNat c).toInt >>> 1 = _
  rw [lw_int h, Int.shiftRight_eq_div_pow]
  omega
/-- what keeps a cell -/
theorem b_cell {w w' : ch_W} {a : Nat} (h : w'.1 a = w.1 a) : ch_tg w' a = ch_tg w a ∧ ch_ln w' a = ch_ln w a ∧ (∀ k, ch_gi w' a k = ch_gi w a k) ∧ (∀ k, ch_gr w' a k = ch_gr w a k) ∧ ∀ k, ch_gl w' a k = ch_gl w a k := by
  unfold ch_tg ch_ln ch_gi ch_gr ch_gl
  rw [h]
  exact ⟨rfl, rfl, fun _ => rfl, fun _ => rfl, fun _ => rfl⟩
/-- a list: at L, its row at A, k elements of tag T, room for cap -/
def jl (g : State) (w : ch_W) (L A k cap T : Nat) (e : Nat → Nat) : Prop :=
  ch_tg w L = 14 ∧ ch_gr w L fJ5_elementData = some A ∧ ch_gi w L fJ5_size = Int32.ofNat k ∧ ch_ln w A = cap ∧ k ≤ cap ∧ cap ≤ 2 * k + 10 ∧ (ch_tg w A = 25 ∧ 0 < cap ∨ ch_tg w A = 55 ∧ cap = 0 ∧ ch_stE g = some A) ∧ ∀ i : Nat, i < k → ch_gr w A i = some (e i) ∧ ch_tg w (e i) = T
theorem jl.keep {g : State} {w w' : ch_W} {L A k cap T : Nat} {e : Nat → Nat} (h : jl g w L A k cap T e) (h1 : w'.1 L = w.1 L) (h2 : w'.1 A = w.1 A) (h3 : ∀ i : Nat, i < k → ch_tg w' (e i) = T) : jl g w' L A k cap T e := by
  obtain ⟨a1, a2, a3, a4, a5, a6, a7, a8⟩ := h
  obtain ⟨l1, l2, l3, l4, l5⟩ := b_cell h1
  obtain ⟨m1, m2, m3, m4, m5⟩ := b_cell h2
  exact ⟨by rw [l1]; exact a1, by rw [l4]; exact a2, by rw [l3]; exact a3, by rw [m2]; exact a4, a5, a6, by rw [m1]; exact a7, fun i hi => ⟨by rw [m4]; exact (a8 i hi).1, h3 i hi⟩⟩
theorem jl_size {g : State} {w : ch_W} {L A k cap T : Nat} {e : Nat → Nat} (h : jl g w L A k cap T e) : c_J5_size L w = some (Int32.ofNat k) := by
  unfold c_J5_size
  rw [d_gI h.1, h.2.2.1]
theorem jl_empty {g : State} {w : ch_W} {L A k cap T : Nat} {e : Nat → Nat} (h : jl g w L A k cap T e) (hk : k < 2 ^ 31) : c_J5_isEmpty L w = some (if k = 0 then 1 else 0) := by
  unfold c_J5_isEmpty
  have e0 : (Int32.ofNat k = 0) ↔ k = 0 := bn_eq (b := 0) hk (by decide)
  rw [d_gI h.1, h.2.2.1]
  simp only [e0]
  split <;> rfl
theorem jl_get {g : State} {w : ch_W} {L A k cap T i : Nat} {e : Nat → Nat} (h : jl g w L A k cap T e) (hk : cap < 2 ^ 31) (hi : i < k) : c_J5_get L (Int32.ofNat i) w = some (some (e i)) := by
  obtain ⟨a1, a2, a3, a4, a5, a6, a7, a8⟩ := h
  have h0 : ¬ Int32.ofNat i < 0 := fun q => absurd ((bn_lt (b := 0) (by omega) (by decide)).mp q) (by omega)
  unfold c_J5_get c_J10_checkIndex c_J8_checkIndex c_J5_elementData
  rw [d_gI a1, a3, if_neg h0, if_pos ((bn_lt (by omega) (by omega)).mpr hi), Option.bind_some, Option.bind_some, d_rc a1, d_gR a1, a2, b_lR (by rcases a7 with q | q; exact Or.inl q.1; exact Or.inr q.1) (by omega) (by omega), (a8 i hi).1]
  rfl
theorem jl_init {g : State} {w : ch_W} {L T : Nat} {e : Nat → Nat} (hb : bb g w) (hL : ch_tg w L = 14) (hz : ch_gi w L fJ5_size = 0) : ∃ w' ae, c_J5_init g L w = some w' ∧ jl g w' L ae 0 0 T e ∧ ae < g.heap.size ∧ (∀ a : Nat, a ≠ L → w'.1 a = w.1 a) ∧ w'.2 = w.2 := by
  obtain ⟨ae, e1, e2, e3, e4⟩ := bb_E hb
  have hne : ae ≠ L := fun q => by rw [q, hL] at e2; cases e2
  unfold c_J5_init c_J4_init c_J3_init
  refine ⟨ch_sr (ch_si w L fJ5_modCount 0) L fJ5_elementData (ch_stE g), ae, ?_, ⟨by rw [b_tR, b_tI]; exact hL, by rw [b_RR, if_pos ⟨rfl, rfl⟩]; exact e1, by rw [b_IR, b_II, if_neg (fun q => absurd q.2 (by decide))]; exact hz, by rw [b_nR, b_nI]; exact e3, Nat.le_refl _, by omega, Or.inr ⟨by rw [b_tR, b_tI]; exact e2, rfl, e1⟩, fun i hi => absurd hi (by omega)⟩, e4, fun a ha => by rw [b_oR ha, b_oI ha], rfl⟩
  show (((ch_pI w (some L) 14 fJ5_modCount 0).bind _).bind _) = _
  rw [d_pI hL]
  show (ch_pR (ch_si w L fJ5_modCount 0) (some L) 14 fJ5_elementData (ch_stE g)).bind _ = _
  rw [d_pR (by rw [b_tI]; exact hL)]
def le_up (e : Nat → Nat) (k x : Nat) : Nat → Nat := fun i => if i = k then x else e i
/-- what add leaves -/
def jl_ad (g : State) (w w' : ch_W) (L A k cap T x : Nat) (e : Nat → Nat) : Prop := ∃ A' cap', jl g w' L A' (k + 1) cap' T (le_up e k x) ∧ (A' = A ∧ cap' = cap ∧ w'.2 = w.2 ∨ A' = ch_nx w ∧ k = cap ∧ w'.2 = (ch_nx w + 1, ch_cs w + 1, ch_sl w + cap') ∧ cap' ≤ 2 * cap + 10 ∧ cap' ≤ 4 * (cap' - cap)) ∧ ∀ a : Nat, a ≠ L → a ≠ A' → w'.1 a = w.1 a
/-- the last part of add -/
theorem jl_add11 {g : State} {w : ch_W} {L A k cap T x : Nat} {e : Nat → Nat} (hL : ch_tg w L = 14) (hA : ch_tg w A = 25) (hg : ch_gr w L fJ5_elementData = some A) (hn : ch_ln w A = cap) (hk : k < cap) (hc : cap ≤ 2 * (k + 1) + 10) (hb : cap < 2 ^ 30) (hT : 0 < T ∧ T < 31 ∧ T ≠ 20) (hx : ch_tg w x = T) (he : ∀ i : Nat, i < k → ch_gr w A i = some (e i) ∧ ch_tg w (e i) = T) :
    ∃ w', c_J5_add_2_11 g L (some x) (some A) (Int32.ofNat k) w = some w' ∧ jl g w' L A (k + 1) cap T (le_up e k x) ∧ w'.2 = w.2 ∧ ∀ a : Nat, a ≠ L → a ≠ A → w'.1 a = w.1 a := by
  have hne : L ≠ A := fun q => by rw [q, hA] at hL; cases hL
  have e1 : Int32.ofNat k + 1 = Int32.ofNat (k + 1) := bn_add (b := 1)
  have hfit : ch_fitR w (some x) 0 = true := by
    unfold ch_fitR
    simp [hx]
    omega
  unfold c_J5_add_2_11
  rw [b_wR hA (by omega) (by omega) hfit, Option.bind_some, d_pI (by rw [b_tR]; exact hL), e1]
  refine ⟨_, rfl, ⟨by rw [b_tI, b_tR]; exact hL, by rw [b_RI, b_RR, if_neg (fun q => hne q.1)]; exact hg, by rw [b_II, if_pos ⟨rfl, rfl⟩], by rw [b_nI, b_nR]; exact hn, by omega, by omega, Or.inl ⟨by rw [b_tI, b_tR]; exact hA, by omega⟩, fun i hi => ?_⟩, rfl, fun a h1 h2 => by rw [b_oI h1, b_oR h2]⟩
  rw [b_RI, b_tI, b_tR, b_RR]
  unfold le_up
  by_cases hik : i = k
  · rw [if_pos ⟨rfl, hik⟩, if_pos hik]; exact ⟨rfl, hx⟩
  · rw [if_neg (fun q => hik q.2), if_neg hik]; exact he i (by omega)
theorem jl_grow {g : State} {w : ch_W} {L A k cap T : Nat} {e : Nat → Nat} (h : jl g w L A k cap T e) (hwf : ∀ b, ch_tg w b ≠ 0 → b < ch_nx w) (hk : k < 100000) (hkc : k = cap) (hT : 0 < T ∧ T < 31 ∧ T ≠ 20) (hc1 : ch_cs w + 1 ≤ 601024) (hc2 : ch_sl w + (2 * cap + 10) ≤ 7293034) :
    ∃ w' cap', c_J5_grow g L w = some (some (ch_nx w), w') ∧ cap < cap' ∧ cap' ≤ 2 * cap + 10 ∧ cap' ≤ 4 * (cap' - cap) ∧ ch_tg w' L = 14 ∧ ch_gr w' L fJ5_elementData = some (ch_nx w) ∧ ch_tg w' (ch_nx w) = 25 ∧ ch_ln w' (ch_nx w) = cap' ∧ (∀ i : Nat, i < k → ch_gr w' (ch_nx w) i = some (e i)) ∧ (∀ a : Nat, a ≠ L → a ≠ ch_nx w → w'.1 a = w.1 a) ∧ w'.2 = (ch_nx w + 1, ch_cs w + 1, ch_sl w + cap') := by
  obtain ⟨a1, a2, a3, a4, a5, a6, a7, a8⟩ := h
  have hLn := hwf L (by rw [a1]; decide)
  have hAn := hwf A (by rcases a7 with q | q <;> omega)
  have hLA : L ≠ A := fun q => by rw [q] at a1; rcases a7 with z | z <;> omega
  have hta : ch_tg w A = 25 ∨ ch_tg w A = 25 + 30 := by
    rcases a7 with q | q
    · exact Or.inl q.1
    · exact Or.inr q.1
  have hnA : A ≠ ch_nx w := by omega
  have hnL : L ≠ ch_nx w := by omega
  have e1 : Int32.ofNat k + 1 = Int32.ofNat (k + 1) := bn_add (b := 1)
  have e0 : ((0 : Int32) < Int32.ofNat cap) ↔ 0 < cap := bn_lt (a := 0) (by decide) (by omega)
  unfold c_J5_grow
  rw [d_gI a1, a3, d_rc a1, e1]
  unfold c_J5_grow_2
  rw [d_gR a1, a2, b_le hta, Option.bind_some, a4]
  rcases a7 with ⟨q1, q2⟩ | ⟨q1, q2, q3⟩
  · rw [if_pos (e0.mpr q2)]
    unfold c_J5_grow_2_20 c_J11_newLength c_J12_max
    have e2 : Int32.ofNat (k + 1) - Int32.ofNat cap = Int32.ofNat 1 := by rw [bn_sub (by omega), show k + 1 - cap = 1 by omega]
    have e3 : ∃ d : Nat, (if Int32.ofNat 1 < Int32.ofNat (cap / 2) then some (Int32.ofNat (cap / 2)) else some (Int32.ofNat 1)) = some (Int32.ofNat d) ∧ 1 ≤ d ∧ d ≤ cap ∧ cap ≤ 3 * d := by
      by_cases hh : 1 < cap / 2
      · exact ⟨cap / 2, by rw [if_pos ((bn_lt (by decide) (by omega)).mpr hh)], by omega, by omega, by omega⟩
      · exact ⟨1, by rw [if_neg (fun z => hh ((bn_lt (by decide) (by omega)).mp z))], by omega, by omega, by omega⟩
    obtain ⟨d, d1, d2, d3, d4⟩ := e3
    have e4 : ((0 : Int32) < Int32.ofNat (cap + d)) := (bn_lt (a := 0) (by decide) (by omega)).mpr (by omega)
    have e5 : ¬ ((2147483639 : Int32) < Int32.ofNat (cap + d)) := fun z => absurd ((bn_lt (a := 2147483639) (by decide) (by omega)).mp z) (by omega)
    rw [e2, bn_shr1 (by omega), d1, Option.bind_some, bn_add, if_pos e4, if_neg e5, Option.bind_some, d_gR a1, a2]
    unfold c_J13_copyOf c_J13_copyOf_2 c_J12_min
    rw [d_rc q1, if_pos rfl, d_nA (by omega) hc1 (by omega), b_le (by rw [b_tN, if_neg hnA]; exact Or.inl q1), Option.bind_some, b_nN, if_neg hnA, a4, if_neg (fun z => absurd ((bn_lt (by omega) (by omega)).mp z) (by omega)), Option.bind_some]
    have h00 : ¬ (0 : Int32) < 0 := by decide
    have h0c : ¬ Int32.ofNat cap < 0 := fun q => absurd ((bn_lt (b := 0) (by omega) (by decide)).mp q) (by omega)
    have hz : (0 : Int32).toNatClampNeg = 0 := rfl
    have hcz : (Int32.ofNat cap).toNatClampNeg = cap := lw_nat (by omega)
    have hcp : ch_cpR (ch_nw w (ch_new 25 (cap + d))) (some A) 0 (some (ch_nx w)) 0 (Int32.ofNat cap) = some (va_up (ch_nw w (ch_new 25 (cap + d))).1 (ch_nx w) (ch_cpO ((ch_nw w (ch_new 25 (cap + d))).1 A) ((ch_nw w (ch_new 25 (cap + d))).1 (ch_nx w)) 0 0 cap), (ch_nw w (ch_new 25 (cap + d))).2) := by
      unfold ch_cpR
      show (if _ then _ else _) = _
      rw [hz, hcz, if_pos]
      refine ⟨⟨by rw [b_tN, if_neg hnA]; exact q1, by rw [b_tN, if_pos rfl]; rfl, h00, h00, h0c, by rw [b_nN, if_neg hnA]; omega, by rw [b_nN, if_pos rfl]; show 0 + cap ≤ cap + d; omega⟩, fun i hi => ?_⟩
      rw [Nat.zero_add]
      obtain ⟨g1, g2⟩ := a8 i (by omega)
      have hin := hwf (e i) (by omega)
      rw [b_RN, if_neg hnA, g1]
      have g3 : ch_tg (ch_nw w (ch_new 25 (cap + d))) (e i) = T := by rw [b_tN, if_neg (by omega)]; exact g2
      unfold ch_fitR
      simp [g3]
      omega
    rw [hcp, Option.bind_some, Option.bind_some]
    generalize hw2 : (va_up (ch_nw w (ch_new 25 (cap + d))).1 (ch_nx w) (ch_cpO ((ch_nw w (ch_new 25 (cap + d))).1 A) ((ch_nw w (ch_new 25 (cap + d))).1 (ch_nx w)) 0 0 cap), (ch_nw w (ch_new 25 (cap + d))).2) = w2
    have o2 : ∀ b, b ≠ ch_nx w → w2.1 b = w.1 b := by
      intro b hb
      rw [← hw2]
      show va_up _ _ _ b = _
      unfold va_up
      rw [if_neg hb, b_oN hb]
    have at2 : w2.1 (ch_nx w) = ch_cpO (w.1 A) (ch_new 25 (cap + d)) 0 0 cap := by
      rw [← hw2]
      show va_up _ _ _ _ = _
      unfold va_up
      rw [if_pos rfl, b_oN hnA, b_atN]
    have zz2 : w2.2 = (ch_nx w + 1, ch_cs w + 1, ch_sl w + (cap + d)) := by
      rw [← hw2]
      rfl
    have tL2 : ch_tg w2 L = 14 := by rw [(b_cell (o2 L hnL)).1]; exact a1
    refine ⟨ch_sr w2 L fJ5_elementData (some (ch_nx w)), cap + d, ?_, by omega, by omega, by omega, by rw [b_tR]; exact tL2, by rw [b_RR, if_pos ⟨rfl, rfl⟩], ?_, ?_, fun i hi => ?_, fun a h1 h2 => by rw [b_oR h1]; exact o2 a h2, zz2⟩
    · show ((ch_pR w2 (some L) 14 fJ5_elementData (some (ch_nx w))).bind _).bind _ = _
      rw [d_pR tL2]
      rfl
    · rw [b_tR]; unfold ch_tg; rw [at2]; rfl
    · rw [b_nR]; unfold ch_ln; rw [at2]; rfl
    · rw [b_RR, if_neg (fun q => hnL q.1.symm)]
      unfold ch_gr
      rw [at2]
      have := (a8 i hi).1
      unfold ch_gr at this
      show va_cpy (w.1 A).2.2.2.1 _ 0 0 cap i = _
      unfold va_cpy
      rw [if_pos ⟨by omega, by omega⟩, Nat.zero_add, Nat.sub_zero]
      exact this
  · rw [if_neg (fun z => absurd (e0.mp z) (by omega)), d_gR a1, a2, q3, if_pos rfl]
    unfold c_J12_max
    have e6 : ¬ ((10 : Int32) < Int32.ofNat (k + 1)) := fun z => absurd ((bn_lt (a := 10) (by decide) (by omega)).mp z) (by omega)
    rw [if_neg e6, Option.bind_some]
    have hna : ch_nA w 25 10 = some (ch_nw w (ch_new 25 10)) := b_nA (n := 10) (by decide) hc1 (by omega)
    rw [hna, Option.bind_some, d_pR (by rw [b_tN, if_neg hnL]; exact a1)]
    refine ⟨ch_sr (ch_nw w (ch_new 25 10)) L fJ5_elementData (some (ch_nx w)), 10, rfl, by omega, by omega, by omega, by rw [b_tR, b_tN, if_neg hnL]; exact a1, by rw [b_RR, if_pos ⟨rfl, rfl⟩], by rw [b_tR, b_tN, if_pos rfl]; rfl, by rw [b_nR, b_nN, if_pos rfl]; rfl, fun i hi => absurd hi (by omega), fun a h1 h2 => by rw [b_oR h1, b_oN h2], rfl⟩
theorem jl_add {g : State} {w : ch_W} {L A k cap T x : Nat} {e : Nat → Nat} (h : jl g w L A k cap T e) (hwf : ∀ b, ch_tg w b ≠ 0 → b < ch_nx w) (hk : k < 100000) (hT : 0 < T ∧ T < 31 ∧ T ≠ 20) (hx : ch_tg w x = T) (hc1 : ch_cs w + 1 ≤ 601024) (hc2 : ch_sl w + (2 * cap + 10) ≤ 7293034) :
    ∃ w', c_J5_add g L (some x) w = some (1, w') ∧ jl_ad g w w' L A k cap T x e := by
  obtain ⟨a1, a2, a3, a4, a5, a6, a7, a8⟩ := id h
  have hLn := hwf L (by rw [a1]; decide)
  have hxn := hwf x (by omega)
  have hLA : L ≠ A := fun q => by rw [q] at a1; rcases a7 with z | z <;> omega
  have hta : ch_tg w A = 25 ∨ ch_tg w A = 25 + 30 := by
    rcases a7 with q | q
    · exact Or.inl q.1
    · exact Or.inr q.1
  unfold c_J5_add
  rw [d_gI a1, d_pI a1, d_gR (by rw [b_tI]; exact a1), b_RI, a2, d_gI (by rw [b_tI]; exact a1)]
  rw [show ch_gi (ch_si w L fJ5_modCount (ch_gi w L fJ5_modCount + 1)) L fJ5_size = Int32.ofNat k by rw [b_II, if_neg (fun q => absurd q.2 (by decide))]; exact a3, d_rc (by rw [b_tI]; exact a1)]
  generalize hw1 : ch_si w L fJ5_modCount (ch_gi w L fJ5_modCount + 1) = w1
  have t1 : ∀ b, ch_tg w1 b = ch_tg w b := fun b => by rw [← hw1, b_tI]
  have r1 : ∀ b j, ch_gr w1 b j = ch_gr w b j := fun b j => by rw [← hw1, b_RI]
  have n1 : ∀ b, ch_ln w1 b = ch_ln w b := fun b => by rw [← hw1, b_nI]
  have o1 : ∀ b, b ≠ L → w1.1 b = w.1 b := fun b hb => by rw [← hw1, b_oI hb]
  have s1 : ch_gi w1 L fJ5_size = Int32.ofNat k := by rw [← hw1, b_II, if_neg (fun q => absurd q.2 (by decide))]; exact a3
  have z1 : w1.2 = w.2 := by rw [← hw1]; rfl
  have zn : ch_nx w1 = ch_nx w := by unfold ch_nx; rw [z1]
  have zc : ch_cs w1 = ch_cs w := by unfold ch_cs; rw [z1]
  have zs : ch_sl w1 = ch_sl w := by unfold ch_sl; rw [z1]
  have h1 : jl g w1 L A k cap T e := ⟨by rw [t1]; exact a1, by rw [r1]; exact a2, s1, by rw [n1]; exact a4, a5, a6, by rw [t1]; exact a7, fun i hi => by rw [r1, t1]; exact a8 i hi⟩
  unfold c_J5_add_2
  rw [b_le (by rw [t1]; exact hta), Option.bind_some, n1, a4]
  by_cases hkc : k = cap
  · rw [if_pos (by rw [hkc]), d_rc (by rw [t1]; exact a1)]
    obtain ⟨w2, cap', g0, g1, g2, g3, g4, g5, g6, g7, g8, g9, g10⟩ := jl_grow h1 (fun b hb => by rw [zn]; exact hwf b (by rw [← t1]; exact hb)) hk hkc hT (by rw [zc]; exact hc1) (by rw [zs]; exact hc2)
    rw [zn] at g0 g5 g6 g7 g8 g9 g10
    rw [zc, zs] at g10
    have tx : ∀ b : Nat, ch_tg w b ≠ 0 → b ≠ L → ch_tg w2 b = ch_tg w b := fun b hb hbL => by
      have := hwf b hb
      rw [(b_cell (g9 b hbL (by omega))).1, t1]
    rw [g0, Option.bind_some]
    obtain ⟨w', k1, k2, k3, k4⟩ := jl_add11 (g := g) (w := w2) (L := L) (A := ch_nx w) (k := k) (cap := cap') (T := T) (x := x) (e := e) g4 g6 g5 g7 (by omega) (by omega) (by omega) hT (by
      by_cases hxL : x = L
      · rw [hxL, g4, ← hx, hxL, a1]
      · rw [tx x (by omega) hxL]; exact hx) (fun i hi => ⟨g8 i hi, by
      have hei := (a8 i hi).2
      by_cases hxL : e i = L
      · rw [hxL, g4, ← hei, hxL, a1]
      · rw [tx (e i) (by omega) hxL]; exact hei⟩)
    rw [k1]
    exact ⟨w', rfl, ch_nx w, cap', k2, Or.inr ⟨rfl, hkc, by rw [k3, g10], by omega, by omega⟩, fun a h1 h2 => by rw [k4 a h1 h2, g9 a h1 h2, o1 a h1]⟩
  · rw [if_neg (fun z => hkc ((bn_eq (by omega) (by omega)).mp z))]
    have q1 : ch_tg w A = 25 := by
      rcases a7 with q | q
      · exact q.1
      · omega
    obtain ⟨w', g1, g2, g3, g4⟩ := jl_add11 (g := g) (w := w1) (L := L) (A := A) (k := k) (cap := cap) (T := T) (x := x) (e := e) (by rw [t1]; exact a1) (by rw [t1]; exact q1) (by rw [r1]; exact a2) (by rw [n1]; exact a4) (by omega) (by omega) (by omega) hT (by rw [t1]; exact hx) (fun i hi => by rw [r1, t1]; exact a8 i hi)
    rw [g1]
    exact ⟨w', rfl, A, cap, g2, Or.inl ⟨rfl, rfl, by rw [g3, z1]⟩, fun a h1 h2 => by rw [g4 a h1 h2, o1 a h1]⟩
