/-! LEVEL B2: words by their codes: the component's next and isThe -/
set_option maxRecDepth 100000
def lx_kd (tc : Nat) : Int32 := if tc = 0 then 0 else if tc = 1 then 1 else if tc = 2 then 2 else 3
/-- the component reads a word -/
theorem lc_nx {g : State} {w : ch_W} {r S n p tc fr tt : Nat} {f : Nat → Nat} (hS : rd_S w r S n f) (hW : rd_W g w) (hp : ch_gi w r fX4_to = Int32.ofNat p) (hn : p ≤ n) (hx : r ≠ ch_nx w) (hc1 : ch_cs w + 1 ≤ 601024) (hc2 : ch_sl w + 7 ≤ 7293034) (hfr : lx lx_sp f n p = fr) (ht : lx_tk f n tc fr tt) : c_X4_next g r w = some (.ok (), rd_set w r fr tt (lx_kd tc)) := by
  obtain ⟨h1, h2, h | h | h | h | h | h⟩ := ht
  · obtain ⟨rfl, rfl, rfl⟩ := h
    exact lc_nE hS hp hn hfr
  · obtain ⟨rfl, a1, a2, a3, a4⟩ := h
    obtain ⟨kd, k1, k2, k3⟩ := lc_nL (g := g) hS hW hp hn hfr (by omega) a2 a3
    rw [k1]
    rcases k2 with k2 | k2
    · rw [k2]; rfl
    · obtain ⟨j, j1, j2⟩ := k3.mp k2
      exact absurd j2 (a4 j j1)
  · obtain ⟨rfl, a1, a2, a3, a4⟩ := h
    exact (lc_nD (g := g) hS hp hn hfr (by omega) a2 a3 hx hc1 hc2).1 a4
  · obtain ⟨rfl, rfl, a1, a2, a3, a4, a5⟩ := h
    rw [(lc_nS (g := g) hS hp hn hfr a1 a2 a3 hx hc1 hc2).2.1 a4 a5]
    unfold lx_kd
    rw [if_neg (by omega), if_neg (by omega), if_neg (by omega)]
  · obtain ⟨rfl, rfl, a1, a2, a3, a4⟩ := h
    rw [(lc_nS (g := g) hS hp hn hfr (by omega) a2 a3 hx hc1 hc2).1 a4]
    unfold lx_kd
    rw [if_neg (by omega), if_neg (by omega), if_neg (by omega)]
  · obtain ⟨j, j1, rfl, a1, a2, a3, a4⟩ := h
    obtain ⟨kd, k1, k2, k3⟩ := lc_nL (g := g) hS hW hp hn hfr (by omega) a2 a3
    rw [k1, k3.mpr ⟨j, j1, a4⟩]
    unfold lx_kd
    rw [if_neg (by omega), if_neg (by omega), if_neg (by omega)]
/-- or none -/
theorem lc_nxB {g : State} {w : ch_W} {r S n p fr : Nat} {f : Nat → Nat} (hS : rd_S w r S n f) (hp : ch_gi w r fX4_to = Int32.ofNat p) (hn : p ≤ n) (hx : r ≠ ch_nx w) (hc1 : ch_cs w + 1 ≤ 601024) (hc2 : ch_sl w + 7 ≤ 7293034) (hfr : lx lx_sp f n p = fr) (ht : lx_bad f n fr) : ∃ tt w1, c_X4_next g r w = some (.error (ch_nx w), w1) ∧ rd_ref (ch_si (ch_si w r fX4_from (Int32.ofNat fr)) r fX4_to (Int32.ofNat tt)) w1 (ch_nx w) ((-1) - Int32.ofNat fr) := by
  obtain ⟨h1, h2, ⟨h3, h4⟩ | ⟨h3, h4, h5⟩⟩ := ht
  · obtain ⟨w1, g1, g2⟩ := (lc_nD (g := g) hS hp hn hfr h1 h3 rfl hx hc1 hc2).2 h4
    exact ⟨_, w1, g1, g2⟩
  · obtain ⟨w1, g1, g2⟩ := (lc_nS (g := g) hS hp hn hfr h1 h2 h3 hx hc1 hc2).2.2 h4 h5
    exact ⟨_, w1, g1, g2⟩
/-- the code of a word that is a sign -/
theorem lx_kw_l : ∀ j : Nat, j < 21 → 2 ≤ (lx_kw.getD j []).length ∧ lx_let ((lx_kw.getD j []).getD 0 0) = true := by decide
theorem lx_kw_i : ∀ i j : Nat, i < 21 → j < 21 → lx_kw.getD i [] = lx_kw.getD j [] → i = j := by
  have h : ∀ i : Fin 21, ∀ j : Fin 21, lx_kw.getD i.1 [] = lx_kw.getD j.1 [] → i.1 = j.1 := by decide
  intro i j hi hj
  exact h ⟨i, hi⟩ ⟨j, hj⟩
/-- l is the sign of code c -/
def lx_cd (l : List Nat) (c : Nat) : Prop := ∀ (f : Nat → Nat) (n tc fr tt : Nat), lx_tk f n tc fr tt → ((3 ≤ tc ∧ lx_is f fr tt l) ↔ tc = c)
theorem lx_cdK {j : Nat} (hj : j < 21) : lx_cd (lx_kw.getD j []) (2001 + j) := by
  intro f n tc fr tt ht
  obtain ⟨h1, h2, h | h | h | h | h | h⟩ := ht
  · omega
  · omega
  · omega
  · obtain ⟨rfl, rfl, a1, a2, a3, a4, a5⟩ := h
    refine ⟨fun q => ?_, fun q => ?_⟩
    · have := q.2.1
      have := (lx_kw_l j hj).1
      omega
    · have : f fr < 256 := by unfold lx_one at a5; omega
      omega
  · obtain ⟨rfl, rfl, a1, a2, a3, a4⟩ := h
    refine ⟨fun q => ?_, fun q => ?_⟩
    · obtain ⟨b1, b2⟩ := lx_kw_l j hj
      have := q.2.2 0 (by omega)
      rw [Nat.add_zero] at this
      rw [← this] at b2
      exact absurd b2 a2
    · have : f fr < 256 := by unfold lx_two at a4; omega
      omega
  · obtain ⟨i, i1, rfl, a1, a2, a3, a4⟩ := h
    refine ⟨fun q => ?_, fun q => ?_⟩
    · have e1 := (lx_is_tx h1).mp a4
      have e2 := (lx_is_tx h1).mp q.2
      rw [lx_kw_i i j i1 hj (e1.symm.trans e2)]
    · have : i = j := by omega
      subst this
      exact ⟨by omega, a4⟩
theorem lx_cd1 {c : Nat} (hc : lx_one c) : lx_cd [c] (1000 + c) := by
  have hc2 : c < 128 := by unfold lx_one at hc; omega
  intro f n tc fr tt ht
  have e : lx_is f fr tt [c] ↔ (tt = fr + 1 ∧ f fr = c) := by
    refine ⟨fun ⟨h0, h⟩ => ⟨h0, h 0 (show 0 < 1 by decide)⟩, fun ⟨h0, k0⟩ => ⟨h0, fun k hk => ?_⟩⟩
    have hk' : k < 1 := hk
    match k, hk' with
    | 0, _ => exact k0
  rw [e]
  obtain ⟨h1, h2, h | h | h | h | h | h⟩ := ht
  · omega
  · omega
  · omega
  · omega
  · omega
  · obtain ⟨i, i1, rfl, a1, a2, a3, a4⟩ := h
    have := (lx_kw_l i i1).1
    have := a4.1
    omega
theorem lx_cd2 {c d : Nat} (hc : lx_two c d) : lx_cd [c, d] (1256 + c) := by
  have hc2 : c < 128 ∧ d < 128 ∧ ¬ (97 ≤ c ∧ c ≤ 122) ∧ ¬ (65 ≤ c ∧ c ≤ 90) := by unfold lx_two at hc; omega
  intro f n tc fr tt ht
  rw [lx_is2]
  obtain ⟨h1, h2, h | h | h | h | h | h⟩ := ht
  · omega
  · omega
  · omega
  · obtain ⟨rfl, rfl, a1, a2, a3, a4, a5⟩ := h
    have : f fr < 128 := by unfold lx_one at a5; omega
    omega
  · obtain ⟨rfl, rfl, a1, a2, a3, a4⟩ := h
    have e : lx_bh f n fr = f (fr + 1) := by unfold lx_bh; rw [if_pos a1]
    rw [e] at a4
    unfold lx_two at a4 hc
    refine ⟨fun q => by omega, fun q => ⟨by omega, rfl, by omega, by omega⟩⟩
  · obtain ⟨i, i1, rfl, a1, a2, a3, a4⟩ := h
    have := lx_letI.mp a2
    omega
/-- the reader stands at a word -/
def rd_at (w : ch_W) (r S n : Nat) (f : Nat → Nat) (tc fr tt : Nat) : Prop := rd_S w r S n f ∧ rd_ft w r fr tt ∧ ch_gi w r fX4_kind = lx_kd tc ∧ lx_tk f n tc fr tt
/-- IS THE -/
theorem lc_the {g : State} {w : ch_W} {r S n a tc fr tt c : Nat} {f : Nat → Nat} {l : List Nat} (h : rd_at w r S n f tc fr tt) (hl : ls_S w a l) (hc : lx_cd l c) : c_X4_isThe g r (some a) w = some (if tc = c then 1 else 0) := by
  obtain ⟨hS, hft, hk, ht⟩ := h
  have he := hc f n tc fr tt ht
  unfold c_X4_isThe
  rw [d_gI hS.1, hk]
  by_cases h3 : 3 ≤ tc
  · have e3 : lx_kd tc = 3 := by unfold lx_kd; rw [if_neg (by omega), if_neg (by omega), if_neg (by omega)]
    obtain ⟨v, v1, v2, v3⟩ := lc_is (g := g) hS hft hl ht.1 ht.2.1
    rw [if_pos e3, d_rc hS.1, v1, Option.bind_some]
    by_cases hq : tc = c
    · have := v3.mpr (he.mpr hq).2
      rw [this, if_neg (by decide), if_pos hq]
    · have hv : v = 0 := by
        rcases v2 with v2 | v2
        · exact v2
        · exact absurd (he.mp ⟨h3, v3.mp v2⟩) hq
      rw [hv, if_pos rfl, if_neg hq]
  · have e3 : ¬ lx_kd tc = 3 := by
      have : tc = 0 ∨ tc = 1 ∨ tc = 2 := by omega
      rcases this with rfl | rfl | rfl <;> decide
    rw [if_neg e3, if_neg (fun q => h3 (he.mpr q).1)]
