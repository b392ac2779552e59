/-! LEVEL B: both constructors (printed by tools/mkinit.py) -/
set_option maxRecDepth 100000
def bm_S (j : Nat) : Nat := ((ch_mf.take j).map (fun q => q.2.2)).sum
/-- the model with its first j arrays made -/
def bm_pp (m : Nat) (w : ch_W) (z : Nat → Int32) (j : Nat) : ch_W :=
  (fun a => if a = m then (4, 109, z, fun k => (ch_mp k).bind (fun i => if i < j then some (m + 1 + i) else none), fun _ => 0) else if a < m then w.1 a else match ch_mf[a - m - 1]? with
    | some q => if a - m - 1 < j then (q.2.1, q.2.2, fun _ => 0, fun _ => none, fun _ => 0) else w.1 a
    | none => w.1 a, m + 1 + j, w.2.2.1 + 1 + j, w.2.2.2 + 109 + bm_S j)
def bm_z : Nat → Int32 := fun _ => 0
theorem bm_base {m : Nat} {w : ch_W} (hm : m = ch_nx w) : ch_nw w (ch_new 4 109) = bm_pp m w bm_z 0 := by
  subst hm
  unfold ch_nw bm_pp ch_new bm_z
  refine Prod.ext ?_ rfl
  funext a
  dsimp only [va_up]
  by_cases h1 : a = ch_nx w
  · have h1' : a = w.2.1 := h1
    rw [if_pos h1', if_pos h1]
    simp only [Nat.not_lt_zero, if_false]
    have e : (fun k : Nat => (ch_mp k).bind (fun i : Nat => (none : Option Nat))) = fun _ => none := by
      funext k
      cases ch_mp k <;> rfl
    rw [e]
  · have h1' : ¬ a = w.2.1 := h1
    rw [if_neg h1', if_neg h1]
    by_cases h2 : a < ch_nx w
    · rw [if_pos h2]
    · rw [if_neg h2]
      cases ch_mf[a - ch_nx w - 1]? <;> rfl
theorem bm_Ss {j k t n : Nat} (h : ch_mf[j]? = some (k, t, n)) : bm_S (j + 1) = bm_S j + n := by
  unfold bm_S
  rw [List.take_add_one, h]
  simp
theorem bm_Sle (j : Nat) : bm_S j ≤ 1900000 := by
  have h66 : ∀ j : Nat, j < 67 → bm_S j ≤ 1900000 := by decide +kernel
  by_cases hj : j < 67
  · exact h66 j hj
  · have : bm_S j = bm_S 66 := by
      unfold bm_S
      rw [List.take_of_length_le (show ch_mf.length ≤ j by show 66 ≤ j; omega), List.take_of_length_le (show ch_mf.length ≤ 66 from Nat.le_refl _)]
    rw [this]
    exact h66 66 (by omega)
theorem bm_nx {m : Nat} {w : ch_W} {z : Nat → Int32} {j : Nat} : ch_nx (bm_pp m w z j) = m + 1 + j := rfl
theorem ch_mpinj {i j k t n : Nat} (hp : ch_mp i = some j) (h : ch_mf[j]? = some (k, t, n)) : i = k := by
  have hi : i < 109 := by
    by_cases q : i < 109
    · exact q
    · exfalso
      unfold ch_mp at hp
      split at hp <;> first | omega | cases hp
  have hall : ∀ i : Nat, i < 109 → (match ch_mp i with | none => true | some j => decide ((ch_mf[j]?).map (fun q => q.1) = some i)) = true := by decide +kernel
  have h2 := hall i hi
  rw [hp] at h2
  have h3 := of_decide_eq_true h2
  rw [h] at h3
  exact (Option.some.inj h3).symm
theorem ch_mplt {k i : Nat} (hp : ch_mp k = some i) : i < 66 := by
  have hi : k < 109 := by
    by_cases q : k < 109
    · exact q
    · exfalso
      unfold ch_mp at hp
      split at hp <;> first | omega | cases hp
  have hall : ∀ k : Nat, k < 109 → (match ch_mp k with | none => true | some i => decide (i < 66)) = true := by decide +kernel
  have h2 := hall k hi
  rw [hp] at h2
  exact of_decide_eq_true h2
theorem bm_step {m : Nat} {w : ch_W} {z : Nat → Int32} {j k t n : Nat} {β : Type} {f : ch_W → Option β} (h : ch_mf[j]? = some (k, t, n)) (h1 : ch_cs w + 100 ≤ 601024) (h2 : ch_sl w + 2000000 ≤ 7293034) :
    ((ch_nA (bm_pp m w z j) t (Int32.ofNat n)).bind fun w1 => (ch_pR w1 (some m) 4 k (some (ch_nx (bm_pp m w z j)))).bind f) = f (bm_pp m w z (j + 1)) := by
  have hj : j < 66 := (List.getElem?_eq_some_iff.mp h).1
  have hs := bm_Ss h
  have hle := bm_Sle (j + 1)
  have hn : n < 2 ^ 31 := by omega
  rw [b_nA hn (by show w.2.2.1 + 1 + j + 1 ≤ 601024; have : w.2.2.1 + 100 ≤ 601024 := h1; omega) (by show w.2.2.2 + 109 + bm_S j + n ≤ 7293034; have : w.2.2.2 + 2000000 ≤ 7293034 := h2; omega)]
  show (ch_pR (ch_nw (bm_pp m w z j) (ch_new t n)) (some m) 4 k _).bind f = _
  have hk := ch_mpj h
  rw [b_pR (by rw [b_tN, if_neg (by rw [bm_nx]; omega)]; show ((bm_pp m w z j).1 m).1 = 4; simp [bm_pp])]
  show f _ = f _
  congr 1
  have hcnt : (ch_sr (ch_nw (bm_pp m w z j) (ch_new t n)) m k (some (ch_nx (bm_pp m w z j)))).2 = (bm_pp m w z (j + 1)).2 := by
    show (m + 1 + j + 1, w.2.2.1 + 1 + j + 1, w.2.2.2 + 109 + bm_S j + n) = (m + 1 + (j + 1), w.2.2.1 + 1 + (j + 1), w.2.2.2 + 109 + bm_S (j + 1))
    rw [hs, ← Nat.add_assoc, ← Nat.add_assoc, ← Nat.add_assoc]
  refine Prod.ext ?_ hcnt
  funext a
  by_cases ha : a = m
  · subst ha
    have e : (ch_nw (bm_pp a w z j) (ch_new t n)).1 a = (bm_pp a w z j).1 a := b_oN (by rw [bm_nx]; omega)
    unfold ch_sr
    simp only [va_up, if_true, e]
    simp only [bm_pp, if_true]
    refine congrArg (fun r => (4, 109, z, r, fun _ => 0)) ?_
    funext i
    by_cases hi : i = k
    · subst hi
      simp [va_up, hk, ch_nx]
    · simp only [va_up, if_neg hi]
      cases hp : ch_mp i with
      | none => rfl
      | some q =>
        have hq : q ≠ j := by
          intro e2
          subst e2
          exact hi (by
            have := ch_mpinj hp h
            exact this)
        show (if q < j then _ else _) = (if q < j + 1 then _ else _)
        by_cases hlt : q < j
        · rw [if_pos hlt, if_pos (by omega)]
        · rw [if_neg hlt, if_neg (by omega)]
  · rw [b_oR ha]
    by_cases hn2 : a = m + 1 + j
    · subst hn2
      have e : (ch_nw (bm_pp m w z j) (ch_new t n)).1 (m + 1 + j) = ch_new t n := b_atN
      rw [e]
      have e3 : m + 1 + j - m - 1 = j := by omega
      simp only [bm_pp, if_neg ha, if_neg (show ¬ m + 1 + j < m by omega), e3, h, if_pos (show j < j + 1 by omega)]
      rfl
    · rw [b_oN (by rw [bm_nx]; exact hn2)]
      simp only [bm_pp, if_neg ha]
      by_cases hlt : a < m
      · rw [if_pos hlt, if_pos hlt]
      · rw [if_neg hlt, if_neg hlt]
        cases ch_mf[a - m - 1]? with
        | none => rfl
        | some q =>
          show (if a - m - 1 < j then _ else _) = (if a - m - 1 < j + 1 then _ else _)
          by_cases h5 : a - m - 1 < j
          · rw [if_pos h5, if_pos (by omega)]
          · rw [if_neg h5, if_neg (by omega)]
def bm_z1 : Nat → Int32 := va_up bm_z fX3_heapNext 1000
theorem bm_int {m : Nat} {w : ch_W} {j : Nat} {β : Type} {f : ch_W → Option β} : (ch_pI (bm_pp m w bm_z j) (some m) 4 fX3_heapNext 1000).bind f = f (bm_pp m w bm_z1 j) := by
  rw [b_pI (by show ((bm_pp m w bm_z j).1 m).1 = 4; simp [bm_pp])]
  show f _ = f _
  congr 1
  refine Prod.ext ?_ rfl
  funext a
  by_cases ha : a = m
  · subst ha
    unfold ch_si
    simp [va_up, bm_pp, bm_z1]
  · rw [b_oI ha]
    simp only [bm_pp, if_neg ha]
/-- the counts behind the model's making -/
def bm_cnt (w : ch_W) : ch_W := (w.1, ch_nx w + 67, w.2.2.1 + 67, w.2.2.2 + 109 + bm_S 66)
theorem bm_full {m : Nat} {w : ch_W} (hm : m = ch_nx w) : bm_pp m w bm_z1 66 = ch_put m (bm_cnt w) (bm_z1, fun _ _ => 0) := by
  subst hm
  refine Prod.ext ?_ rfl
  funext a
  unfold bm_pp ch_put bm_cnt
  dsimp only
  by_cases h1 : a = ch_nx w
  · rw [if_pos h1, if_pos h1]
    refine congrArg (fun r => (4, 109, bm_z1, r, fun _ => 0)) ?_
    funext k
    unfold ch_mr
    cases hp : ch_mp k with
    | none => rfl
    | some i =>
      show (if i < 66 then _ else _) = _
      rw [if_pos (ch_mplt hp)]
      rfl
  · rw [if_neg h1, if_neg h1]
    by_cases h2 : a < ch_nx w
    · rw [if_pos h2, if_pos h2]
    · rw [if_neg h2, if_neg h2]
      cases hq : ch_mf[a - ch_nx w - 1]? with
      | none => rfl
      | some q =>
        have hl : a - ch_nx w - 1 < 66 := (List.getElem?_eq_some_iff.mp hq).1
        show (if a - ch_nx w - 1 < 66 then _ else _) = _
        rw [if_pos hl]
theorem bm_rc {m : Nat} {w : ch_W} {σ : ch_S} {β : Type} {f : Nat → Option β} : (ch_rc (ch_put m w σ) (some m) 4).bind f = f m := by
  rw [b_rc (by rw [ch_tg, ch_put_m])]
  rfl
def bm_w6 (r : Nat → Int32) (x : Nat) (a b c d e f : Int32) : Nat → Int32 := va_up (va_up (va_up (va_up (va_up (va_up r x a) (x + 1) b) (x + 2) c) (x + 3) d) (x + 4) e) (x + 5) f
theorem bm_wk {m : Nat} {w : ch_W} {σ : ch_S} {x : Nat} {v : Int32} (h : x < 40) : ch_wI (ch_put m w σ) (some (m + 1 + 4)) 31 (Int32.ofNat x) v = some (ch_put m w (σ.1, va_up σ.2 14 (va_up (σ.2 14) x v))) := by
  have ht : (ch_put m w σ).1 (m + 1 + 4) = _ := ch_put_a (j := 4) (k := 14) (t := 31) (n := 40) rfl
  rw [b_wI (by rw [ch_tg, ht]) (by rw [ch_ln, ht]; exact h) (by rw [ch_ln, ht]; show (40 : Nat) ≤ 2 ^ 31; decide), ch_put_sa (j := 4) (k := 14) (t := 31) (n := 40) rfl]
theorem bm_gk {m : Nat} {w : ch_W} {σ : ch_S} : ch_gR (ch_put m w σ) (some m) 4 fX3_known = some (some (m + 1 + 4)) := by
  rw [b_gR (by rw [ch_tg, ch_put_m]), ch_gr, ch_put_m]
  rfl
theorem bm_text {m : Nat} {w : ch_W} {σ : ch_S} {x : Nat} {a b c d e f : Int32} {β : Type} {F : ch_W → Option β} (h : x + 5 < 40) : (c_X3_text m (Int32.ofNat x) a b c d e f (ch_put m w σ)).bind F = F (ch_put m w (σ.1, va_up σ.2 14 (bm_w6 (σ.2 14) x a b c d e f))) := by
  unfold c_X3_text
  have e1 : Int32.ofNat x + 1 = Int32.ofNat (x + 1) := bn_add (b := 1)
  have e2 : Int32.ofNat x + 2 = Int32.ofNat (x + 2) := bn_add (b := 2)
  have e3 : Int32.ofNat x + 3 = Int32.ofNat (x + 3) := bn_add (b := 3)
  have e4 : Int32.ofNat x + 4 = Int32.ofNat (x + 4) := bn_add (b := 4)
  have e5 : Int32.ofNat x + 5 = Int32.ofNat (x + 5) := bn_add (b := 5)
  simp only [bm_gk, Option.bind_some, e1, e2, e3, e4, e5, bm_wk (show x < 40 by omega), bm_wk (show x + 1 < 40 by omega), bm_wk (show x + 2 < 40 by omega), bm_wk (show x + 3 < 40 by omega), bm_wk (show x + 4 < 40 by omega), bm_wk (show x + 5 < 40 by omega)]
  congr 1
  refine congrArg (ch_put m w) (Prod.ext rfl ?_)
  funext i
  by_cases hi : i = 14
  · subst hi; simp [va_up, bm_w6]
  · simp [va_up, hi]
def bm_k0 : Nat → Int32 := bm_w6 (bm_w6 (bm_w6 (bm_w6 (bm_w6 (bm_w6 (fun _ => 0) 0 78 117 108 108 0 0) 6 66 111 117 110 100 115) 12 90 101 114 111 0 0) 18 67 97 115 116 0 0) 24 83 105 122 101 0 0) 30 77 97 105 110 0 0
def bm_s0 : ch_S := (bm_z1, fun k => if k = 14 then bm_k0 else fun _ => 0)

theorem bm_init {m : Nat} {w : ch_W} (hm : m = ch_nx w) (h1 : ch_cs w + 100 ≤ 601024) (h2 : ch_sl w + 2000000 ≤ 7293034) : c_X3_init m (ch_nw w (ch_new 4 109)) = some (ch_put m (bm_cnt w) bm_s0) := by
  rw [bm_base hm]
  unfold c_X3_init
  refine (bm_step (j := 0) (k := 0) (t := 31) (n := 3000) rfl h1 h2).trans ?_
  refine (bm_step (j := 1) (k := 2) (t := 31) (n := 3100) rfl h1 h2).trans ?_
  refine (bm_step (j := 2) (k := 12) (t := 31) (n := 1600) rfl h1 h2).trans ?_
  refine (bm_step (j := 3) (k := 13) (t := 31) (n := 1600) rfl h1 h2).trans ?_
  refine (bm_step (j := 4) (k := 14) (t := 31) (n := 40) rfl h1 h2).trans ?_
  refine (bm_step (j := 5) (k := 16) (t := 31) (n := 3200) rfl h1 h2).trans ?_
  refine (bm_step (j := 6) (k := 17) (t := 31) (n := 3200) rfl h1 h2).trans ?_
  refine (bm_step (j := 7) (k := 18) (t := 31) (n := 3200) rfl h1 h2).trans ?_
  refine (bm_step (j := 8) (k := 19) (t := 31) (n := 3200) rfl h1 h2).trans ?_
  refine (bm_step (j := 9) (k := 20) (t := 31) (n := 3200) rfl h1 h2).trans ?_
  refine (bm_step (j := 10) (k := 22) (t := 31) (n := 3200) rfl h1 h2).trans ?_
  refine (bm_step (j := 11) (k := 24) (t := 31) (n := 3200) rfl h1 h2).trans ?_
  refine (bm_step (j := 12) (k := 26) (t := 31) (n := 1600) rfl h1 h2).trans ?_
  refine (bm_step (j := 13) (k := 27) (t := 31) (n := 1600) rfl h1 h2).trans ?_
  refine (bm_step (j := 14) (k := 28) (t := 31) (n := 1600) rfl h1 h2).trans ?_
  refine (bm_step (j := 15) (k := 29) (t := 31) (n := 1600) rfl h1 h2).trans ?_
  refine (bm_step (j := 16) (k := 30) (t := 31) (n := 1600) rfl h1 h2).trans ?_
  refine (bm_step (j := 17) (k := 31) (t := 31) (n := 1600) rfl h1 h2).trans ?_
  refine (bm_step (j := 18) (k := 32) (t := 31) (n := 1600) rfl h1 h2).trans ?_
  refine (bm_step (j := 19) (k := 33) (t := 31) (n := 1600) rfl h1 h2).trans ?_
  refine (bm_step (j := 20) (k := 34) (t := 31) (n := 1600) rfl h1 h2).trans ?_
  refine (bm_step (j := 21) (k := 35) (t := 31) (n := 1600) rfl h1 h2).trans ?_
  refine (bm_step (j := 22) (k := 36) (t := 31) (n := 1600) rfl h1 h2).trans ?_
  refine (bm_step (j := 23) (k := 38) (t := 31) (n := 350) rfl h1 h2).trans ?_
  refine (bm_step (j := 24) (k := 39) (t := 31) (n := 350) rfl h1 h2).trans ?_
  refine (bm_step (j := 25) (k := 40) (t := 31) (n := 350) rfl h1 h2).trans ?_
  refine (bm_step (j := 26) (k := 41) (t := 31) (n := 350) rfl h1 h2).trans ?_
  refine (bm_step (j := 27) (k := 42) (t := 31) (n := 350) rfl h1 h2).trans ?_
  refine (bm_step (j := 28) (k := 43) (t := 31) (n := 351) rfl h1 h2).trans ?_
  refine (bm_step (j := 29) (k := 45) (t := 31) (n := 800) rfl h1 h2).trans ?_
  refine (bm_step (j := 30) (k := 46) (t := 31) (n := 800) rfl h1 h2).trans ?_
  refine (bm_step (j := 31) (k := 47) (t := 31) (n := 800) rfl h1 h2).trans ?_
  refine (bm_step (j := 32) (k := 48) (t := 33) (n := 800) rfl h1 h2).trans ?_
  refine (bm_step (j := 33) (k := 49) (t := 31) (n := 801) rfl h1 h2).trans ?_
  refine (bm_step (j := 34) (k := 50) (t := 31) (n := 800) rfl h1 h2).trans ?_
  refine (bm_step (j := 35) (k := 51) (t := 31) (n := 800) rfl h1 h2).trans ?_
  refine (bm_step (j := 36) (k := 52) (t := 31) (n := 800) rfl h1 h2).trans ?_
  refine (bm_step (j := 37) (k := 54) (t := 31) (n := 900) rfl h1 h2).trans ?_
  refine (bm_step (j := 38) (k := 55) (t := 31) (n := 900) rfl h1 h2).trans ?_
  refine (bm_step (j := 39) (k := 63) (t := 31) (n := 1000) rfl h1 h2).trans ?_
  refine (bm_step (j := 40) (k := 64) (t := 31) (n := 1000) rfl h1 h2).trans ?_
  refine (bm_step (j := 41) (k := 65) (t := 33) (n := 1000) rfl h1 h2).trans ?_
  refine (bm_step (j := 42) (k := 67) (t := 33) (n := 100000) rfl h1 h2).trans ?_
  refine (bm_step (j := 43) (k := 68) (t := 31) (n := 3200) rfl h1 h2).trans ?_
  refine (bm_int (j := 44)).trans ?_
  refine (bm_step (j := 44) (k := 79) (t := 31) (n := 500) rfl h1 h2).trans ?_
  refine (bm_step (j := 45) (k := 81) (t := 31) (n := 300) rfl h1 h2).trans ?_
  refine (bm_step (j := 46) (k := 83) (t := 31) (n := 5200) rfl h1 h2).trans ?_
  refine (bm_step (j := 47) (k := 84) (t := 31) (n := 5200) rfl h1 h2).trans ?_
  refine (bm_step (j := 48) (k := 85) (t := 31) (n := 5200) rfl h1 h2).trans ?_
  refine (bm_step (j := 49) (k := 86) (t := 33) (n := 5200) rfl h1 h2).trans ?_
  refine (bm_step (j := 50) (k := 87) (t := 31) (n := 5200) rfl h1 h2).trans ?_
  refine (bm_step (j := 51) (k := 88) (t := 31) (n := 5200) rfl h1 h2).trans ?_
  refine (bm_step (j := 52) (k := 91) (t := 31) (n := 12000) rfl h1 h2).trans ?_
  refine (bm_step (j := 53) (k := 92) (t := 33) (n := 12000) rfl h1 h2).trans ?_
  refine (bm_step (j := 54) (k := 94) (t := 31) (n := 101) rfl h1 h2).trans ?_
  refine (bm_step (j := 55) (k := 95) (t := 31) (n := 101) rfl h1 h2).trans ?_
  refine (bm_step (j := 56) (k := 96) (t := 31) (n := 101) rfl h1 h2).trans ?_
  refine (bm_step (j := 57) (k := 97) (t := 31) (n := 101) rfl h1 h2).trans ?_
  refine (bm_step (j := 58) (k := 98) (t := 31) (n := 90000) rfl h1 h2).trans ?_
  refine (bm_step (j := 59) (k := 99) (t := 33) (n := 90000) rfl h1 h2).trans ?_
  refine (bm_step (j := 60) (k := 101) (t := 31) (n := 200000) rfl h1 h2).trans ?_
  refine (bm_step (j := 61) (k := 102) (t := 33) (n := 200000) rfl h1 h2).trans ?_
  refine (bm_step (j := 62) (k := 104) (t := 31) (n := 400000) rfl h1 h2).trans ?_
  refine (bm_step (j := 63) (k := 105) (t := 31) (n := 400000) rfl h1 h2).trans ?_
  refine (bm_step (j := 64) (k := 107) (t := 31) (n := 6000) rfl h1 h2).trans ?_
  refine (bm_step (j := 65) (k := 108) (t := 31) (n := 6000) rfl h1 h2).trans ?_
  rw [bm_full hm]
  refine (bm_rc).trans ?_
  refine (bm_text (x := 0) (by decide)).trans ?_
  refine (bm_rc).trans ?_
  refine (bm_text (x := 6) (by decide)).trans ?_
  refine (bm_rc).trans ?_
  refine (bm_text (x := 12) (by decide)).trans ?_
  refine (bm_rc).trans ?_
  refine (bm_text (x := 18) (by decide)).trans ?_
  refine (bm_rc).trans ?_
  refine (bm_text (x := 24) (by decide)).trans ?_
  refine (bm_rc).trans ?_
  refine (bm_text (x := 30) (by decide)).trans ?_
  refine congrArg some (congrArg (ch_put m (bm_cnt w)) (Prod.ext rfl ?_))
  funext k
  by_cases hk : k = 14
  · subst hk; simp [va_up, bm_s0, bm_k0]
  · simp [va_up, bm_s0, hk]

