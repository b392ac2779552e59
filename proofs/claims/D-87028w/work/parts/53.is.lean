/-! LEVEL B2: is the word at hand this one? -/
set_option maxRecDepth 100000
/-- the bytes from fr to tt are l -/
def lx_is (f : Nat → Nat) (fr tt : Nat) (l : List Nat) : Prop := tt = fr + l.length ∧ ∀ k : Nat, k < l.length → f (fr + k) = l.getD k 0
/-- a String of these bytes, all below 128 -/
def ls_S (w : ch_W) (a : Nat) (l : List Nat) : Prop := ch_Str w a (l.map Int32.ofNat) ∧ l.length < 100 ∧ ∀ k : Nat, k < l.length → l.getD k 0 < 128
theorem ls_get {l : List Nat} {k : Nat} (hk : k < l.length) : (l.map Int32.ofNat).getD k 0 = Int32.ofNat (l.getD k 0) := by
  simp [List.getD_eq_getElem?_getD, hk]
def rd_ft (w : ch_W) (r fr tt : Nat) : Prop := ch_gi w r fX4_from = Int32.ofNat fr ∧ ch_gi w r fX4_to = Int32.ofNat tt
theorem lc_is0 {g : State} {w : ch_W} {r a k : Nat} : ch_loop (fun (s : Int32 × Int32) => c_X4_is_24 g r (some a) s.1 s.2 w) (0, Int32.ofNat k) = some 0 := by
  refine ch_loop_inr ?_
  unfold c_X4_is_24
  rw [if_pos rfl]
  rfl
theorem lc_is1 {g : State} {w : ch_W} {r S n a fr tt : Nat} {f : Nat → Nat} {l : List Nat} (hS : rd_S w r S n f) (hft : rd_ft w r fr tt) (hl : ls_S w a l) (ht : tt = fr + l.length) (hn : tt ≤ n) : ∀ (j k : Nat), l.length - k ≤ j → k ≤ l.length →
    ∃ v : Int32, ch_loop (fun (s : Int32 × Int32) => c_X4_is_24 g r (some a) s.1 s.2 w) (1, Int32.ofNat k) = some v ∧ (v = 0 ∨ v = 1) ∧ (v = 1 ↔ ∀ i : Nat, k ≤ i → i < l.length → f (fr + i) = l.getD i 0) := by
  obtain ⟨h1, h2, h3, h4, h5, h6, h7, h8⟩ := id hS
  obtain ⟨hs, hlen, hlt⟩ := hl
  have tS : ch_tg w a = 20 := hs.1
  have hL : (l.map Int32.ofNat).length = l.length := List.length_map ..
  have hlen2 := ls_len (g := g) hs
  rw [hL] at hlen2
  intro j
  induction j with
  | zero =>
    intro k hj hk
    refine ⟨1, ch_loop_inr ?_, Or.inr rfl, ⟨fun _ i q1 q2 => absurd q1 (by omega), fun _ => rfl⟩⟩
    show c_X4_is_24 g r (some a) 1 (Int32.ofNat k) w = _
    unfold c_X4_is_24
    rw [if_neg (by decide), d_rc tS, hlen2, Option.bind_some, if_neg (by rw [bn_lt (by omega) (by omega)]; omega)]
    rfl
  | succ j ih =>
    intro k hj hk
    by_cases hc : k < l.length
    · have hch := ls_at (g := g) hs (by rw [hL]; exact hlen) (by rw [hL]; exact hc) (ls_get hc) (hlt k hc)
      have hbx := h8 (fr + k) (by omega)
      have heq : ch_gi w S (fr + k) = Int32.ofNat (l.getD k 0) ↔ f (fr + k) = l.getD k 0 := bx_eq hbx (hlt k hc)
      have e1 : Int32.ofNat k + 1 = Int32.ofNat (k + 1) := bn_add (b := 1)
      have hb : c_X4_is_24 g r (some a) 1 (Int32.ofNat k) w = if f (fr + k) = l.getD k 0 then some (.inl (1, Int32.ofNat (k + 1))) else some (.inl (0, Int32.ofNat (k + 1))) := by
        unfold c_X4_is_24
        rw [if_neg (by decide), d_rc tS, hlen2, Option.bind_some, if_pos (by rw [bn_lt (by omega) (by omega)]; exact hc), d_gR h1, h2, d_gI h1, hft.1, bn_add, d_lI (Or.inl h3) (by rw [h4]; omega) (by rw [h4]; decide), d_rc tS, hch, Option.bind_some, e1]
        simp only [heq]
      by_cases hq : f (fr + k) = l.getD k 0
      · rw [if_pos hq] at hb
        obtain ⟨v, g1, g2, g3⟩ := ih (k + 1) (by omega) (by omega)
        refine ⟨v, (ch_loop_inl hb).trans g1, g2, g3.trans ⟨fun H i q1 q2 => ?_, fun H i q1 q2 => H i (by omega) q2⟩⟩
        by_cases hi : i = k
        · subst hi; exact hq
        · exact H i (by omega) q2
      · rw [if_neg hq] at hb
        exact ⟨0, (ch_loop_inl hb).trans lc_is0, Or.inl rfl, ⟨fun h => absurd h (by decide), fun H => absurd (H k (Nat.le_refl _) hc) hq⟩⟩
    · refine ⟨1, ch_loop_inr ?_, Or.inr rfl, ⟨fun _ i q1 q2 => absurd q1 (by omega), fun _ => rfl⟩⟩
      show c_X4_is_24 g r (some a) 1 (Int32.ofNat k) w = _
      unfold c_X4_is_24
      rw [if_neg (by decide), d_rc tS, hlen2, Option.bind_some, if_neg (by rw [bn_lt (by omega) (by omega)]; omega)]
      rfl
/-- IS -/
theorem lc_is {g : State} {w : ch_W} {r S n a fr tt : Nat} {f : Nat → Nat} {l : List Nat} (hS : rd_S w r S n f) (hft : rd_ft w r fr tt) (hl : ls_S w a l) (h0 : fr ≤ tt) (hn : tt ≤ n) :
    ∃ v : Int32, c_X4_is g r (some a) w = some v ∧ (v = 0 ∨ v = 1) ∧ (v = 1 ↔ lx_is f fr tt l) := by
  have h5 := hS.2.2.2.2.1
  have hL : (l.map Int32.ofNat).length = l.length := List.length_map ..
  have hlen2 := ls_len (g := g) hl.1
  rw [hL] at hlen2
  have hlen := hl.2.1
  unfold c_X4_is
  rw [d_gI hS.1, hft.2, d_gI hS.1, hft.1, d_rc hl.1.1, hlen2, Option.bind_some, bn_sub h0]
  by_cases hq : tt - fr = l.length
  · rw [if_pos (by rw [hq])]
    obtain ⟨v, g1, g2, g3⟩ := lc_is1 (g := g) hS hft hl (by omega) hn l.length 0 (by omega) (by omega)
    refine ⟨v, g1, g2, g3.trans ⟨fun H => ⟨by omega, fun k hk => H k (by omega) hk⟩, fun H i _ hi => H.2 i hi⟩⟩
  · rw [if_neg (by rw [bn_eq (by omega) (by omega)]; exact hq)]
    refine ⟨0, lc_is0 (k := 0), Or.inl rfl, ⟨fun h => absurd h (by decide), fun H => absurd H.1 (by omega)⟩⟩
