/-! LEVEL B2: the component's reader: words of letters, numbers -/
set_option maxRecDepth 100000
theorem b_comm {w : ch_W} {a k j : Nat} {u v : Int32} (h : k ≠ j) : ch_si (ch_si w a k u) a j v = ch_si (ch_si w a j v) a k u := by
  unfold ch_si
  refine Prod.ext ?_ rfl
  funext b
  by_cases hb : b = a
  · subst hb
    simp only [va_up, if_true]
    refine congrArg (fun r => ((w.1 b).1, (w.1 b).2.1, r, (w.1 b).2.2.2)) ?_
    funext i
    by_cases h1 : i = j
    · have h2 : ¬ i = k := fun q => h (q.symm.trans h1)
      simp [h1, h2, va_up]
      intro e
      exact absurd e.symm h
    · by_cases h2 : i = k
      · subst h2; simp [h1, va_up]
      · simp [h1, h2, va_up]
  · simp [va_up, hb]
/-- letters and digits are passed -/
theorem lc_alnum {g : State} {r S n : Nat} {f : Nat → Nat} : ∀ (k : Nat) (w : ch_W) (p : Nat), rd_S w r S n f → ch_gi w r fX4_to = Int32.ofNat p → p ≤ n → n - p ≤ k →
    ch_loop (fun (s : ch_W) => c_X4_next_102 g r s) w = ch_loop (fun (s : Int32 × ch_W) => c_X4_next_163 g r s.1 s.2) (0, ch_si (ch_si w r fX4_to (Int32.ofNat (lx lx_aln f n p))) r fX4_kind 1) := by
  intro k
  induction k with
  | zero =>
    intro w p hS hp hn hk
    have h5 := hS.2.2.2.2.1
    rw [lx_stop (by omega), b_same hp, ch_loop]
    have hb : c_X4_next_102 g r w = (ch_loop (fun (s : Int32 × ch_W) => c_X4_next_163 g r s.1 s.2) (0, ch_si w r fX4_kind 1)).bind fun q => some (.inr q) := by
      unfold c_X4_next_102
      rw [d_gI hS.1, hp, d_gI hS.1, hS.2.2.2.2.2.1, if_neg (by rw [bn_lt (by omega) (by omega)]; omega), d_pI hS.1]
    rw [hb]
    cases ch_loop (fun (s : Int32 × ch_W) => c_X4_next_163 g r s.1 s.2) (0, ch_si w r fX4_kind 1) <;> rfl
  | succ k ih =>
    intro w p hS hp hn hk
    obtain ⟨h1, h2, h3, h4, h5, h6, h7, h8⟩ := id hS
    by_cases hc : p < n
    · have hbx := h8 p hc
      have e1 : Int32.ofNat p + 1 = Int32.ofNat (p + 1) := bn_add (b := 1)
      have hb : c_X4_next_102 g r w = if lx_aln (f p) = true then some (.inl (ch_si w r fX4_to (Int32.ofNat (p + 1)))) else (ch_loop (fun (s : Int32 × ch_W) => c_X4_next_163 g r s.1 s.2) (0, ch_si w r fX4_kind 1)).bind fun q => some (.inr q) := by
        unfold c_X4_next_102 c_X4_next_143
        rw [d_gI h1, hp, d_gI h1, h6, if_pos (by rw [bn_lt (by omega) (by omega)]; exact hc), d_gR h1, h2, d_gI h1, hp, d_lI (Or.inl h3) (by rw [h4]; omega) (by rw [h4]; decide), lc_let hbx, Option.bind_some, d_gR h1, h2, d_gI h1, hp, d_lI (Or.inl h3) (by rw [h4]; omega) (by rw [h4]; decide), lc_dig hbx, Option.bind_some, d_pI h1, d_gI h1, hp, d_pI h1, e1]
        unfold lx_aln
        cases hl : lx_let (f p) <;> cases hd : lx_dig (f p) <;> simp
      by_cases hs : lx_aln (f p) = true
      · rw [if_pos hs] at hb
        rw [ch_loop_inl hb, ih _ (p + 1) (hS.si (by decide)) (by rw [b_II, if_pos ⟨rfl, rfl⟩]) (by omega) (by omega), b_twice, lx_go ⟨hc, hs⟩]
      · rw [if_neg hs] at hb
        rw [lx_stop (fun q => hs q.2), b_same hp, ch_loop, hb]
        cases ch_loop (fun (s : Int32 × ch_W) => c_X4_next_163 g r s.1 s.2) (0, ch_si w r fX4_kind 1) <;> rfl
    · have hb : c_X4_next_102 g r w = (ch_loop (fun (s : Int32 × ch_W) => c_X4_next_163 g r s.1 s.2) (0, ch_si w r fX4_kind 1)).bind fun q => some (.inr q) := by
        unfold c_X4_next_102
        rw [d_gI h1, hp, d_gI h1, h6, if_neg (by rw [bn_lt (by omega) (by omega)]; omega), d_pI h1]
      rw [lx_stop (by omega), b_same hp, ch_loop, hb]
      cases ch_loop (fun (s : Int32 × ch_W) => c_X4_next_163 g r s.1 s.2) (0, ch_si w r fX4_kind 1) <;> rfl
