/-! LEVEL B2: arguments of both sides -/
set_option maxRecDepth 100000
/-- the row is filled -/
theorem lc_64 {g : State} {rc : Nat → Nat → ch_W → Option (Except Nat (Option Nat) × ch_W)} {r La A i cap v : Nat} {E : Nat → Nat} (hc : cap < 2 ^ 30) : ∀ (c k : Nat) (w : ch_W), i - k ≤ c → k ≤ i → jl g w La A i cap 11 E → ch_tg w v = 27 → ch_ln w v = i →
    ∃ w', ch_loop (fun (s : Int32 × ch_W) => c_X4_arguments_64 rc g r (some La) (some v) s.1 s.2) (Int32.ofNat k, w) = some (.ok (some v), w') ∧ (∀ j : Nat, k ≤ j → j < i → ch_gr w' v j = some (E j)) ∧ (∀ j : Nat, j < k → ch_gr w' v j = ch_gr w v j) ∧ ch_tg w' v = 27 ∧ ch_ln w' v = i ∧ (∀ a : Nat, a ≠ v → w'.1 a = w.1 a) ∧ w'.2 = w.2 := by
  intro c
  have fin : ∀ (k : Nat) (w : ch_W), k = i → ch_tg w v = 27 → ch_ln w v = i → cap < 2 ^ 30 → i ≤ cap → ch_loop (fun (s : Int32 × ch_W) => c_X4_arguments_64 rc g r (some La) (some v) s.1 s.2) (Int32.ofNat k, w) = some (.ok (some v), w) := by
    intro k w hk t1 t2 h3 h4
    refine ch_loop_inr ?_
    show c_X4_arguments_64 rc g r (some La) (some v) (Int32.ofNat k) w = _
    unfold c_X4_arguments_64
    rw [b_le (Or.inl t1), Option.bind_some, t2, if_neg (by rw [bn_lt (by omega) (by omega)]; omega)]
  induction c with
  | zero =>
    intro k w h1 h2 hj t1 t2
    have := hj.2.2.2.2.1
    exact ⟨w, fin k w (by omega) t1 t2 hc this, fun j q1 q2 => by omega, fun _ _ => rfl, t1, t2, fun _ _ => rfl, rfl⟩
  | succ c ih =>
    intro k w h1 h2 hj t1 t2
    have hic := hj.2.2.2.2.1
    by_cases hk : k = i
    · exact ⟨w, fin k w hk t1 t2 hc hic, fun j q1 q2 => by omega, fun _ _ => rfl, t1, t2, fun _ _ => rfl, rfl⟩
    · have e1 : Int32.ofNat k + 1 = Int32.ofNat (k + 1) := bn_add (b := 1)
      have hE := hj.2.2.2.2.2.2.2 k (by omega)
      have hv1 : v ≠ La := fun q => by
        have := hj.1
        rw [← q, t1] at this
        cases this
      have hv2 : v ≠ A := fun q => by
        have := hj.2.2.2.2.2.2.1
        rw [← q, t1] at this
        omega
      have hb : c_X4_arguments_64 rc g r (some La) (some v) (Int32.ofNat k) w = some (.inl (Int32.ofNat (k + 1), ch_sr w v k (some (E k)))) := by
        unfold c_X4_arguments_64
        have hcast : ch_cast w (some (E k)) 11 = some () := by
          unfold ch_cast
          show (if ch_tg w (E k) = 11 then _ else _) = _
          rw [if_pos hE.2]
        rw [b_le (Or.inl t1), Option.bind_some, t2, if_pos (by rw [bn_lt (by omega) (by omega)]; omega), d_rc hj.1, jl_get hj (by omega) (by omega), Option.bind_some, hcast, Option.bind_some, b_wR t1 (by omega) (by omega) (by unfold ch_fitR; simp [hE.2]), Option.bind_some, e1]
      have hj2 : jl g (ch_sr w v k (some (E k))) La A i cap 11 E := hj.keep (b_oR (fun q => hv1 q.symm)) (b_oR (fun q => hv2 q.symm)) (fun j hj3 => by rw [b_tR]; exact (hj.2.2.2.2.2.2.2 j hj3).2)
      obtain ⟨w', g1, g2, g3, g4, g5, g6, g7⟩ := ih (k + 1) (ch_sr w v k (some (E k))) (by omega) (by omega) hj2 (by rw [b_tR]; exact t1) (by rw [b_nR]; exact t2)
      refine ⟨w', (ch_loop_inl hb).trans g1, fun j q1 q2 => ?_, fun j q1 => ?_, g4, g5, fun a ha => by rw [g6 a ha, b_oR ha], by rw [g7]; rfl⟩
      · by_cases hjk : j = k
        · subst hjk
          rw [g3 j (by omega), b_RR, if_pos ⟨rfl, rfl⟩]
        · exact g2 j (by omega) q2
      · rw [g3 j (by omega), b_RR, if_neg (fun q => by omega)]
section ARG
variable {g : State} {P r L S n C1 C2 : Nat} {f : Nat → Nat} {w w0 : ch_W} {σ σ0 : ch_S} {tc fr tt op fr0 : Nat}
/-- i arguments are there -/
def aI (g : State) (P r L S n : Nat) (f : Nat → Nat) (C1 C2 op : Nat) (w0 : ch_W) (σ0 : ch_S) (fr0 La F s : Nat) (w : ch_W) (σ : ch_S) (tc fr tt i A cap : Nat) (E Y : Nat → Nat) : Prop :=
  jo g P r L w w0 La A i cap 11 E ∧ pj g P r L S n f C1 C2 w σ tc fr tt (op + 1) (op + 1) fr ∧ pf g r L P w0 w ∧ mf σ0 (mh σ F) ∧ fr0 < fr ∧ F = nn σ0 fX3_held ∧ σ.1 fX3_held = Int32.ofNat (F + i) ∧ F + i ≤ fr ∧ Y 0 = nn σ0 fX3_nodes ∧ Y i = nn σ fX3_nodes ∧ (∀ k : Nat, k < i → Y k < Y (k + 1) ∧ σ.2 fX3_hold (F + k) = Int32.ofNat (Y (k + 1) - 1) ∧ vt g r L P w σ (E k) (Y k) (Y (k + 1) - 1)) ∧
  ((ch_cs w : Int) + 32 * (3 + i) ≤ ch_cs w0 + 128 * ((fr : Int) - fr0) ∧ (ch_sl w : Int) + 4 * cpN w0 L + 256 * (3 + i) ≤ ch_sl w0 + 1024 * ((fr : Int) - fr0) + 4 * cpN w L + 4 * cap ∧ (nn σ fX3_nodes : Int) + s ≤ nn σ0 fX3_nodes + ((fr : Int) - fr0) ∧ (nn σ fX3_listed : Int) + s ≤ nn σ0 fX3_listed + ((fr : Int) - fr0) ∧ (nn σ fX3_statements : Int) + s ≤ nn σ0 fX3_statements + ((fr : Int) - fr0))
theorem Ymono {Y : Nat → Nat} {m : Nat} (h : ∀ k : Nat, k < m → Y k < Y (k + 1)) : ∀ a b : Nat, a ≤ b → b ≤ m → Y a ≤ Y b := by
  intro a b
  induction b with
  | zero => intro h1 h2; have : a = 0 := by omega
            subst this; exact Nat.le_refl _
  | succ b ih =>
    intro h1 h2
    by_cases hb : a = b + 1
    · subst hb; exact Nat.le_refl _
    · have := ih (by omega) (by omega)
      have := h b (by omega)
      omega
/-- the end of a call when it is stuck -/
theorem ml_stuck {rc : Nat → Int32 → Int32 → Int32 → ch_S → Option (Int32 × ch_S)} {x1 x2 x3 : Int32} {F i q : Nat} {σ1 : ch_S} (h1 : md_fr pk pa σ0 σ1) (h2 : dk σ1 q) (h3 : fr0 ≤ q) (h4 : q ≤ n) (h5 : pjN σ1) (h6 : σ1.1 fX3_held = Int32.ofNat (F + i)) (hF : F = nn σ0 fX3_held) (hF2 : σ0.1 fX3_held = Int32.ofNat F) (hFi : F + i ≤ 3000) (h7 : (nn σ1 fX3_nodes : Int) + 1 ≤ nn σ0 fX3_nodes + ((q : Int) - fr0) + (if σ1.1 fX3_wrong = -1 then 0 else 1)) (h8 : (nn σ1 fX3_listed : Int) + i ≤ nn σ0 fX3_listed + ((q : Int) - fr0)) (h9 : (nn σ1 fX3_statements : Int) ≤ nn σ0 fX3_statements + ((q : Int) - fr0) + (if σ1.1 fX3_wrong = -1 then 0 else 1)) (hA : nn σ0 fX3_nodes + (n - fr0) ≤ 1400 ∧ nn σ0 fX3_listed + (n - fr0) ≤ 1400) (hn31 : n < 2 ^ 31) : ∃ p, m_X3_called_91 rc x1 x2 x3 (Int32.ofNat F) σ1 = some p ∧ pd n 0 σ0 fr0 p.2 q := by
  obtain ⟨σ2, d1, d2⟩ := dm_closes (c := 41) h2 (show q < 2 ^ 31 by omega)
  have e1 : nn σ2 fX3_nodes = nn σ1 fX3_nodes := nn_fr d2.1 (by decide)
  have e2 : nn σ2 fX3_listed = nn σ1 fX3_listed := nn_fr d2.1 (by decide)
  have e3 : nn σ2 fX3_statements = nn σ1 fX3_statements := nn_fr d2.1 (by decide)
  have hN2 := pjN_fr h5 d2.1 (by decide) (by decide) (by decide) (by decide)
  have hz : (if σ1.1 fX3_wrong = -1 then (0 : Int) else 1) ≤ 1 := by split <;> omega
  have hl2 : σ2.1 fX3_listed = Int32.ofNat (nn σ2 fX3_listed) := hN2.2.1
  have hnd2 : nn σ2 fX3_nodes < 3000 := by
    generalize (if σ1.1 fX3_wrong = -1 then (0 : Int) else 1) = z at *
    omega
  have hll2 : nn σ2 fX3_listed + i ≤ 3000 := by
    clear h7 h9 hz
    omega
  obtain ⟨σ', k1, k2, k3, k4, k5, -⟩ := ml_end (rc := rc) (x1 := x1) (x2 := x2) (x3 := x3) (F := F) (i := i) (σ := σ2) hFi hll2 hnd2 hl2 (by rw [d2.1.1 _ (by decide)]; exact h6) hN2.1
  refine ⟨(Int32.ofNat (nn σ2 fX3_nodes), σ'), ?_, (h1.trans (d2.1.mono (by decide) (by decide))).trans (k2.mono (by decide) (by decide)), Or.inl (by rw [k2.1 _ (by decide)]; exact d2.2), h3, h4, ?_, ?_, ?_, ?_, ?_⟩
  · unfold m_X3_called_91
    rw [d1, Option.bind_some]
    exact k1
  · refine ⟨?_, ?_, ?_, ?_⟩
    · unfold nn; rw [k5, lw_nat (by omega)]
    · unfold nn; rw [k3, lw_nat (by omega)]
    · unfold nn; rw [k4, lw_nat (by omega)]
    · rw [nn_fr k2 (by decide), k2.1 _ (by decide)]; exact hN2.2.2.2
  · rw [hF2]; exact k4
  · have : nn σ' fX3_nodes = nn σ2 fX3_nodes + 1 := by unfold nn; rw [k5, lw_nat (by unfold nn at hnd2; omega)]; rfl
    rw [this, k2.1 _ (by decide), d2.2, if_neg (bn_m1n (by omega))]
    generalize (if σ1.1 fX3_wrong = -1 then (0 : Int) else 1) = z at *
    omega
  · have : nn σ' fX3_listed = nn σ2 fX3_listed + i := by unfold nn; rw [k3, lw_nat (by unfold nn at hll2; omega)]; rfl
    rw [this]
    clear h7 h9 hz
    omega
  · rw [nn_fr k2 (by decide), k2.1 _ (by decide), d2.2, if_neg (bn_m1n (by omega))]
    generalize (if σ1.1 fX3_wrong = -1 then (0 : Int) else 1) = z at *
    omega
end ARG
