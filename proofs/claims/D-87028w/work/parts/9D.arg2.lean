/-! LEVEL B2: arguments of both sides: the end -/
set_option maxRecDepth 100000
section ARG
variable {g : State} {P r L S n C1 C2 : Nat} {f : Nat → Nat} {w w0 : ch_W} {σ σ0 : ch_S} {tc fr tt op fr0 : Nat}
/-- the same behind the ) -/
theorem ml_stuck0 {rc : Nat → Int32 → Int32 → Int32 → ch_S → Option (Int32 × ch_S)} {x1 x2 x3 : Int32} {F i q : Nat} {σ2 : ch_S} (h1 : md_fr pk pa σ0 σ2) (h2 : dk σ2 q) (h3 : fr0 ≤ q) (h4 : q ≤ n) (h5 : pjN σ2) (h6 : σ2.1 fX3_held = Int32.ofNat (F + i)) (hF2 : σ0.1 fX3_held = Int32.ofNat F) (hFi : F + i ≤ 3000) (h7 : (nn σ2 fX3_nodes : Int) + 1 ≤ nn σ0 fX3_nodes + ((q : Int) - fr0) + (if σ2.1 fX3_wrong = -1 then 0 else 1)) (h8 : (nn σ2 fX3_listed : Int) + i ≤ nn σ0 fX3_listed + ((q : Int) - fr0)) (h9 : (nn σ2 fX3_statements : Int) ≤ nn σ0 fX3_statements + ((q : Int) - fr0) + (if σ2.1 fX3_wrong = -1 then 0 else 1)) (hA : nn σ0 fX3_nodes + (n - fr0) ≤ 1400 ∧ nn σ0 fX3_listed + (n - fr0) ≤ 1400) : ∃ p, ch_loop (fun (s : Int32 × ch_S) => m_X3_called_107 rc x1 x2 x3 (Int32.ofNat F) (σ2.1 fX3_listed) s.1 s.2) (Int32.ofNat F, σ2) = some p ∧ pd n 0 σ0 fr0 p.2 q := by
  have hz : (if σ2.1 fX3_wrong = -1 then (0 : Int) else 1) ≤ 1 := by split <;> omega
  have hnd2 : nn σ2 fX3_nodes < 3000 := by
    generalize (if σ2.1 fX3_wrong = -1 then (0 : Int) else 1) = z at *
    omega
  have hll2 : nn σ2 fX3_listed + i ≤ 3000 := by
    clear h7 h9 hz
    omega
  obtain ⟨σ', k1, k2, k3, k4, k5, -⟩ := ml_end (rc := rc) (x1 := x1) (x2 := x2) (x3 := x3) (F := F) (i := i) (σ := σ2) hFi hll2 hnd2 h5.2.1 h6 h5.1
  have hw : σ'.1 fX3_wrong = σ2.1 fX3_wrong := k2.1 _ (by decide)
  refine ⟨(Int32.ofNat (nn σ2 fX3_nodes), σ'), k1, h1.trans (k2.mono (by decide) (by decide)), ?_, h3, h4, ?_, ?_, ?_, ?_, ?_⟩
  · unfold dk
    rw [k2.1 _ (by decide), k2.1 fX3_word (by decide), k2.1 fX3_wordFrom (by decide)]
    exact h2
  · refine ⟨?_, ?_, ?_, ?_⟩
    · unfold nn; rw [k5, lw_nat (by omega)]
    · unfold nn; rw [k3, lw_nat (by omega)]
    · unfold nn; rw [k4, lw_nat (by omega)]
    · rw [nn_fr k2 (by decide), k2.1 _ (by decide)]; exact h5.2.2.2
  · rw [hF2]; exact k4
  · have : nn σ' fX3_nodes = nn σ2 fX3_nodes + 1 := by unfold nn; rw [k5, lw_nat (by unfold nn at hnd2; omega)]; rfl
    rw [this, hw]
    generalize (if σ2.1 fX3_wrong = -1 then (0 : Int) else 1) = z at *
    omega
  · have : nn σ' fX3_listed = nn σ2 fX3_listed + i := by unfold nn; rw [k3, lw_nat (by unfold nn at hll2; omega)]; rfl
    rw [this]
    clear h7 h9 hz
    omega
  · rw [nn_fr k2 (by decide), hw]
    generalize (if σ2.1 fX3_wrong = -1 then (0 : Int) else 1) = z at *
    omega
/-- ) -/
theorem po_afin {rc : Nat → Int32 → Int32 → Int32 → ch_S → Option (Int32 × ch_S)} {rcc : Nat → Nat → ch_W → Option (Except Nat (Option Nat) × ch_W)} {La F s i A cap : Nat} {E Y : Nat → Nat} {kind x id : Int32} (hI : aI g P r L S n f C1 C2 op w0 σ0 fr0 La F s w σ tc fr tt i A cap E Y) (hA0 : pjA L n C1 C2 w0 σ0 fr0) (hF0 : σ0.1 fX3_held = Int32.ofNat F) (hs1 : 1 ≤ s) (hsi : i ≤ s) (hn31 : n < 2 ^ 31) :
    po P n C1 C2 0 w0 σ0 fr0 (ch_tb (c_X4_closes g r (some (ch_sa g RX4 173)) w) (fun a w => (Except.error a, w)) fun _ w6 => (ch_rc w6 (some La) 14).bind fun b8 => (c_J5_size b8 w6).bind fun v9 => (ch_nA w6 27 v9).bind fun w11 => ch_loop (fun (s : Int32 × ch_W) => c_X4_arguments_64 rcc g r (some La) (some (ch_nx w6)) s.1 s.2) (0, w11)) (m_X3_called_91 rc kind x id (Int32.ofNat F) σ) (aQ g P r L S n f C1 C2 op w0 σ0 fr0 kind x id) := by
  obtain ⟨j1, j2, j3, j4, j5, j6, j7, j8, j9, j10, j11, i1, i2, i3, i4, i5⟩ := hI
  have htk := j2.1.2.2.2.2.2.2.1.2.2.2
  have hA := j2.2.2
  unfold pjA at hA hA0
  have hfn := htk.2.1
  have hff := htk.1
  have hn12 := j2.2.1.2.2.2.2.1
  have hmfr : md_fr pk pa σ0 σ := by
    have := j4.1
    refine ⟨fun k hk => ?_, fun a ha => this.2 a ha⟩
    have hkh : k ≠ fX3_held := fun q => hk (by rw [q]; decide)
    have h9 := this.1 k hk
    unfold mh at h9
    rw [md_get, if_neg hkh] at h9
    exact h9
  unfold m_X3_called_91
  rw [o_split 0]
  refine po.tb2 (po_closes (c := 41) (v := 0) j2 (by decide) (it_173 j2.1.2.2.2.2.2.2.1 j2.1.1)) j3 (fun _ w6 b σ6 q => ?_) (fun b σ6 q hq2 => ?_)
  · obtain ⟨rfl, z0, ⟨tc6, fr6, tt6, q1, q2, q3⟩, q4⟩ := q
    have hnn6 : nn σ6 fX3_nodes = nn σ fX3_nodes := nn_fr q4 (by decide)
    have hnl6 : nn σ6 fX3_listed = nn σ fX3_listed := nn_fr q4 (by decide)
    have hns6 : nn σ6 fX3_statements = nn σ fX3_statements := nn_fr q4 (by decide)
    have hvow : ∀ k : Nat, k < i → ow r L P w (E k) := fun k hk => by
      have := (j11 k hk).2.2
      rw [vt] at this
      exact this.1
    have hjo := j1.pf q2.1 hvow
    have hjl := hjo.1
    obtain ⟨r1, r2⟩ := pjC_room q1 q1.1.2.2.2.2.2.2.1.2.2.2.1
    have hi14 : i ≤ 1280 := by omega
    have hcapb := hjl.2.2.2.2.2.1
    have hcapz : i = 0 → cap = 0 ∨ cap ≤ 10 := fun _ => Or.inr (by omega)
    have hna : ch_nA w6 27 (Int32.ofNat i) = some (ch_nw w6 (ch_new 27 i)) := b_nA (by omega) (by omega) (by omega)
    rw [d_rc hjl.1, jl_size hjl, Option.bind_some, hna, Option.bind_some]
    have hLan := q1.1.2.2.2.2.2.1 La (by rw [hjl.1]; decide)
    have hAan := q1.1.2.2.2.2.2.1 A (by rcases hjl.2.2.2.2.2.2.1 with y | y <;> omega)
    have hjl11 : jl g (ch_nw w6 (ch_new 27 i)) La A i cap 11 E := hjl.keep (b_oN (by omega)) (b_oN (by omega)) (fun k hk => by
      have h9 := (hjl.2.2.2.2.2.2.2 k hk).2
      have := q1.1.2.2.2.2.2.1 (E k) (by rw [h9]; decide)
      rw [b_tN, if_neg (by omega)]; exact h9)
    obtain ⟨w12, g1, g2, g3, g4, g5, g6, g7⟩ := lc_64 (g := g) (rc := rcc) (r := r) (v := ch_nx w6) (cap := cap) (by omega) i 0 (ch_nw w6 (ch_new 27 i)) (by omega) (by omega) hjl11 (by rw [b_tN, if_pos rfl]; rfl) (by rw [b_nN, if_pos rfl]; rfl)
    have low : ∀ a : Nat, a < ch_nx w6 → w12.1 a = w6.1 a := fun a ha => by rw [g6 a (by omega), b_oN (by omega)]
    have hx12 : ch_nx w12 = ch_nx w6 + 1 := by unfold ch_nx; rw [g7]; rfl
    have hc12 : ch_cs w12 = ch_cs w6 + 1 := by unfold ch_cs; rw [g7]; rfl
    have hs12 : ch_sl w12 = ch_sl w6 + i := by unfold ch_sl; rw [g7]; rfl
    obtain ⟨p1, p2, p3, p4, p5⟩ := pjC_gen (w' := w12) q1.1 (fun a ha => Or.inr (low a ha)) (by omega) (fun b hb => by
      by_cases hbn : b = ch_nx w6
      · omega
      · rw [(b_cell (g6 b hbn)).1, b_tN, if_neg hbn] at hb
        have := q1.1.2.2.2.2.2.1 b hb
        omega)
    have hpf12 : pf g r L P w6 w12 := p5 w6 pf.refl low
    obtain ⟨σ', k1, k2, k3, k4, k5, k6, k7, k8, k9, k10, k11, k12, k13⟩ := ml_end (rc := rc) (x1 := kind) (x2 := x) (x3 := id) (F := F) (i := i) (l := nn σ6 fX3_listed) (nd := nn σ6 fX3_nodes) (σ := σ6) (by omega) (by omega) (by omega) q1.2.1.2.2.2.2.2.2.2.1 (by rw [q4.1 _ (by decide)]; exact j7) q1.2.1.2.2.2.2.2.2.1
    have nn1 : nn σ' fX3_nodes = nn σ6 fX3_nodes + 1 := by
      have : nn σ6 fX3_nodes < 3000 := by omega
      unfold nn at this ⊢; rw [k5, lw_nat (by omega)]; rfl
    have nn2 : nn σ' fX3_listed = nn σ6 fX3_listed + i := by
      have : nn σ6 fX3_listed + i < 3000 := by omega
      unfold nn at this ⊢; rw [k3, lw_nat (by omega)]; rfl
    have nn3 : nn σ' fX3_held = F := by unfold nn; rw [k4, lw_nat (by omega)]
    have nn4 : nn σ' fX3_statements = nn σ6 fX3_statements := nn_fr k2 (by decide)
    have hpjN : pjN σ' := ⟨by rw [nn1]; exact k5, by rw [nn2]; exact k3, by rw [nn3]; exact k4, by rw [nn4, k2.1 _ (by decide)]; exact q1.2.1.2.2.2.2.2.2.2.2.2⟩
    have hFle : F ≤ nn σ fX3_held := by unfold nn; rw [j7, lw_nat (by omega)]; omega
    have hmf6 : mf (mh σ F) (mh σ6 F) := mh_mf q2.2.1 hFle (by omega)
    have hmf7 : mf (mh σ6 F) σ' := by
      refine ⟨⟨fun k hk => ?_, fun a ha => (k2.mono (Ls := pk) (Bs := pa) (by decide) (by decide)).2 a ha⟩, by rw [mh_nn (by decide), nn1]; omega, by rw [mh_nn (by decide), nn2]; omega, by rw [mh_nn (by decide), nn4]; exact Nat.le_refl _, by rw [k4]; rfl, fun a ha k hk => k8 a ha k (by rw [mh_nn (by decide)] at hk; omega), fun k hk => k6 k (by rw [mh_nn (by decide)] at hk; exact hk), fun k _ => by rw [k2.2 _ (by decide)]; rfl, fun a ha k _ => ?_, fun j t q => ?_⟩
      · have hkh : k ≠ fX3_held := fun q => hk (by rw [q]; decide)
        unfold mh
        rw [md_get, if_neg hkh]
        exact (k2.mono (Ls := pk) (Bs := pa) (by decide) (by decide)).1 k hk
      · have hh : ∀ y ∈ psa, y ∉ [fX3_list, fX3_is, fX3_one, fX3_two, fX3_of, fX3_typeOf] := by decide
        rw [k2.2 _ (hh a ha)]; rfl
      · have q9 : mn σ6 j t := by
          obtain ⟨k, T, b1, b2, b3, b4⟩ := q
          exact ⟨k, T, ⟨b1.1, b1.2⟩, b2, b3, b4⟩
        exact mn_fr q9 k2 (by decide) (by decide) (by decide) (by decide)
    have hmf : mf σ0 σ' := (j4.trans hmf6).trans hmf7
    have hM' : pjM n f σ' tc6 fr6 tt6 op := by
      obtain ⟨m1, m2, m3, m4, m5, ⟨kM, TM, m6, m7, m8⟩, m9⟩ := q1.2.1
      refine ⟨m1.fr k2 (by decide) (by decide), ?_, by rw [k2.1 _ (by decide)]; exact m3, by rw [k2.1 _ (by decide)]; exact m4, m5, ⟨kM, TM, m6.fr k2 (by decide) (by decide) (by decide) (by decide), m7, by rw [k2.1 fX3_wordValue (by decide)]; exact m8⟩, hpjN⟩
      unfold md_wd
      rw [k2.1 fX3_wordFrom (by decide), k2.1 fX3_wordLong (by decide), k2.1 fX3_at (by decide), k2.1 fX3_word (by decide), k2.1 fX3_wordValue (by decide)]
      exact m2
    have hb2 := q2.2.2
    have hbd : bd L 2 0 w0 σ0 fr0 w12 σ' fr6 := by
      unfold bd at hb2 ⊢
      rw [p2, hc12, hs12, nn1, nn2, nn4]
      omega
    have hpr : pr g P r L 2 0 w0 σ0 fr0 w12 σ' fr6 := ⟨(j3.trans q2.1).trans hpf12, hmf, hbd⟩
    have hA00 : pjA L n C1 C2 w0 σ0 fr0 := hA0
    have hYm : ∀ a b : Nat, a ≤ b → b ≤ i → Y a ≤ Y b := Ymono (fun k hk => (j11 k hk).1)
    have hA6 := q1.2.2
    unfold pjA at hA6
    refine Or.inl ⟨some (ch_nx w6), w12, Int32.ofNat (nn σ6 fX3_nodes), σ', g1, k1, ch_nx w6, i, nn σ6 fX3_listed, Y, nn σ6 fX3_nodes, rfl, rfl, nn1.symm, ?_, ?_, g4, g5, k9, k10, k12, k11, k13, by rw [nn2]; exact Nat.le_refl _, by omega, j9, by rw [j10, hnn6], fun k hk => ⟨(j11 k hk).1, ?_, ?_, E k, g2 k (by omega) hk, ?_⟩, pg.mk hA00 p1 hM' hpr (by decide) (by decide) (by omega)⟩
    · -- the row is one's own
      have hrn := q1.1.2.2.2.2.2.1 r (by rw [q1.1.2.2.2.2.2.2.1.1.1]; decide)
      have hC1 := q1.1
      obtain ⟨-, -, -, -, -, -, -, -, -, -, A0, k0, cap0, E0, T0, c11, -⟩ := hC1
      have hLn := q1.1.2.2.2.2.2.1 L (by rw [c11.1.1]; decide)
      have hA0n := q1.1.2.2.2.2.2.1 A0 (by rcases c11.1.2.2.2.2.2.2.1 with y | y <;> omega)
      refine Or.inr ⟨by omega, by omega, by omega, ?_⟩
      rw [(b_cell (low L hLn)).2.2.2.1, c11.1.2.1]
      intro q
      have := Option.some.inj q
      omega
    · have := q1.1.2.2.1
      have := q1.1.2.2.2.2.2.1 r (by rw [q1.1.2.2.2.2.2.2.1.1.1]; decide)
      omega
    · have := hYm (k + 1) i (by omega) (Nat.le_refl _)
      omega
    · rw [k7 k hk, q2.2.1.2.2.2.2.2.2.2.1 (F + k) (by unfold nn; rw [j7, lw_nat (by omega)]; omega)]
      exact (j11 k hk).2.1
    · have hv := (j11 k hk).2.2
      have hv6 := vt.keep q2.1 q2.2.1 (by omega) (by omega) (Y (k + 1) - 1 + 1) (E k) _ _ (by omega) hv
      have hmg : mg σ6 σ' := ⟨by omega, by omega, fun a ha k hk => k8 a ha k (by omega), k6, fun j t q => mn_fr q k2 (by decide) (by decide) (by decide) (by decide)⟩
      exact vt.keep0 (fun x hx _ => hpf12.2.1 x hx) hpf12.2.2 hmg (by omega) (by omega) (Y (k + 1) - 1 + 1) (E k) _ _ (by omega) hv6
  · obtain ⟨y1, y2, y3, y4, y5, y6, y7, y8, y9⟩ := hq2
    have g7 : (nn σ6 fX3_nodes : Int) + 1 ≤ nn σ0 fX3_nodes + ((q : Int) - fr0) + (if σ6.1 fX3_wrong = -1 then 0 else 1) := by
      generalize (if σ6.1 fX3_wrong = -1 then (0 : Int) else 1) = z at *
      omega
    have g8 : (nn σ6 fX3_listed : Int) + i ≤ nn σ0 fX3_listed + ((q : Int) - fr0) := by
      clear y7 y9
      omega
    have g9 : (nn σ6 fX3_statements : Int) ≤ nn σ0 fX3_statements + ((q : Int) - fr0) + (if σ6.1 fX3_wrong = -1 then 0 else 1) := by
      generalize (if σ6.1 fX3_wrong = -1 then (0 : Int) else 1) = z at *
      omega
    exact ml_stuck0 (hmfr.trans y1) y2 (by omega) y4 y5 (y6.trans j7) hF0 (by omega) g7 g8 g9 (by omega)
end ARG
