/-! LEVEL B2: the model's next: case by case -/
set_option maxRecDepth 100000
/-- what next leaves -/
def md_nx (σ σ' : ch_S) (f : Nat → Nat) (n fr k : Nat) (T : Nat → List Nat) : Prop := md_fr md_nk md_na σ σ' ∧ ∃ (k' : Nat) (T' : Nat → List Nat), md_N σ' k' T' ∧ k ≤ k' ∧ k' ≤ k + 1 ∧ (∀ j : Nat, j < k → T' j = T j) ∧
  ((∃ tc tt : Nat, lx_tk f n tc fr tt ∧ md_wd σ' f tc fr tt ∧ (tc = 1 → ∃ j : Nat, j < k' ∧ σ'.1 fX3_wordValue = Int32.ofNat j ∧ T' j = lx_tx f fr tt)) ∨
   (σ'.1 fX3_word = 1 ∧ σ'.1 fX3_wordFrom = Int32.ofNat fr ∧ lx_bad f n fr))
theorem lm_nx0 {σ : ch_S} {n p : Nat} {f : Nat → Nat} (hS : md_S σ n f) (hp : σ.1 fX3_at = Int32.ofNat p) (hpn : p ≤ n) : m_X3_next σ = m_X3_next_52 (md_si σ fX3_at (Int32.ofNat (lx lx_sp f n p))) := by
  unfold m_X3_next
  exact lm_next n σ p hS hp hpn (by omega)
theorem lm_52 {σ : ch_S} {fr : Nat} : m_X3_next_52 (md_si σ fX3_at (Int32.ofNat fr)) = ((m_X3_byteAt (Int32.ofNat fr) (md_s3 σ fr)).bind fun v4 => (m_X3_byteAt ((Int32.ofNat fr) + 1) (md_s3 σ fr)).bind fun v6 => if (Int32.ofNat fr) = ((md_s3 σ fr).1 fX3_length) then ((ch_mI (md_s3 σ fr) fX3_word 0).bind fun σ12 => m_X3_next_452 σ12) else ((m_X3_isLetter v4 (md_s3 σ fr)).bind fun v8 => if v8 = 0 then ((m_X3_isDigit v4 (md_s3 σ fr)).bind fun v10 => if v10 = 0 then (if v6 = 61 then (if v4 = 61 then (m_X3_next_396 v4 (md_s3 σ fr)) else (if v4 = 33 then (m_X3_next_396 v4 (md_s3 σ fr)) else (if v4 = 60 then (m_X3_next_396 v4 (md_s3 σ fr)) else (m_X3_next_379 v4 v6 (md_s3 σ fr))))) else (m_X3_next_379 v4 v6 (md_s3 σ fr))) else (ch_loop (fun (s : ch_S) => m_X3_next_235 s) ((md_s3 σ fr)))) else (ch_loop (fun (s : ch_S) => m_X3_next_116 s) ((md_s3 σ fr))))) := rfl
/-- the end -/
theorem lm_nxE {σ : ch_S} {n p k : Nat} {f : Nat → Nat} {T : Nat → List Nat} (hS : md_S σ n f) (hN : md_N σ k T) (hp : σ.1 fX3_at = Int32.ofNat p) (hpn : p ≤ n) (he : lx lx_sp f n p = n) : ∃ σ', m_X3_next σ = some σ' ∧ md_nx σ σ' f n n k T := by
  have h5 := hS.2.1
  have hS3 : md_S (md_s3 σ n) n f := hS.fr (σ' := md_s3 σ n) md_s3_fr (by decide) (by decide)
  have e1 : Int32.ofNat n + 1 = Int32.ofNat (n + 1) := bn_add (b := 1)
  rw [lm_nx0 hS hp hpn, he]
  rw [lm_52, lm_byte hS3 (by omega), Option.bind_some, e1, lm_byte hS3 (by omega), Option.bind_some, if_pos (show Int32.ofNat n = (md_s3 σ n).1 fX3_length from hS3.1.symm)]
  rw [m_mI, lm_452 (fr := n) (tt := n) rfl (by rw [Nat.sub_self]; rfl) (Nat.le_refl _)]
  refine ⟨_, rfl, ((md_s3_fr.si (by decide)).si (by decide)), k, T, ?_, Nat.le_refl _, by omega, fun _ _ => rfl, Or.inl ⟨0, n, ⟨Nat.le_refl _, Nat.le_refl _, Or.inl ⟨rfl, rfl, rfl⟩⟩, ⟨rfl, by rw [Nat.sub_self]; rfl, rfl, fun _ => rfl, fun h => absurd h (by decide), fun h => absurd h (by decide), fun h => absurd h (by decide), fun h => absurd h (by decide)⟩, fun h => absurd h (by decide)⟩⟩
  exact hN.fr (Ks := [fX3_at, fX3_word, fX3_wordFrom, fX3_wordLong, fX3_wordValue]) (As := []) (by
    unfold md_s3
    exact (((((md_fr.refl.si (by decide)).si (by decide)).si (by decide)).si (by decide)).si (by decide)).si (by decide)) (by decide) (by decide) (by decide) (by decide)
/-- letters -/
theorem lm_nxL {σ : ch_S} {n p k fr tt : Nat} {f : Nat → Nat} {T : Nat → List Nat} (hS : md_S σ n f) (hN : md_N σ k T) (hk : k < 1600) (hp : σ.1 fX3_at = Int32.ofNat p) (hpn : p ≤ n) (hfr : lx lx_sp f n p = fr) (hlt : fr < n) (hl : lx_let (f fr) = true) (htt : lx lx_aln f n fr = tt) : ∃ σ', m_X3_next σ = some σ' ∧ md_nx σ σ' f n fr k T := by
  have h5 := hS.2.1
  have hge : fr < tt := by
    rw [← htt, lx_go ⟨hlt, by unfold lx_aln; rw [hl]; rfl⟩]
    exact Nat.lt_of_lt_of_le (Nat.lt_succ_self _) (lx_ge n (fr + 1) (by omega))
  have hle : tt ≤ n := by rw [← htt]; exact lx_le n fr (by omega) (by omega)
  have hS3 : md_S (md_s3 σ fr) n f := hS.fr (σ' := md_s3 σ fr) md_s3_fr (by decide) (by decide)
  have e1 : Int32.ofNat fr + 1 = Int32.ofNat (fr + 1) := bn_add (b := 1)
  rw [lm_nx0 hS hp hpn, hfr]
  rw [lm_52, lm_byte hS3 (by omega), Option.bind_some, e1, lm_byte hS3 (by omega), Option.bind_some, if_neg (show ¬ Int32.ofNat fr = (md_s3 σ fr).1 fX3_length from fun q => by rw [hS3.1, bn_eq (by omega) (by omega)] at q; omega), if_pos hlt]
  rw [lm_let (hS.2.2 fr hlt).1, Option.bind_some, if_pos hl, if_neg (by decide)]
  have hloop := lm_alnum (n := n) (fr := fr) (f := f) n (md_s3 σ fr) 0 hS3 rfl rfl (by omega) (by omega)
  rw [Nat.add_zero, htt] at hloop
  rw [hloop]
  have hS4 : md_S (md_si (md_s3 σ fr) fX3_wordLong (Int32.ofNat (tt - fr))) n f := hS3.si (by decide)
  obtain ⟨kk, k1, k2, k3, k4⟩ := lm_key (fr := fr) (q := tt - fr) hS4 rfl rfl (by omega)
  rw [show fr + (tt - fr) = tt by omega] at k3 k4
  unfold m_X3_next_185
  rw [k1, Option.bind_some, m_mI]
  by_cases hz : kk = 0
  · subst hz
    rw [md_gs, if_neg (show ¬ (0 : Int32) < Int32.ofNat 0 by decide)]
    unfold m_X3_next_206
    rw [m_mI, md_gs, if_pos rfl]
    have hfrm : md_fr [fX3_at, fX3_word, fX3_wordFrom, fX3_wordLong, fX3_wordValue] [] σ (md_si (md_si (md_si (md_s3 σ fr) fX3_wordLong (Int32.ofNat (tt - fr))) fX3_wordValue (Int32.ofNat 0)) fX3_word 2) := by
      unfold md_s3
      exact ((((((md_fr.refl.si (by decide)).si (by decide)).si (by decide)).si (by decide)).si (by decide)).si (by decide)).si (by decide)
    have hS6 := hS.fr hfrm (by decide) (by decide)
    have hN6 := hN.fr hfrm (by decide) (by decide) (by decide) (by decide)
    unfold m_X3_nameOf
    rcases lm_nm3 (fr := fr) (tt := tt) hS6 hN6 hk rfl rfl (by omega) hle k 0 (by omega) (by omega) (fun x q => absurd q (by omega)) with ⟨x, x1, x2, x3⟩ | ⟨x2, x3⟩
    · show ∃ σ', ((ch_loop (fun (s : Int32) => m_X3_nameOf_2 s _) (Int32.ofNat 0)).bind _) = some σ' ∧ _
      rw [x3, Option.bind_some, m_mI, lm_452 (fr := fr) (tt := tt) rfl rfl (by omega)]
      refine ⟨_, rfl, ((hfrm.mono (by decide) (by decide)).si (by decide)).si (by decide), k, T, ?_, Nat.le_refl _, by omega, fun _ _ => rfl, Or.inl ⟨1, tt, ⟨by omega, hle, Or.inr (Or.inl ⟨rfl, hge, hl, htt, k3 rfl⟩)⟩, ⟨rfl, rfl, rfl, fun h => absurd h (by decide), fun _ => rfl, fun h => absurd h (by decide), fun h => absurd h (by decide), fun h => absurd h (by decide)⟩, fun _ => ⟨x, x1, rfl, x2⟩⟩⟩
      exact hN6.fr (Ks := [fX3_at, fX3_wordValue]) (As := []) ((md_fr.refl.si (by decide)).si (by decide)) (by decide) (by decide) (by decide) (by decide)
    · show ∃ σ', ((ch_loop (fun (s : Int32) => m_X3_nameOf_2 s _) (Int32.ofNat 0)).bind _) = some σ' ∧ _
      have hN7 := md_nn_N (fr := fr) (tt := tt) hS6 hN6 rfl rfl (by omega) hle x2
      rw [x3, Option.bind_some, m_mI, lm_452 (fr := fr) (tt := tt) rfl rfl (by omega)]
      have hf7 : md_fr md_nk md_na σ (md_nn (md_si (md_si (md_si (md_s3 σ fr) fX3_wordLong (Int32.ofNat (tt - fr))) fX3_wordValue (Int32.ofNat 0)) fX3_word 2) k) := by
        unfold md_nn
        exact (((hfrm.mono (Ls := md_nk) (Bs := md_na) (by decide) (by decide)).sa (by decide)).sa (by decide)).si (by decide)
      refine ⟨_, rfl, (hf7.si (by decide)).si (by decide), k + 1, lx_up T k (lx_tx f fr tt), ?_, by omega, by omega, fun j hj => by unfold lx_up; rw [if_neg (by omega)], Or.inl ⟨1, tt, ⟨by omega, hle, Or.inr (Or.inl ⟨rfl, hge, hl, htt, k3 rfl⟩)⟩, ⟨rfl, rfl, rfl, fun h => absurd h (by decide), fun _ => rfl, fun h => absurd h (by decide), fun h => absurd h (by decide), fun h => absurd h (by decide)⟩, fun _ => ⟨k, by omega, rfl, by unfold lx_up; rw [if_pos rfl]⟩⟩⟩
      exact hN7.fr (Ks := [fX3_at, fX3_wordValue]) (As := []) ((md_fr.refl.si (by decide)).si (by decide)) (by decide) (by decide) (by decide) (by decide)
  · rw [md_gs, if_pos (show (0 : Int32) < Int32.ofNat kk from (bn_lt (a := 0) (by decide) (by omega)).mpr (by omega))]
    unfold m_X3_next_206
    rw [m_mI, md_gs, if_neg (show ¬ (5 : Int32) = 2 by decide)]
    rw [lm_452 (fr := fr) (tt := tt) rfl rfl (by omega)]
    have hfrm : md_fr [fX3_at, fX3_word, fX3_wordFrom, fX3_wordLong, fX3_wordValue] [] σ (md_si (md_si (md_si (md_si (md_s3 σ fr) fX3_wordLong (Int32.ofNat (tt - fr))) fX3_wordValue (Int32.ofNat kk)) fX3_word 5) fX3_at (Int32.ofNat tt)) := by
      unfold md_s3
      exact (((((((md_fr.refl.si (by decide)).si (by decide)).si (by decide)).si (by decide)).si (by decide)).si (by decide)).si (by decide)).si (by decide)
    refine ⟨_, rfl, hfrm.mono (by decide) (by decide), k, T, hN.fr hfrm (by decide) (by decide) (by decide) (by decide), Nat.le_refl _, by omega, fun _ _ => rfl, Or.inl ⟨2001 + (kk - 1), tt, ⟨by omega, hle, Or.inr (Or.inr (Or.inr (Or.inr (Or.inr ⟨kk - 1, by omega, rfl, hge, hl, htt, k4 (by omega)⟩))))⟩, ⟨rfl, rfl, rfl, fun h => absurd h (by omega), fun h => absurd h (by omega), fun h => absurd h (by omega), fun _ h => absurd h (by omega), fun _ => ⟨rfl, ?_⟩⟩, fun h => absurd h (by omega)⟩⟩
    rw [show 2001 + (kk - 1) - 2000 = kk by omega]
    rfl
/-- digits -/
theorem lm_nxD {σ : ch_S} {n p k fr tt : Nat} {f : Nat → Nat} {T : Nat → List Nat} (hS : md_S σ n f) (hN : md_N σ k T) (hp : σ.1 fX3_at = Int32.ofNat p) (hpn : p ≤ n) (hfr : lx lx_sp f n p = fr) (hlt : fr < n) (hnl : lx_let (f fr) ≠ true) (hl : lx_dig (f fr) = true) (htt : lx lx_dig f n fr = tt) : ∃ σ', m_X3_next σ = some σ' ∧ md_nx σ σ' f n fr k T := by
  have h5 := hS.2.1
  have hge : fr < tt := by
    rw [← htt, lx_go ⟨hlt, hl⟩]
    exact Nat.lt_of_lt_of_le (Nat.lt_succ_self _) (lx_ge n (fr + 1) (by omega))
  have hle : tt ≤ n := by rw [← htt]; exact lx_le n fr (by omega) (by omega)
  have hall : ∀ i : Nat, fr ≤ i → i < tt → lx_dig (f i) = true := by rw [← htt]; exact lx_all n fr (by omega)
  have hS3 : md_S (md_s3 σ fr) n f := hS.fr (σ' := md_s3 σ fr) md_s3_fr (by decide) (by decide)
  have e1 : Int32.ofNat fr + 1 = Int32.ofNat (fr + 1) := bn_add (b := 1)
  rw [lm_nx0 hS hp hpn, hfr]
  rw [lm_52, lm_byte hS3 (by omega), Option.bind_some, e1, lm_byte hS3 (by omega), Option.bind_some, if_neg (show ¬ Int32.ofNat fr = (md_s3 σ fr).1 fX3_length from fun q => by rw [hS3.1, bn_eq (by omega) (by omega)] at q; omega), if_pos hlt]
  rw [lm_let (hS.2.2 fr hlt).1, Option.bind_some, if_neg hnl, if_pos rfl]
  rw [lm_dig (hS.2.2 fr hlt).1, Option.bind_some, if_pos hl, if_neg (by decide)]
  have hloop := lm_digits (n := n) (fr := fr) (f := f) n (md_s3 σ fr) 0 hS3 rfl rfl (by omega) (by omega)
  rw [Nat.add_zero, htt] at hloop
  rw [hloop]
  have hS4 : md_S (md_si (md_s3 σ fr) fX3_wordLong (Int32.ofNat (tt - fr))) n f := hS3.si (by decide)
  unfold m_X3_next_284
  rw [md_gs]
  have e9 : ((9 : Int32) < Int32.ofNat (tt - fr)) ↔ 9 < tt - fr := bn_lt (a := 9) (by decide) (by omega)
  by_cases hz : 9 < tt - fr
  · rw [if_pos (show (9 : Int32) < Int32.ofNat (tt - fr) from e9.mpr hz), m_mI]
    have hfrm : md_fr [fX3_at, fX3_word, fX3_wordFrom, fX3_wordLong, fX3_wordValue] [] σ (md_si (md_si (md_si (md_s3 σ fr) fX3_wordLong (Int32.ofNat (tt - fr))) fX3_word 1) fX3_at (Int32.ofNat tt)) := by
      unfold md_s3
      exact ((((((md_fr.refl.si (by decide)).si (by decide)).si (by decide)).si (by decide)).si (by decide)).si (by decide)).si (by decide)
    have hend : ch_loop (fun (s : Int32 × ch_S) => m_X3_next_304 s.1 s.2) (0, md_si (md_si (md_s3 σ fr) fX3_wordLong (Int32.ofNat (tt - fr))) fX3_word 1) = some (md_si (md_si (md_si (md_s3 σ fr) fX3_wordLong (Int32.ofNat (tt - fr))) fX3_word 1) fX3_at (Int32.ofNat tt)) := by
      refine ch_loop_inr ?_
      show m_X3_next_304 0 _ = _
      unfold m_X3_next_304 m_X3_next_352
      rw [lm_452 (fr := fr) (tt := tt) rfl rfl (by omega), md_gs, if_neg (show ¬ (1 : Int32) = 3 by decide)]
      split <;> rfl
    rw [hend]
    exact ⟨_, rfl, hfrm.mono (by decide) (by decide), k, T, hN.fr hfrm (by decide) (by decide) (by decide) (by decide), Nat.le_refl _, by omega, fun _ _ => rfl, Or.inr ⟨rfl, rfl, hlt, hnl, Or.inl ⟨hl, by rw [htt]; exact hz⟩⟩⟩
  · rw [if_neg (show ¬ (9 : Int32) < Int32.ofNat (tt - fr) from fun q => hz (e9.mp q)), m_mI]
    have hS5 : md_S (md_si (md_si (md_s3 σ fr) fX3_wordLong (Int32.ofNat (tt - fr))) fX3_word 3) n f := hS4.si (by decide)
    rw [show (0 : Int32) = Int32.ofNat 0 from rfl, lm_304 (n := n) (fr := fr) (tt := tt) (f := f) (by omega) hle (by omega) hall (tt - fr) 0 _ hS5 rfl rfl rfl rfl (by omega) (by omega)]
    have hfrm : md_fr [fX3_at, fX3_word, fX3_wordFrom, fX3_wordLong, fX3_wordValue] [] σ (md_si (md_si (md_si (md_si (md_s3 σ fr) fX3_wordLong (Int32.ofNat (tt - fr))) fX3_word 3) fX3_wordValue (Int32.ofNat (lx_num f fr (tt - fr)))) fX3_at (Int32.ofNat tt)) := by
      unfold md_s3
      exact (((((((md_fr.refl.si (by decide)).si (by decide)).si (by decide)).si (by decide)).si (by decide)).si (by decide)).si (by decide)).si (by decide)
    exact ⟨_, rfl, hfrm.mono (by decide) (by decide), k, T, hN.fr hfrm (by decide) (by decide) (by decide) (by decide), Nat.le_refl _, by omega, fun _ _ => rfl, Or.inl ⟨2, tt, ⟨by omega, hle, Or.inr (Or.inr (Or.inl ⟨rfl, hge, hl, htt, by omega⟩))⟩, ⟨rfl, rfl, rfl, fun h => absurd h (by decide), fun h => absurd h (by decide), fun _ => ⟨rfl, rfl⟩, fun h => absurd h (by decide), fun h => absurd h (by decide)⟩, fun h => absurd h (by decide)⟩⟩
