/-! LEVEL B2: the model's next: signs; all cases -/
set_option maxRecDepth 100000
theorem lm_396 {σ : ch_S} {c fr : Nat} (hw : σ.1 fX3_wordFrom = Int32.ofNat fr) : m_X3_next_396 (Int32.ofNat c) σ = some (md_si (md_si (md_si (md_si σ fX3_wordLong 2) fX3_wordValue (Int32.ofNat (c + 256))) fX3_word 4) fX3_at (Int32.ofNat (fr + 2))) := by
  have e : Int32.ofNat c + 256 = Int32.ofNat (c + 256) := bn_add (b := 256)
  unfold m_X3_next_396 m_X3_next_401
  rw [if_neg (by decide)]
  unfold m_X3_next_412
  rw [m_mI, if_neg (by decide), e]
  unfold m_X3_next_429
  rw [m_mI, if_neg (by decide)]
  unfold m_X3_next_444 m_X3_next_449
  rw [m_mI, lm_452 (fr := fr) (tt := fr + 2) (by exact hw) (by rw [Nat.add_sub_cancel_left]; rfl) (by omega)]
theorem lm_400 {σ : ch_S} {c fr : Nat} (hc : c < 256) (hw : σ.1 fX3_wordFrom = Int32.ofNat fr) : ∃ v : Int32, m_X3_next_400 (Int32.ofNat c) σ = some (md_si (md_si (md_si (md_si σ fX3_wordLong 1) fX3_wordValue (Int32.ofNat c)) fX3_word v) fX3_at (Int32.ofNat (fr + 1))) ∧ (lx_one c → v = 4) ∧ (¬ lx_one c → v = 1) := by
  unfold m_X3_next_400 m_X3_next_401
  rw [if_pos rfl]
  unfold m_X3_next_412
  rw [m_mI, if_pos rfl]
  unfold m_X3_next_429
  rw [m_mI, if_pos rfl]
  by_cases h : lx_one c
  · rw [(lm_one hc).1 h, Option.bind_some, if_neg (by decide)]
    unfold m_X3_next_444 m_X3_next_449
    rw [m_mI, lm_452 (fr := fr) (tt := fr + 1) (by exact hw) (by rw [Nat.add_sub_cancel_left]; rfl) (by omega)]
    exact ⟨4, rfl, fun _ => rfl, fun q => absurd h q⟩
  · rw [(lm_one hc).2 h, Option.bind_some, if_pos rfl]
    unfold m_X3_next_449
    rw [m_mI, lm_452 (fr := fr) (tt := fr + 1) (by exact hw) (by rw [Nat.add_sub_cancel_left]; rfl) (by omega)]
    exact ⟨1, rfl, fun q => absurd q h, fun _ => rfl⟩
theorem lm_nxS {σ : ch_S} {n p k fr : Nat} {f : Nat → Nat} {T : Nat → List Nat} (hS : md_S σ n f) (hN : md_N σ k T) (hp : σ.1 fX3_at = Int32.ofNat p) (hpn : p ≤ n) (hfr : lx lx_sp f n p = fr) (hlt : fr < n) (hnl : lx_let (f fr) ≠ true) (hnd : lx_dig (f fr) ≠ true) : ∃ σ', m_X3_next σ = some σ' ∧ md_nx σ σ' f n fr k T := by
  have h5 := hS.2.1
  have hS3 : md_S (md_s3 σ fr) n f := hS.fr (σ' := md_s3 σ fr) md_s3_fr (by decide) (by decide)
  have e1 : Int32.ofNat fr + 1 = Int32.ofNat (fr + 1) := bn_add (b := 1)
  have hc := (hS.2.2 fr hlt).1
  have hd : lx_bh f n fr < 256 := by
    unfold lx_bh
    split
    · exact (hS.2.2 (fr + 1) (by omega)).1
    · decide
  rw [lm_nx0 hS hp hpn, hfr]
  rw [lm_52, lm_byte hS3 (by omega), Option.bind_some, e1, lm_byte hS3 (by omega), Option.bind_some, if_neg (show ¬ Int32.ofNat fr = (md_s3 σ fr).1 fX3_length from fun q => by rw [hS3.1, bn_eq (by omega) (by omega)] at q; omega), if_pos hlt]
  rw [lm_let hc, Option.bind_some, if_neg hnl, if_pos rfl]
  rw [lm_dig hc, Option.bind_some, if_neg hnd, if_pos rfl]
  have eb : (if fr + 1 < n then f (fr + 1) else 0) = lx_bh f n fr := rfl
  rw [eb]
  have E : ∀ a b : Nat, a < 256 → b < 256 → (Int32.ofNat a = Int32.ofNat b ↔ a = b) := fun a b ha hb => bn_eq (by omega) (by omega)
  have d1 : Int32.ofNat (lx_bh f n fr) = 61 ↔ lx_bh f n fr = 61 := E _ 61 hd (by decide)
  have d2 : Int32.ofNat (f fr) = 61 ↔ f fr = 61 := E _ 61 hc (by decide)
  have d3 : Int32.ofNat (f fr) = 33 ↔ f fr = 33 := E _ 33 hc (by decide)
  have d4 : Int32.ofNat (f fr) = 60 ↔ f fr = 60 := E _ 60 hc (by decide)
  have d5 : Int32.ofNat (f fr) = 38 ↔ f fr = 38 := E _ 38 hc (by decide)
  have d6 : Int32.ofNat (f fr) = 124 ↔ f fr = 124 := E _ 124 hc (by decide)
  have d7 : Int32.ofNat (f fr) = Int32.ofNat (lx_bh f n fr) ↔ f fr = lx_bh f n fr := E _ _ hc hd
  unfold m_X3_next_379
  obtain ⟨v, hv, v1, v2⟩ := lm_400 (σ := md_s3 σ fr) (fr := fr) hc rfl
  rw [lm_396 (fr := fr) rfl]
  rw [hv]
  simp only [d1, d2, d3, d4, d5, d6, d7]
  by_cases ht : lx_two (f fr) (lx_bh f n fr)
  · have hn2 : fr + 1 < n := by
      by_cases q : fr + 1 < n
      · exact q
      · have z : lx_bh f n fr = 0 := by unfold lx_bh; rw [if_neg q]
        unfold lx_two at ht
        rw [z] at ht
        omega
    have hfrm : md_fr [fX3_at, fX3_word, fX3_wordFrom, fX3_wordLong, fX3_wordValue] [] σ (md_si (md_si (md_si (md_si (md_s3 σ fr) fX3_wordLong 2) fX3_wordValue (Int32.ofNat (f fr + 256))) fX3_word 4) fX3_at (Int32.ofNat (fr + 2))) := by
      unfold md_s3
      exact (((((((md_fr.refl.si (by decide)).si (by decide)).si (by decide)).si (by decide)).si (by decide)).si (by decide)).si (by decide)).si (by decide)
    refine ⟨_, ?_, hfrm.mono (by decide) (by decide), k, T, hN.fr hfrm (by decide) (by decide) (by decide) (by decide), Nat.le_refl _, by omega, fun _ _ => rfl, Or.inl ⟨1256 + f fr, fr + 2, ⟨by omega, by omega, Or.inr (Or.inr (Or.inr (Or.inr (Or.inl ⟨rfl, rfl, hn2, hnl, hnd, ht⟩))))⟩, ⟨rfl, by rw [Nat.add_sub_cancel_left]; rfl, rfl, fun h => absurd h (by omega), fun h => absurd h (by omega), fun h => absurd h (by omega), fun _ _ => ⟨rfl, ?_⟩, fun h => absurd h (by omega)⟩, fun h => absurd h (by omega)⟩⟩
    · unfold lx_two at ht
      rcases ht with ⟨t1, t2 | t2 | t2⟩ | ⟨t1, t2 | t2⟩
      · rw [if_pos t1, if_pos t2]
      · rw [if_pos t1, if_neg (by omega), if_pos t2]
      · rw [if_pos t1, if_neg (by omega), if_neg (by omega), if_pos t2]
      · rw [if_neg (by omega), if_pos t1, if_pos t2]
      · rw [if_neg (by omega), if_pos t1, if_neg (by omega), if_pos t2]
    · rw [show 1256 + f fr - 1000 = f fr + 256 by omega]
      rfl
  · have hfrm : md_fr [fX3_at, fX3_word, fX3_wordFrom, fX3_wordLong, fX3_wordValue] [] σ (md_si (md_si (md_si (md_si (md_s3 σ fr) fX3_wordLong 1) fX3_wordValue (Int32.ofNat (f fr))) fX3_word v) fX3_at (Int32.ofNat (fr + 1))) := by
      unfold md_s3
      exact (((((((md_fr.refl.si (by decide)).si (by decide)).si (by decide)).si (by decide)).si (by decide)).si (by decide)).si (by decide)).si (by decide)
    refine ⟨_, ?_, hfrm.mono (by decide) (by decide), k, T, hN.fr hfrm (by decide) (by decide) (by decide) (by decide), Nat.le_refl _, by omega, fun _ _ => rfl, ?_⟩
    · unfold lx_two at ht
      by_cases t1 : lx_bh f n fr = 61
      · rw [if_pos t1, if_neg (by omega), if_neg (by omega), if_neg (by omega), if_neg (by omega)]
      · rw [if_neg t1]
        by_cases t2 : f fr = lx_bh f n fr
        · rw [if_pos t2, if_neg (by omega), if_neg (by omega)]
        · rw [if_neg t2]
    · by_cases ho : lx_one (f fr)
      · refine Or.inl ⟨1000 + f fr, fr + 1, ⟨by omega, by omega, Or.inr (Or.inr (Or.inr (Or.inl ⟨rfl, rfl, hlt, hnl, hnd, ht, ho⟩)))⟩, ⟨rfl, by rw [Nat.add_sub_cancel_left]; rfl, rfl, fun h => absurd h (by omega), fun h => absurd h (by omega), fun h => absurd h (by omega), fun _ _ => ⟨?_, ?_⟩, fun h => absurd h (by omega)⟩, fun h => absurd h (by omega)⟩
        · exact v1 ho
        · rw [Nat.add_sub_cancel_left]
          rfl
      · exact Or.inr ⟨v2 ho, rfl, hlt, hnl, Or.inr ⟨hnd, ht, ho⟩⟩
/-- THE MODEL'S NEXT -/
theorem lm_nx {σ : ch_S} {n p k : Nat} {f : Nat → Nat} {T : Nat → List Nat} (hS : md_S σ n f) (hN : md_N σ k T) (hk : k < 1600) (hp : σ.1 fX3_at = Int32.ofNat p) (hpn : p ≤ n) : ∃ σ', m_X3_next σ = some σ' ∧ md_nx σ σ' f n (lx lx_sp f n p) k T := by
  by_cases he : lx lx_sp f n p = n
  · rw [he]; exact lm_nxE hS hN hp hpn he
  · have hlt : lx lx_sp f n p < n := by
      have := lx_le (P := lx_sp) (f := f) n p (by omega) hpn
      omega
    by_cases hl : lx_let (f (lx lx_sp f n p)) = true
    · exact lm_nxL hS hN hk hp hpn rfl hlt hl rfl
    · by_cases hd : lx_dig (f (lx lx_sp f n p)) = true
      · exact lm_nxD hS hN hp hpn rfl hlt hl hd rfl
      · exact lm_nxS hS hN hp hpn rfl hlt hl hd
