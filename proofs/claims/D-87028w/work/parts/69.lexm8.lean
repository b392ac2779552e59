/-! LEVEL B2: the model's next, the whole of it -/
set_option maxRecDepth 100000
def md_fr (Ks As : List Nat) (σ σ' : ch_S) : Prop := (∀ k : Nat, k ∉ Ks → σ'.1 k = σ.1 k) ∧ ∀ a : Nat, a ∉ As → σ'.2 a = σ.2 a
theorem md_fr.trans {Ks As : List Nat} {σ σ1 σ2 : ch_S} (h : md_fr Ks As σ σ1) (h2 : md_fr Ks As σ1 σ2) : md_fr Ks As σ σ2 := ⟨fun k hk => (h2.1 k hk).trans (h.1 k hk), fun a ha => (h2.2 a ha).trans (h.2 a ha)⟩
theorem md_fr.refl {Ks As : List Nat} {σ : ch_S} : md_fr Ks As σ σ := ⟨fun _ _ => rfl, fun _ _ => rfl⟩
theorem md_fr.si {Ks As : List Nat} {σ σ1 : ch_S} {k : Nat} {v : Int32} (h : md_fr Ks As σ σ1) (hk : k ∈ Ks) : md_fr Ks As σ (md_si σ1 k v) := ⟨fun j hj => by rw [md_get, if_neg (fun q => hj (by rw [q]; exact hk))]; exact h.1 j hj, h.2⟩
theorem md_fr.sa {Ks As : List Nat} {σ σ1 : ch_S} {k i : Nat} {v : Int32} (h : md_fr Ks As σ σ1) (hk : k ∈ As) : md_fr Ks As σ (md_sa σ1 k i v) := ⟨h.1, fun j hj => by rw [md_an (fun q => hj (by rw [q]; exact hk))]; exact h.2 j hj⟩
theorem md_fr.mono {Ks As Ls Bs : List Nat} {σ σ1 : ch_S} (h : md_fr Ks As σ σ1) (h1 : ∀ k : Nat, k ∈ Ks → k ∈ Ls) (h2 : ∀ k : Nat, k ∈ As → k ∈ Bs) : md_fr Ls Bs σ σ1 := ⟨fun k hk => h.1 k (fun q => hk (h1 k q)), fun k hk => h.2 k (fun q => hk (h2 k q))⟩
theorem md_gs {σ : ch_S} {k : Nat} {v : Int32} : (md_si σ k v).1 k = v := by rw [md_get, if_pos rfl]
theorem m_mI {β : Type} {σ : ch_S} {k : Nat} {v : Int32} {F : ch_S → Option β} : (ch_mI σ k v).bind F = F (md_si σ k v) := rfl
theorem m_mw {β : Type} {σ : ch_S} {k i : Nat} {v : Int32} {F : ch_S → Option β} (hi : i < ch_ml k) (hn : ch_ml k ≤ 2 ^ 31) : (ch_mw σ k (Int32.ofNat i) v).bind F = F (md_sa σ k i v) := d_mw hi hn
def lx_num (f : Nat → Nat) (fr : Nat) : Nat → Nat
  | 0 => 0
  | k + 1 => 10 * lx_num f fr k + (f (fr + k) - 48)
/-- a word: its code, from where to where -/
def lx_tk (f : Nat → Nat) (n tc fr tt : Nat) : Prop := fr ≤ tt ∧ tt ≤ n ∧
  ((tc = 0 ∧ fr = n ∧ tt = n) ∨
   (tc = 1 ∧ fr < tt ∧ lx_let (f fr) = true ∧ lx lx_aln f n fr = tt ∧ ∀ j : Nat, j < 21 → ¬ lx_is f fr tt (lx_kw.getD j [])) ∨
   (tc = 2 ∧ fr < tt ∧ lx_dig (f fr) = true ∧ lx lx_dig f n fr = tt ∧ tt - fr ≤ 9) ∨
   (tc = 1000 + f fr ∧ tt = fr + 1 ∧ fr < n ∧ lx_let (f fr) ≠ true ∧ lx_dig (f fr) ≠ true ∧ ¬ lx_two (f fr) (lx_bh f n fr) ∧ lx_one (f fr)) ∨
   (tc = 1256 + f fr ∧ tt = fr + 2 ∧ fr + 1 < n ∧ lx_let (f fr) ≠ true ∧ lx_dig (f fr) ≠ true ∧ lx_two (f fr) (lx_bh f n fr)) ∨
   (∃ j : Nat, j < 21 ∧ tc = 2001 + j ∧ fr < tt ∧ lx_let (f fr) = true ∧ lx lx_aln f n fr = tt ∧ lx_is f fr tt (lx_kw.getD j [])))
/-- no word at all -/
def lx_bad (f : Nat → Nat) (n fr : Nat) : Prop := fr < n ∧ lx_let (f fr) ≠ true ∧ ((lx_dig (f fr) = true ∧ 9 < lx lx_dig f n fr - fr) ∨ (lx_dig (f fr) ≠ true ∧ ¬ lx_two (f fr) (lx_bh f n fr) ∧ ¬ lx_one (f fr)))
/-- the model's word -/
def md_wd (σ : ch_S) (f : Nat → Nat) (tc fr tt : Nat) : Prop := σ.1 fX3_wordFrom = Int32.ofNat fr ∧ σ.1 fX3_wordLong = Int32.ofNat (tt - fr) ∧ σ.1 fX3_at = Int32.ofNat tt ∧
  (tc = 0 → σ.1 fX3_word = 0) ∧ (tc = 1 → σ.1 fX3_word = 2) ∧ (tc = 2 → σ.1 fX3_word = 3 ∧ σ.1 fX3_wordValue = Int32.ofNat (lx_num f fr (tt - fr))) ∧
  (1000 ≤ tc → tc < 2000 → σ.1 fX3_word = 4 ∧ σ.1 fX3_wordValue = Int32.ofNat (tc - 1000)) ∧ (2000 ≤ tc → σ.1 fX3_word = 5 ∧ σ.1 fX3_wordValue = Int32.ofNat (tc - 2000))
def md_nk : List Nat := [fX3_at, fX3_word, fX3_wordFrom, fX3_wordLong, fX3_wordValue, fX3_names]
def md_na : List Nat := [fX3_nameFrom, fX3_nameLong]
theorem lm_byte {σ : ch_S} {n i : Nat} {f : Nat → Nat} (hS : md_S σ n f) (hi : i ≤ n + 1) : m_X3_byteAt (Int32.ofNat i) σ = some (Int32.ofNat (if i < n then f i else 0)) := by
  have h5 := hS.2.1
  unfold m_X3_byteAt
  rw [hS.1]
  by_cases h : i < n
  · rw [if_pos (by rw [bn_lt (by omega) (by omega)]; exact h), lm_rd hS h, if_pos h]
  · rw [if_neg (by rw [bn_lt (by omega) (by omega)]; exact h), if_neg h]
    rfl
theorem lm_one {σ : ch_S} {x : Nat} (h : x < 256) : (lx_one x → m_X3_isSignByte (Int32.ofNat x) σ = some 1) ∧ (¬ lx_one x → m_X3_isSignByte (Int32.ofNat x) σ = some 0) := by
  have E : ∀ k : Nat, k < 256 → (Int32.ofNat x = Int32.ofNat k ↔ x = k) := fun k hk => bn_eq (by omega) (by omega)
  have e1 : Int32.ofNat x = 123 ↔ x = 123 := E 123 (by decide)
  have e2 : Int32.ofNat x = 125 ↔ x = 125 := E 125 (by decide)
  have e3 : Int32.ofNat x = 40 ↔ x = 40 := E 40 (by decide)
  have e4 : Int32.ofNat x = 41 ↔ x = 41 := E 41 (by decide)
  have e5 : Int32.ofNat x = 91 ↔ x = 91 := E 91 (by decide)
  have e6 : Int32.ofNat x = 93 ↔ x = 93 := E 93 (by decide)
  have e7 : Int32.ofNat x = 59 ↔ x = 59 := E 59 (by decide)
  have e8 : Int32.ofNat x = 44 ↔ x = 44 := E 44 (by decide)
  have e9 : Int32.ofNat x = 46 ↔ x = 46 := E 46 (by decide)
  have e10 : Int32.ofNat x = 58 ↔ x = 58 := E 58 (by decide)
  have e11 : Int32.ofNat x = 61 ↔ x = 61 := E 61 (by decide)
  have e12 : Int32.ofNat x = 60 ↔ x = 60 := E 60 (by decide)
  have e13 : Int32.ofNat x = 43 ↔ x = 43 := E 43 (by decide)
  have e14 : Int32.ofNat x = 45 ↔ x = 45 := E 45 (by decide)
  have e15 : Int32.ofNat x = 42 ↔ x = 42 := E 42 (by decide)
  have e16 : Int32.ofNat x = 47 ↔ x = 47 := E 47 (by decide)
  have e17 : Int32.ofNat x = 37 ↔ x = 37 := E 37 (by decide)
  have e18 : Int32.ofNat x = 33 ↔ x = 33 := E 33 (by decide)
  unfold m_X3_isSignByte
  simp only [e1, e2, e3, e4, e5, e6, e7, e8, e9, e10, e11, e12, e13, e14, e15, e16, e17, e18]
  refine ⟨fun h1 => ?_, fun h1 => ?_⟩
  · unfold lx_one at h1
    rcases h1 with h1 | h1 | h1 | h1 | h1 | h1 | h1 | h1 | h1 | h1 | h1 | h1 | h1 | h1 | h1 | h1 | h1 | h1 <;> simp [h1]
  · unfold lx_one at h1
    simp only [not_or] at h1
    simp [h1]
/-- the state ahead of the cases -/
def md_s3 (σ : ch_S) (fr : Nat) : ch_S := md_si (md_si (md_si (md_si σ fX3_at (Int32.ofNat fr)) fX3_wordFrom (Int32.ofNat fr)) fX3_wordLong 0) fX3_wordValue 0
theorem md_s3_fr {σ : ch_S} {fr : Nat} : md_fr md_nk md_na σ (md_s3 σ fr) := by
  unfold md_s3
  exact (((md_fr.refl.si (by decide)).si (by decide)).si (by decide)).si (by decide)
theorem md_S.fr {σ σ' : ch_S} {n : Nat} {f : Nat → Nat} {Ks As : List Nat} (h : md_S σ n f) (hf : md_fr Ks As σ σ') (h1 : fX3_length ∉ Ks) (h2 : fX3_source ∉ As) : md_S σ' n f := ⟨by rw [hf.1 _ h1]; exact h.1, h.2.1, fun i hi => by rw [hf.2 _ h2]; exact h.2.2 i hi⟩
theorem md_N.fr {σ σ' : ch_S} {k : Nat} {T : Nat → List Nat} {Ks As : List Nat} (h : md_N σ k T) (hf : md_fr Ks As σ σ') (h1 : fX3_names ∉ Ks) (h2 : fX3_nameFrom ∉ As) (h3 : fX3_nameLong ∉ As) (h4 : fX3_source ∉ As) : md_N σ' k T := by
  refine ⟨by rw [hf.1 _ h1]; exact h.1, fun j hj => ?_, h.2.2⟩
  obtain ⟨a, a1, a2, a3, a4⟩ := h.2.1 j hj
  exact ⟨a, by rw [hf.2 _ h2]; exact a1, by rw [hf.2 _ h3]; exact a2, a3, fun i hi => by rw [hf.2 _ h4]; exact a4 i hi⟩
theorem lm_452 {σ : ch_S} {fr tt : Nat} (hw : σ.1 fX3_wordFrom = Int32.ofNat fr) (hq : σ.1 fX3_wordLong = Int32.ofNat (tt - fr)) (h0 : fr ≤ tt) : m_X3_next_452 σ = some (md_si σ fX3_at (Int32.ofNat tt)) := by
  unfold m_X3_next_452
  rw [hw, hq, bn_add, show fr + (tt - fr) = tt by omega]
  rfl
/-- numbers -/
theorem lm_304 {n fr tt : Nat} {f : Nat → Nat} (h0 : fr ≤ tt) (hn : tt ≤ n) (h9 : tt - fr ≤ 9) (hd : ∀ i : Nat, fr ≤ i → i < tt → lx_dig (f i) = true) : ∀ (c i : Nat) (σ : ch_S), md_S σ n f → σ.1 fX3_wordFrom = Int32.ofNat fr → σ.1 fX3_wordLong = Int32.ofNat (tt - fr) → σ.1 fX3_word = 3 → σ.1 fX3_wordValue = Int32.ofNat (lx_num f fr i) → (tt - fr) - i ≤ c → i ≤ tt - fr →
    ch_loop (fun (s : Int32 × ch_S) => m_X3_next_304 s.1 s.2) (Int32.ofNat i, σ) = some (md_si (md_si σ fX3_wordValue (Int32.ofNat (lx_num f fr (tt - fr)))) fX3_at (Int32.ofNat tt)) := by
  intro c
  have fin : ∀ (i : Nat) (σ : ch_S), md_S σ n f → σ.1 fX3_wordFrom = Int32.ofNat fr → σ.1 fX3_wordLong = Int32.ofNat (tt - fr) → σ.1 fX3_wordValue = Int32.ofNat (lx_num f fr i) → i = tt - fr → ch_loop (fun (s : Int32 × ch_S) => m_X3_next_304 s.1 s.2) (Int32.ofNat i, σ) = some (md_si (md_si σ fX3_wordValue (Int32.ofNat (lx_num f fr (tt - fr)))) fX3_at (Int32.ofNat tt)) := by
    intro i σ hS hw hq hv hi
    refine ch_loop_inr ?_
    show m_X3_next_304 (Int32.ofNat i) σ = _
    unfold m_X3_next_304 m_X3_next_352
    rw [hq, if_neg (by rw [bn_lt (by omega) (by omega)]; omega), lm_452 hw hq h0, md_same (k := fX3_wordValue) (v := Int32.ofNat (lx_num f fr (tt - fr))) (by rw [← hi]; exact hv)]
    rfl
  induction c with
  | zero => intro i σ hS hw hq hwd hv h1 h2; exact fin i σ hS hw hq hv (by omega)
  | succ c ih =>
    intro i σ hS hw hq hwd hv h1 h2
    by_cases hi : i = tt - fr
    · exact fin i σ hS hw hq hv hi
    · have hdg := lx_digI.mp (hd (fr + i) (by omega) (by omega))
      have h5 := hS.2.1
      have e1 : Int32.ofNat i + 1 = Int32.ofNat (i + 1) := bn_add (b := 1)
      have e2 : 10 * Int32.ofNat (lx_num f fr i) = Int32.ofNat (10 * lx_num f fr i) := bn_mul (a := 10)
      have e3 : Int32.ofNat (10 * lx_num f fr i + f (fr + i)) - 48 = Int32.ofNat (10 * lx_num f fr i + f (fr + i) - 48) := bn_sub (b := 48) (by omega)
      have e4 : 10 * lx_num f fr i + f (fr + i) - 48 = lx_num f fr (i + 1) := by rw [lx_num]; omega
      have hb : m_X3_next_304 (Int32.ofNat i) σ = some (.inl (Int32.ofNat (i + 1), md_si σ fX3_wordValue (Int32.ofNat (lx_num f fr (i + 1))))) := by
        unfold m_X3_next_304
        rw [hq, if_pos (by rw [bn_lt (by omega) (by omega)]; omega), if_pos hwd, hw, bn_add, lm_rd hS (by omega), hv, e2, bn_add, e3, e4, e1]
        rfl
      rw [ch_loop_inl hb]
      refine (ih (i + 1) (md_si σ fX3_wordValue (Int32.ofNat (lx_num f fr (i + 1)))) (hS.si (by decide)) hw hq hwd rfl (by omega) (by omega)).trans ?_
      rw [md_twice]
