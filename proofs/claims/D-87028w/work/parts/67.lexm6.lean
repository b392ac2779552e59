/-! LEVEL B2: the model's words that are keys (printed by tools/mkkey.py) -/
set_option maxRecDepth 100000
theorem lx_is2 {f : Nat → Nat} {fr tt a b : Nat} : lx_is f fr tt [a, b] ↔ (tt = fr + 2 ∧ f fr = a ∧ f (fr + 1) = b) := by
  refine ⟨fun ⟨h0, h⟩ => ⟨h0, h 0 (show 0 < 2 by decide), h 1 (show 1 < 2 by decide)⟩, fun ⟨h0, k0, k1⟩ => ⟨h0, fun k hk => ?_⟩⟩
  have hk' : k < 2 := hk
  match k, hk' with
  | 0, _ => exact k0
  | 1, _ => exact k1
theorem lx_iq2 {f : Nat → Nat} {fr q a b : Nat} : lx_is f fr (fr + q) [a, b] ↔ (q = 2 ∧ f fr = a ∧ f (fr + 1) = b) := by
  rw [lx_is2]; omega
theorem lm_tx2 {σ : ch_S} {n fr q a b : Nat} {f : Nat → Nat} (hS : md_S σ n f) (hw : σ.1 fX3_wordFrom = Int32.ofNat fr) (hq : σ.1 fX3_wordLong = Int32.ofNat q) (hn : fr + q ≤ n) (ha : a < 256) (hb : b < 256)  : m_X3_isText (Int32.ofNat a) (Int32.ofNat b) 0 0 0 0 σ = some (if q = 2 ∧ f fr = a ∧ f (fr + 1) = b then 1 else 0) := by
  have t := lm_t37 (a := a) (b := b) (c := 0) (d := 0) (e := 0) (h := 0) (m := 2) hS hw hq (by decide) (by decide) ha hb (by decide) (by decide) (by decide) (by decide) hn
  unfold m_X3_isText
  rw [if_pos rfl]
  refine t.trans ?_
  have e : (q = 2 ∧ f fr = a ∧ f (fr + 1) = b ∧ (2 < 3 ∨ f (fr + 2) = 0) ∧ (2 < 4 ∨ f (fr + 3) = 0) ∧ (2 < 5 ∨ f (fr + 4) = 0) ∧ (2 < 6 ∨ f (fr + 5) = 0)) ↔ (q = 2 ∧ f fr = a ∧ f (fr + 1) = b) := by omega
  simp only [e]
theorem lx_is3 {f : Nat → Nat} {fr tt a b c : Nat} : lx_is f fr tt [a, b, c] ↔ (tt = fr + 3 ∧ f fr = a ∧ f (fr + 1) = b ∧ f (fr + 2) = c) := by
  refine ⟨fun ⟨h0, h⟩ => ⟨h0, h 0 (show 0 < 3 by decide), h 1 (show 1 < 3 by decide), h 2 (show 2 < 3 by decide)⟩, fun ⟨h0, k0, k1, k2⟩ => ⟨h0, fun k hk => ?_⟩⟩
  have hk' : k < 3 := hk
  match k, hk' with
  | 0, _ => exact k0
  | 1, _ => exact k1
  | 2, _ => exact k2
theorem lx_iq3 {f : Nat → Nat} {fr q a b c : Nat} : lx_is f fr (fr + q) [a, b, c] ↔ (q = 3 ∧ f fr = a ∧ f (fr + 1) = b ∧ f (fr + 2) = c) := by
  rw [lx_is3]; omega
theorem lm_tx3 {σ : ch_S} {n fr q a b c : Nat} {f : Nat → Nat} (hS : md_S σ n f) (hw : σ.1 fX3_wordFrom = Int32.ofNat fr) (hq : σ.1 fX3_wordLong = Int32.ofNat q) (hn : fr + q ≤ n) (ha : a < 256) (hb : b < 256) (hc : c < 256) (pc : 0 < c) : m_X3_isText (Int32.ofNat a) (Int32.ofNat b) (Int32.ofNat c) 0 0 0 σ = some (if q = 3 ∧ f fr = a ∧ f (fr + 1) = b ∧ f (fr + 2) = c then 1 else 0) := by
  have t := lm_t37 (a := a) (b := b) (c := c) (d := 0) (e := 0) (h := 0) (m := 3) hS hw hq (by decide) (by decide) ha hb hc (by decide) (by decide) (by decide) hn
  have nc : ¬ (Int32.ofNat c = 0) := fun z => absurd ((bn_eq (b := 0) (by omega) (by decide)).mp z) (by omega)
  unfold m_X3_isText
  rw [if_neg nc, if_pos rfl]
  refine t.trans ?_
  have e : (q = 3 ∧ f fr = a ∧ f (fr + 1) = b ∧ (3 < 3 ∨ f (fr + 2) = c) ∧ (3 < 4 ∨ f (fr + 3) = 0) ∧ (3 < 5 ∨ f (fr + 4) = 0) ∧ (3 < 6 ∨ f (fr + 5) = 0)) ↔ (q = 3 ∧ f fr = a ∧ f (fr + 1) = b ∧ f (fr + 2) = c) := by omega
  simp only [e]
theorem lx_is4 {f : Nat → Nat} {fr tt a b c d : Nat} : lx_is f fr tt [a, b, c, d] ↔ (tt = fr + 4 ∧ f fr = a ∧ f (fr + 1) = b ∧ f (fr + 2) = c ∧ f (fr + 3) = d) := by
  refine ⟨fun ⟨h0, h⟩ => ⟨h0, h 0 (show 0 < 4 by decide), h 1 (show 1 < 4 by decide), h 2 (show 2 < 4 by decide), h 3 (show 3 < 4 by decide)⟩, fun ⟨h0, k0, k1, k2, k3⟩ => ⟨h0, fun k hk => ?_⟩⟩
  have hk' : k < 4 := hk
  match k, hk' with
  | 0, _ => exact k0
  | 1, _ => exact k1
  | 2, _ => exact k2
  | 3, _ => exact k3
theorem lx_iq4 {f : Nat → Nat} {fr q a b c d : Nat} : lx_is f fr (fr + q) [a, b, c, d] ↔ (q = 4 ∧ f fr = a ∧ f (fr + 1) = b ∧ f (fr + 2) = c ∧ f (fr + 3) = d) := by
  rw [lx_is4]; omega
theorem lm_tx4 {σ : ch_S} {n fr q a b c d : Nat} {f : Nat → Nat} (hS : md_S σ n f) (hw : σ.1 fX3_wordFrom = Int32.ofNat fr) (hq : σ.1 fX3_wordLong = Int32.ofNat q) (hn : fr + q ≤ n) (ha : a < 256) (hb : b < 256) (hc : c < 256) (hd : d < 256) (pc : 0 < c) (pd : 0 < d) : m_X3_isText (Int32.ofNat a) (Int32.ofNat b) (Int32.ofNat c) (Int32.ofNat d) 0 0 σ = some (if q = 4 ∧ f fr = a ∧ f (fr + 1) = b ∧ f (fr + 2) = c ∧ f (fr + 3) = d then 1 else 0) := by
  have t := lm_t37 (a := a) (b := b) (c := c) (d := d) (e := 0) (h := 0) (m := 4) hS hw hq (by decide) (by decide) ha hb hc hd (by decide) (by decide) hn
  have nc : ¬ (Int32.ofNat c = 0) := fun z => absurd ((bn_eq (b := 0) (by omega) (by decide)).mp z) (by omega)
  have nd : ¬ (Int32.ofNat d = 0) := fun z => absurd ((bn_eq (b := 0) (by omega) (by decide)).mp z) (by omega)
  unfold m_X3_isText
  rw [if_neg nc, if_neg nd, if_pos rfl]
  refine t.trans ?_
  have e : (q = 4 ∧ f fr = a ∧ f (fr + 1) = b ∧ (4 < 3 ∨ f (fr + 2) = c) ∧ (4 < 4 ∨ f (fr + 3) = d) ∧ (4 < 5 ∨ f (fr + 4) = 0) ∧ (4 < 6 ∨ f (fr + 5) = 0)) ↔ (q = 4 ∧ f fr = a ∧ f (fr + 1) = b ∧ f (fr + 2) = c ∧ f (fr + 3) = d) := by omega
  simp only [e]
theorem lx_is5 {f : Nat → Nat} {fr tt a b c d e : Nat} : lx_is f fr tt [a, b, c, d, e] ↔ (tt = fr + 5 ∧ f fr = a ∧ f (fr + 1) = b ∧ f (fr + 2) = c ∧ f (fr + 3) = d ∧ f (fr + 4) = e) := by
  refine ⟨fun ⟨h0, h⟩ => ⟨h0, h 0 (show 0 < 5 by decide), h 1 (show 1 < 5 by decide), h 2 (show 2 < 5 by decide), h 3 (show 3 < 5 by decide), h 4 (show 4 < 5 by decide)⟩, fun ⟨h0, k0, k1, k2, k3, k4⟩ => ⟨h0, fun k hk => ?_⟩⟩
  have hk' : k < 5 := hk
  match k, hk' with
  | 0, _ => exact k0
  | 1, _ => exact k1
  | 2, _ => exact k2
  | 3, _ => exact k3
  | 4, _ => exact k4
theorem lx_iq5 {f : Nat → Nat} {fr q a b c d e : Nat} : lx_is f fr (fr + q) [a, b, c, d, e] ↔ (q = 5 ∧ f fr = a ∧ f (fr + 1) = b ∧ f (fr + 2) = c ∧ f (fr + 3) = d ∧ f (fr + 4) = e) := by
  rw [lx_is5]; omega
theorem lm_tx5 {σ : ch_S} {n fr q a b c d e : Nat} {f : Nat → Nat} (hS : md_S σ n f) (hw : σ.1 fX3_wordFrom = Int32.ofNat fr) (hq : σ.1 fX3_wordLong = Int32.ofNat q) (hn : fr + q ≤ n) (ha : a < 256) (hb : b < 256) (hc : c < 256) (hd : d < 256) (he : e < 256) (pc : 0 < c) (pd : 0 < d) (pe : 0 < e) : m_X3_isText (Int32.ofNat a) (Int32.ofNat b) (Int32.ofNat c) (Int32.ofNat d) (Int32.ofNat e) 0 σ = some (if q = 5 ∧ f fr = a ∧ f (fr + 1) = b ∧ f (fr + 2) = c ∧ f (fr + 3) = d ∧ f (fr + 4) = e then 1 else 0) := by
  have t := lm_t37 (a := a) (b := b) (c := c) (d := d) (e := e) (h := 0) (m := 5) hS hw hq (by decide) (by decide) ha hb hc hd he (by decide) hn
  have nc : ¬ (Int32.ofNat c = 0) := fun z => absurd ((bn_eq (b := 0) (by omega) (by decide)).mp z) (by omega)
  have nd : ¬ (Int32.ofNat d = 0) := fun z => absurd ((bn_eq (b := 0) (by omega) (by decide)).mp z) (by omega)
  have ne : ¬ (Int32.ofNat e = 0) := fun z => absurd ((bn_eq (b := 0) (by omega) (by decide)).mp z) (by omega)
  unfold m_X3_isText
  rw [if_neg nc, if_neg nd, if_neg ne, if_pos rfl]
  refine t.trans ?_
  have e : (q = 5 ∧ f fr = a ∧ f (fr + 1) = b ∧ (5 < 3 ∨ f (fr + 2) = c) ∧ (5 < 4 ∨ f (fr + 3) = d) ∧ (5 < 5 ∨ f (fr + 4) = e) ∧ (5 < 6 ∨ f (fr + 5) = 0)) ↔ (q = 5 ∧ f fr = a ∧ f (fr + 1) = b ∧ f (fr + 2) = c ∧ f (fr + 3) = d ∧ f (fr + 4) = e) := by omega
  simp only [e]
theorem lx_is6 {f : Nat → Nat} {fr tt a b c d e h : Nat} : lx_is f fr tt [a, b, c, d, e, h] ↔ (tt = fr + 6 ∧ f fr = a ∧ f (fr + 1) = b ∧ f (fr + 2) = c ∧ f (fr + 3) = d ∧ f (fr + 4) = e ∧ f (fr + 5) = h) := by
  refine ⟨fun ⟨h0, h⟩ => ⟨h0, h 0 (show 0 < 6 by decide), h 1 (show 1 < 6 by decide), h 2 (show 2 < 6 by decide), h 3 (show 3 < 6 by decide), h 4 (show 4 < 6 by decide), h 5 (show 5 < 6 by decide)⟩, fun ⟨h0, k0, k1, k2, k3, k4, k5⟩ => ⟨h0, fun k hk => ?_⟩⟩
  have hk' : k < 6 := hk
  match k, hk' with
  | 0, _ => exact k0
  | 1, _ => exact k1
  | 2, _ => exact k2
  | 3, _ => exact k3
  | 4, _ => exact k4
  | 5, _ => exact k5
theorem lx_iq6 {f : Nat → Nat} {fr q a b c d e h : Nat} : lx_is f fr (fr + q) [a, b, c, d, e, h] ↔ (q = 6 ∧ f fr = a ∧ f (fr + 1) = b ∧ f (fr + 2) = c ∧ f (fr + 3) = d ∧ f (fr + 4) = e ∧ f (fr + 5) = h) := by
  rw [lx_is6]; omega
theorem lm_tx6 {σ : ch_S} {n fr q a b c d e h : Nat} {f : Nat → Nat} (hS : md_S σ n f) (hw : σ.1 fX3_wordFrom = Int32.ofNat fr) (hq : σ.1 fX3_wordLong = Int32.ofNat q) (hn : fr + q ≤ n) (ha : a < 256) (hb : b < 256) (hc : c < 256) (hd : d < 256) (he : e < 256) (hh : h < 256) (pc : 0 < c) (pd : 0 < d) (pe : 0 < e) (ph : 0 < h) : m_X3_isText (Int32.ofNat a) (Int32.ofNat b) (Int32.ofNat c) (Int32.ofNat d) (Int32.ofNat e) (Int32.ofNat h) σ = some (if q = 6 ∧ f fr = a ∧ f (fr + 1) = b ∧ f (fr + 2) = c ∧ f (fr + 3) = d ∧ f (fr + 4) = e ∧ f (fr + 5) = h then 1 else 0) := by
  have t := lm_t37 (a := a) (b := b) (c := c) (d := d) (e := e) (h := h) (m := 6) hS hw hq (by decide) (by decide) ha hb hc hd he hh hn
  have nc : ¬ (Int32.ofNat c = 0) := fun z => absurd ((bn_eq (b := 0) (by omega) (by decide)).mp z) (by omega)
  have nd : ¬ (Int32.ofNat d = 0) := fun z => absurd ((bn_eq (b := 0) (by omega) (by decide)).mp z) (by omega)
  have ne : ¬ (Int32.ofNat e = 0) := fun z => absurd ((bn_eq (b := 0) (by omega) (by decide)).mp z) (by omega)
  have nh : ¬ (Int32.ofNat h = 0) := fun z => absurd ((bn_eq (b := 0) (by omega) (by decide)).mp z) (by omega)
  unfold m_X3_isText
  rw [if_neg nc, if_neg nd, if_neg ne, if_neg nh]
  refine t.trans ?_
  have e : (q = 6 ∧ f fr = a ∧ f (fr + 1) = b ∧ (6 < 3 ∨ f (fr + 2) = c) ∧ (6 < 4 ∨ f (fr + 3) = d) ∧ (6 < 5 ∨ f (fr + 4) = e) ∧ (6 < 6 ∨ f (fr + 5) = h)) ↔ (q = 6 ∧ f fr = a ∧ f (fr + 1) = b ∧ f (fr + 2) = c ∧ f (fr + 3) = d ∧ f (fr + 4) = e ∧ f (fr + 5) = h) := by omega
  simp only [e]
/-- KEY OF -/
theorem lm_key {σ : ch_S} {n fr q : Nat} {f : Nat → Nat} (hS : md_S σ n f) (hw : σ.1 fX3_wordFrom = Int32.ofNat fr) (hq : σ.1 fX3_wordLong = Int32.ofNat q) (hn : fr + q ≤ n) : ∃ k : Nat, m_X3_keyOf σ = some (Int32.ofNat k) ∧ k ≤ 21 ∧ (k = 0 → ∀ j : Nat, j < 21 → ¬ lx_is f fr (fr + q) (lx_kw.getD j [])) ∧ (0 < k → lx_is f fr (fr + q) (lx_kw.getD (k - 1) [])) := by
  have t0 : m_X3_isText 99 108 97 115 115 0 σ = some (if q = 5 ∧ f fr = 99 ∧ f (fr + 1) = 108 ∧ f (fr + 2) = 97 ∧ f (fr + 3) = 115 ∧ f (fr + 4) = 115 then 1 else 0) := lm_tx5 (a := 99) (b := 108) (c := 97) (d := 115) (e := 115) hS hw hq hn (by decide) (by decide) (by decide) (by decide) (by decide) (by decide) (by decide) (by decide)
  have t1 : m_X3_isText 105 110 116 0 0 0 σ = some (if q = 3 ∧ f fr = 105 ∧ f (fr + 1) = 110 ∧ f (fr + 2) = 116 then 1 else 0) := lm_tx3 (a := 105) (b := 110) (c := 116) hS hw hq hn (by decide) (by decide) (by decide) (by decide)
  have t2 : m_X3_isText 98 111 111 108 0 0 σ = some (if q = 4 ∧ f fr = 98 ∧ f (fr + 1) = 111 ∧ f (fr + 2) = 111 ∧ f (fr + 3) = 108 then 1 else 0) := lm_tx4 (a := 98) (b := 111) (c := 111) (d := 108) hS hw hq hn (by decide) (by decide) (by decide) (by decide) (by decide) (by decide)
  have t3 : m_X3_isText 105 110 116 115 0 0 σ = some (if q = 4 ∧ f fr = 105 ∧ f (fr + 1) = 110 ∧ f (fr + 2) = 116 ∧ f (fr + 3) = 115 then 1 else 0) := lm_tx4 (a := 105) (b := 110) (c := 116) (d := 115) hS hw hq hn (by decide) (by decide) (by decide) (by decide) (by decide) (by decide)
  have t4 : m_X3_isText 118 111 105 100 0 0 σ = some (if q = 4 ∧ f fr = 118 ∧ f (fr + 1) = 111 ∧ f (fr + 2) = 105 ∧ f (fr + 3) = 100 then 1 else 0) := lm_tx4 (a := 118) (b := 111) (c := 105) (d := 100) hS hw hq hn (by decide) (by decide) (by decide) (by decide) (by decide) (by decide)
  have t5 : m_X3_isText 105 102 0 0 0 0 σ = some (if q = 2 ∧ f fr = 105 ∧ f (fr + 1) = 102 then 1 else 0) := lm_tx2 (a := 105) (b := 102) hS hw hq hn (by decide) (by decide)
  have t6 : m_X3_isText 101 108 115 101 0 0 σ = some (if q = 4 ∧ f fr = 101 ∧ f (fr + 1) = 108 ∧ f (fr + 2) = 115 ∧ f (fr + 3) = 101 then 1 else 0) := lm_tx4 (a := 101) (b := 108) (c := 115) (d := 101) hS hw hq hn (by decide) (by decide) (by decide) (by decide) (by decide) (by decide)
  have t7 : m_X3_isText 119 104 105 108 101 0 σ = some (if q = 5 ∧ f fr = 119 ∧ f (fr + 1) = 104 ∧ f (fr + 2) = 105 ∧ f (fr + 3) = 108 ∧ f (fr + 4) = 101 then 1 else 0) := lm_tx5 (a := 119) (b := 104) (c := 105) (d := 108) (e := 101) hS hw hq hn (by decide) (by decide) (by decide) (by decide) (by decide) (by decide) (by decide) (by decide)
  have t8 : m_X3_isText 114 101 116 117 114 110 σ = some (if q = 6 ∧ f fr = 114 ∧ f (fr + 1) = 101 ∧ f (fr + 2) = 116 ∧ f (fr + 3) = 117 ∧ f (fr + 4) = 114 ∧ f (fr + 5) = 110 then 1 else 0) := lm_tx6 (a := 114) (b := 101) (c := 116) (d := 117) (e := 114) (h := 110) hS hw hq hn (by decide) (by decide) (by decide) (by decide) (by decide) (by decide) (by decide) (by decide) (by decide) (by decide)
  have t9 : m_X3_isText 116 104 114 111 119 0 σ = some (if q = 5 ∧ f fr = 116 ∧ f (fr + 1) = 104 ∧ f (fr + 2) = 114 ∧ f (fr + 3) = 111 ∧ f (fr + 4) = 119 then 1 else 0) := lm_tx5 (a := 116) (b := 104) (c := 114) (d := 111) (e := 119) hS hw hq hn (by decide) (by decide) (by decide) (by decide) (by decide) (by decide) (by decide) (by decide)
  have t10 : m_X3_isText 116 114 121 0 0 0 σ = some (if q = 3 ∧ f fr = 116 ∧ f (fr + 1) = 114 ∧ f (fr + 2) = 121 then 1 else 0) := lm_tx3 (a := 116) (b := 114) (c := 121) hS hw hq hn (by decide) (by decide) (by decide) (by decide)
  have t11 : m_X3_isText 99 97 116 99 104 0 σ = some (if q = 5 ∧ f fr = 99 ∧ f (fr + 1) = 97 ∧ f (fr + 2) = 116 ∧ f (fr + 3) = 99 ∧ f (fr + 4) = 104 then 1 else 0) := lm_tx5 (a := 99) (b := 97) (c := 116) (d := 99) (e := 104) hS hw hq hn (by decide) (by decide) (by decide) (by decide) (by decide) (by decide) (by decide) (by decide)
  have t12 : m_X3_isText 112 114 105 110 116 0 σ = some (if q = 5 ∧ f fr = 112 ∧ f (fr + 1) = 114 ∧ f (fr + 2) = 105 ∧ f (fr + 3) = 110 ∧ f (fr + 4) = 116 then 1 else 0) := lm_tx5 (a := 112) (b := 114) (c := 105) (d := 110) (e := 116) hS hw hq hn (by decide) (by decide) (by decide) (by decide) (by decide) (by decide) (by decide) (by decide)
  have t13 : m_X3_isText 110 101 119 0 0 0 σ = some (if q = 3 ∧ f fr = 110 ∧ f (fr + 1) = 101 ∧ f (fr + 2) = 119 then 1 else 0) := lm_tx3 (a := 110) (b := 101) (c := 119) hS hw hq hn (by decide) (by decide) (by decide) (by decide)
  have t14 : m_X3_isText 110 117 108 108 0 0 σ = some (if q = 4 ∧ f fr = 110 ∧ f (fr + 1) = 117 ∧ f (fr + 2) = 108 ∧ f (fr + 3) = 108 then 1 else 0) := lm_tx4 (a := 110) (b := 117) (c := 108) (d := 108) hS hw hq hn (by decide) (by decide) (by decide) (by decide) (by decide) (by decide)
  have t15 : m_X3_isText 116 114 117 101 0 0 σ = some (if q = 4 ∧ f fr = 116 ∧ f (fr + 1) = 114 ∧ f (fr + 2) = 117 ∧ f (fr + 3) = 101 then 1 else 0) := lm_tx4 (a := 116) (b := 114) (c := 117) (d := 101) hS hw hq hn (by decide) (by decide) (by decide) (by decide) (by decide) (by decide)
  have t16 : m_X3_isText 102 97 108 115 101 0 σ = some (if q = 5 ∧ f fr = 102 ∧ f (fr + 1) = 97 ∧ f (fr + 2) = 108 ∧ f (fr + 3) = 115 ∧ f (fr + 4) = 101 then 1 else 0) := lm_tx5 (a := 102) (b := 97) (c := 108) (d := 115) (e := 101) hS hw hq hn (by decide) (by decide) (by decide) (by decide) (by decide) (by decide) (by decide) (by decide)
  have t17 : m_X3_isText 116 104 105 115 0 0 σ = some (if q = 4 ∧ f fr = 116 ∧ f (fr + 1) = 104 ∧ f (fr + 2) = 105 ∧ f (fr + 3) = 115 then 1 else 0) := lm_tx4 (a := 116) (b := 104) (c := 105) (d := 115) hS hw hq hn (by decide) (by decide) (by decide) (by decide) (by decide) (by decide)
  have t18 : m_X3_isText 114 101 97 100 0 0 σ = some (if q = 4 ∧ f fr = 114 ∧ f (fr + 1) = 101 ∧ f (fr + 2) = 97 ∧ f (fr + 3) = 100 then 1 else 0) := lm_tx4 (a := 114) (b := 101) (c := 97) (d := 100) hS hw hq hn (by decide) (by decide) (by decide) (by decide) (by decide) (by decide)
  have t19 : m_X3_isText 97 115 0 0 0 0 σ = some (if q = 2 ∧ f fr = 97 ∧ f (fr + 1) = 115 then 1 else 0) := lm_tx2 (a := 97) (b := 115) hS hw hq hn (by decide) (by decide)
  have t20 : m_X3_isText 105 115 0 0 0 0 σ = some (if q = 2 ∧ f fr = 105 ∧ f (fr + 1) = 115 then 1 else 0) := lm_tx2 (a := 105) (b := 115) hS hw hq hn (by decide) (by decide)
  unfold m_X3_keyOf
  rw [t0, Option.bind_some]
  by_cases z0 : q = 5 ∧ f fr = 99 ∧ f (fr + 1) = 108 ∧ f (fr + 2) = 97 ∧ f (fr + 3) = 115 ∧ f (fr + 4) = 115
  · rw [if_pos z0, if_neg (by decide)]
    exact ⟨1, rfl, by decide, fun h => absurd h (by decide), fun _ => lx_iq5.mpr z0⟩
  rw [if_neg z0, if_pos rfl]
  rw [t1, Option.bind_some]
  by_cases z1 : q = 3 ∧ f fr = 105 ∧ f (fr + 1) = 110 ∧ f (fr + 2) = 116
  · rw [if_pos z1, if_neg (by decide)]
    exact ⟨2, rfl, by decide, fun h => absurd h (by decide), fun _ => lx_iq3.mpr z1⟩
  rw [if_neg z1, if_pos rfl]
  rw [t2, Option.bind_some]
  by_cases z2 : q = 4 ∧ f fr = 98 ∧ f (fr + 1) = 111 ∧ f (fr + 2) = 111 ∧ f (fr + 3) = 108
  · rw [if_pos z2, if_neg (by decide)]
    exact ⟨3, rfl, by decide, fun h => absurd h (by decide), fun _ => lx_iq4.mpr z2⟩
  rw [if_neg z2, if_pos rfl]
  rw [t3, Option.bind_some]
  by_cases z3 : q = 4 ∧ f fr = 105 ∧ f (fr + 1) = 110 ∧ f (fr + 2) = 116 ∧ f (fr + 3) = 115
  · rw [if_pos z3, if_neg (by decide)]
    exact ⟨4, rfl, by decide, fun h => absurd h (by decide), fun _ => lx_iq4.mpr z3⟩
  rw [if_neg z3, if_pos rfl]
  rw [t4, Option.bind_some]
  by_cases z4 : q = 4 ∧ f fr = 118 ∧ f (fr + 1) = 111 ∧ f (fr + 2) = 105 ∧ f (fr + 3) = 100
  · rw [if_pos z4, if_neg (by decide)]
    exact ⟨5, rfl, by decide, fun h => absurd h (by decide), fun _ => lx_iq4.mpr z4⟩
  rw [if_neg z4, if_pos rfl]
  rw [t5, Option.bind_some]
  by_cases z5 : q = 2 ∧ f fr = 105 ∧ f (fr + 1) = 102
  · rw [if_pos z5, if_neg (by decide)]
    exact ⟨6, rfl, by decide, fun h => absurd h (by decide), fun _ => lx_iq2.mpr z5⟩
  rw [if_neg z5, if_pos rfl]
  rw [t6, Option.bind_some]
  by_cases z6 : q = 4 ∧ f fr = 101 ∧ f (fr + 1) = 108 ∧ f (fr + 2) = 115 ∧ f (fr + 3) = 101
  · rw [if_pos z6, if_neg (by decide)]
    exact ⟨7, rfl, by decide, fun h => absurd h (by decide), fun _ => lx_iq4.mpr z6⟩
  rw [if_neg z6, if_pos rfl]
  rw [t7, Option.bind_some]
  by_cases z7 : q = 5 ∧ f fr = 119 ∧ f (fr + 1) = 104 ∧ f (fr + 2) = 105 ∧ f (fr + 3) = 108 ∧ f (fr + 4) = 101
  · rw [if_pos z7, if_neg (by decide)]
    exact ⟨8, rfl, by decide, fun h => absurd h (by decide), fun _ => lx_iq5.mpr z7⟩
  rw [if_neg z7, if_pos rfl]
  rw [t8, Option.bind_some]
  by_cases z8 : q = 6 ∧ f fr = 114 ∧ f (fr + 1) = 101 ∧ f (fr + 2) = 116 ∧ f (fr + 3) = 117 ∧ f (fr + 4) = 114 ∧ f (fr + 5) = 110
  · rw [if_pos z8, if_neg (by decide)]
    exact ⟨9, rfl, by decide, fun h => absurd h (by decide), fun _ => lx_iq6.mpr z8⟩
  rw [if_neg z8, if_pos rfl]
  rw [t9, Option.bind_some]
  by_cases z9 : q = 5 ∧ f fr = 116 ∧ f (fr + 1) = 104 ∧ f (fr + 2) = 114 ∧ f (fr + 3) = 111 ∧ f (fr + 4) = 119
  · rw [if_pos z9, if_neg (by decide)]
    exact ⟨10, rfl, by decide, fun h => absurd h (by decide), fun _ => lx_iq5.mpr z9⟩
  rw [if_neg z9, if_pos rfl]
  rw [t10, Option.bind_some]
  by_cases z10 : q = 3 ∧ f fr = 116 ∧ f (fr + 1) = 114 ∧ f (fr + 2) = 121
  · rw [if_pos z10, if_neg (by decide)]
    exact ⟨11, rfl, by decide, fun h => absurd h (by decide), fun _ => lx_iq3.mpr z10⟩
  rw [if_neg z10, if_pos rfl]
  rw [t11, Option.bind_some]
  by_cases z11 : q = 5 ∧ f fr = 99 ∧ f (fr + 1) = 97 ∧ f (fr + 2) = 116 ∧ f (fr + 3) = 99 ∧ f (fr + 4) = 104
  · rw [if_pos z11, if_neg (by decide)]
    exact ⟨12, rfl, by decide, fun h => absurd h (by decide), fun _ => lx_iq5.mpr z11⟩
  rw [if_neg z11, if_pos rfl]
  rw [t12, Option.bind_some]
  by_cases z12 : q = 5 ∧ f fr = 112 ∧ f (fr + 1) = 114 ∧ f (fr + 2) = 105 ∧ f (fr + 3) = 110 ∧ f (fr + 4) = 116
  · rw [if_pos z12, if_neg (by decide)]
    exact ⟨13, rfl, by decide, fun h => absurd h (by decide), fun _ => lx_iq5.mpr z12⟩
  rw [if_neg z12, if_pos rfl]
  rw [t13, Option.bind_some]
  by_cases z13 : q = 3 ∧ f fr = 110 ∧ f (fr + 1) = 101 ∧ f (fr + 2) = 119
  · rw [if_pos z13, if_neg (by decide)]
    exact ⟨14, rfl, by decide, fun h => absurd h (by decide), fun _ => lx_iq3.mpr z13⟩
  rw [if_neg z13, if_pos rfl]
  rw [t14, Option.bind_some]
  by_cases z14 : q = 4 ∧ f fr = 110 ∧ f (fr + 1) = 117 ∧ f (fr + 2) = 108 ∧ f (fr + 3) = 108
  · rw [if_pos z14, if_neg (by decide)]
    exact ⟨15, rfl, by decide, fun h => absurd h (by decide), fun _ => lx_iq4.mpr z14⟩
  rw [if_neg z14, if_pos rfl]
  rw [t15, Option.bind_some]
  by_cases z15 : q = 4 ∧ f fr = 116 ∧ f (fr + 1) = 114 ∧ f (fr + 2) = 117 ∧ f (fr + 3) = 101
  · rw [if_pos z15, if_neg (by decide)]
    exact ⟨16, rfl, by decide, fun h => absurd h (by decide), fun _ => lx_iq4.mpr z15⟩
  rw [if_neg z15, if_pos rfl]
  rw [t16, Option.bind_some]
  by_cases z16 : q = 5 ∧ f fr = 102 ∧ f (fr + 1) = 97 ∧ f (fr + 2) = 108 ∧ f (fr + 3) = 115 ∧ f (fr + 4) = 101
  · rw [if_pos z16, if_neg (by decide)]
    exact ⟨17, rfl, by decide, fun h => absurd h (by decide), fun _ => lx_iq5.mpr z16⟩
  rw [if_neg z16, if_pos rfl]
  rw [t17, Option.bind_some]
  by_cases z17 : q = 4 ∧ f fr = 116 ∧ f (fr + 1) = 104 ∧ f (fr + 2) = 105 ∧ f (fr + 3) = 115
  · rw [if_pos z17, if_neg (by decide)]
    exact ⟨18, rfl, by decide, fun h => absurd h (by decide), fun _ => lx_iq4.mpr z17⟩
  rw [if_neg z17, if_pos rfl]
  rw [t18, Option.bind_some]
  by_cases z18 : q = 4 ∧ f fr = 114 ∧ f (fr + 1) = 101 ∧ f (fr + 2) = 97 ∧ f (fr + 3) = 100
  · rw [if_pos z18, if_neg (by decide)]
    exact ⟨19, rfl, by decide, fun h => absurd h (by decide), fun _ => lx_iq4.mpr z18⟩
  rw [if_neg z18, if_pos rfl]
  rw [t19, Option.bind_some]
  by_cases z19 : q = 2 ∧ f fr = 97 ∧ f (fr + 1) = 115
  · rw [if_pos z19, if_neg (by decide)]
    exact ⟨20, rfl, by decide, fun h => absurd h (by decide), fun _ => lx_iq2.mpr z19⟩
  rw [if_neg z19, if_pos rfl]
  rw [t20, Option.bind_some]
  by_cases z20 : q = 2 ∧ f fr = 105 ∧ f (fr + 1) = 115
  · rw [if_pos z20, if_neg (by decide)]
    exact ⟨21, rfl, by decide, fun h => absurd h (by decide), fun _ => lx_iq2.mpr z20⟩
  rw [if_neg z20, if_pos rfl]
  refine ⟨0, rfl, by decide, fun _ j hj => ?_, fun h => absurd h (by decide)⟩
  match j, hj with
  | 0, _ => exact fun z => z0 (lx_iq5.mp z)
  | 1, _ => exact fun z => z1 (lx_iq3.mp z)
  | 2, _ => exact fun z => z2 (lx_iq4.mp z)
  | 3, _ => exact fun z => z3 (lx_iq4.mp z)
  | 4, _ => exact fun z => z4 (lx_iq4.mp z)
  | 5, _ => exact fun z => z5 (lx_iq2.mp z)
  | 6, _ => exact fun z => z6 (lx_iq4.mp z)
  | 7, _ => exact fun z => z7 (lx_iq5.mp z)
  | 8, _ => exact fun z => z8 (lx_iq6.mp z)
  | 9, _ => exact fun z => z9 (lx_iq5.mp z)
  | 10, _ => exact fun z => z10 (lx_iq3.mp z)
  | 11, _ => exact fun z => z11 (lx_iq5.mp z)
  | 12, _ => exact fun z => z12 (lx_iq5.mp z)
  | 13, _ => exact fun z => z13 (lx_iq3.mp z)
  | 14, _ => exact fun z => z14 (lx_iq4.mp z)
  | 15, _ => exact fun z => z15 (lx_iq4.mp z)
  | 16, _ => exact fun z => z16 (lx_iq5.mp z)
  | 17, _ => exact fun z => z17 (lx_iq4.mp z)
  | 18, _ => exact fun z => z18 (lx_iq4.mp z)
  | 19, _ => exact fun z => z19 (lx_iq2.mp z)
  | 20, _ => exact fun z => z20 (lx_iq2.mp z)
  | j + 21, h => exact absurd h (by omega)
