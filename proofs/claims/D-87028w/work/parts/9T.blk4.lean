/-! LEVEL B2: blocks of both sides: whole -/
set_option maxRecDepth 100000
section BL
variable {g : State} {P r L S n C1 C2 : Nat} {f : Nat → Nat} {w w' w0 : ch_W} {σ σ' σ0 : ch_S} {tc fr tt op fr0 : Nat}
theorem pd_nn {sd td : Int} {q : Nat} (h : pds n sd td σ0 fr0 σ q) (hA : nn σ0 fX3_statements + (n - fr0) ≤ 1400) (htd : -10 ≤ td) : nn σ fX3_statements < 1599 := by
  obtain ⟨h1, h2, h3, h4, h5, h6, h7, h8, h9⟩ := h
  have hz2 : (if σ.1 fX3_wrong = -1 then (1 : Int) else 2) ≤ 2 := by split <;> omega
  generalize (if σ.1 fX3_wrong = -1 then (1 : Int) else 2) = z at *
  omega
/-- BLOCK -/
theorem po_block {d e : Nat} (IH : op < 30 → SP g P r L S n f C1 C2 (op + 1) d (e + 1)) (hn31 : n < 2 ^ 31) : BP g P r L S n f C1 C2 op (d + 1) (e + 2) := by
  intro w σ tc fr tt h
  show pos P n C1 C2 0 0 w σ fr (c_X4_block (cr_PS g d) g r w) (m_X3_block (cr_MB (e + 1)) σ) _
  have hat := h.1.2.2.2.2.2.2.1
  have htk := hat.2.2.2
  have hr := hat.1.1
  have hff := htk.1
  have hA := h.2.2
  unfold pjA at hA
  have hP0 : P ≤ ch_nx w := by
    have := h.1.2.2.1
    have := h.1.2.2.2.2.2.1 r (by rw [hr]; decide)
    omega
  have s1 : m_X3_isSign 123 σ = some (if tc = 1000 + 123 then 1 else 0) := ms_sign (c := 123) h.2.1 htk (by decide)
  unfold c_X4_block m_X3_block
  rw [d_rc hr, s1, Option.bind_some]
  refine pos.tb2 (g := g) (r := r) (L := L) ((po_opens h (Nat.le_refl _) hff (by decide) (it_132 hat h.1.1)).s) pf.refl (fun _ w2 b σ2 q => ?_) (fun b σ2 q hq2 => ?_)
  · obtain ⟨rfl, z0, hlt30, ⟨tc2, fr2, tt2, q1, q2, q3⟩, q4⟩ := q
    have htk2 := q1.1.2.2.2.2.2.2.1.2.2.2
    have hf21 := htk2.1
    have hf22 := htk2.2.1
    obtain ⟨r1, r2⟩ := pjC_room q1 htk2.1
    have m1 : nn σ2 fX3_nodes = nn σ fX3_nodes := nn_fr q4 (by decide)
    have m2 : nn σ2 fX3_listed = nn σ fX3_listed := nn_fr q4 (by decide)
    have m3 : nn σ2 fX3_statements = nn σ fX3_statements := nn_fr q4 (by decide)
    -- the list
    obtain ⟨b1, b2, b3, b4, b5⟩ := pj_alloc2 (w4 := ch_nw w2 (ch_new 14 3)) h.2.2 q1 q2 (by decide) (by decide) (fun a ha => b_oN ha) rfl (show 3 ≤ 256 by decide)
    obtain ⟨w4, ae, k1, k2, k3, k4, k5⟩ := jl_init (g := g) (T := 10) (e := fun _ => 0) b1.1.1 (L := ch_nx w2) (by rw [b_tN, if_pos rfl]; rfl) (by rw [b_IN, if_pos rfl]; rfl)
    have htL : ch_tg (ch_nw w2 (ch_new 14 3)) (ch_nx w2) = 14 := by rw [b_tN, if_pos rfl]; rfl
    obtain ⟨c1, c2, c3, c4⟩ := pjC_set (w' := w4) b1.1 b4 b5 (by rw [htL]; decide) k4 (by unfold ch_nx; rw [k5])
    have hcs : ch_cs w4 = ch_cs w2 + 1 := by unfold ch_cs; rw [k5]; rfl
    have hsl : ch_sl w4 = ch_sl w2 + 3 := by unfold ch_sl; rw [k5]; rfl
    have hcp : cpN w4 L = cpN w2 L := by
      rw [c2]
      exact (pjC_new q1.1 (fun a ha => b_oN ha) rfl).2.2.1
    have hb2 := q2.2.2
    unfold bd at hb2
    have hA2 := q1.2.2
    unfold pjA at hA2
    have hGP := h.1.2.1
    have hI : bI g P r L S n f C1 C2 op w σ fr (ch_nx w2) w4 σ2 tc2 fr2 tt2 0 ae 0 (fun _ => 0) (fun _ => nn σ fX3_statements) (-1) (-1) := by
      refine ⟨⟨k2, c3 _ b4, b5, q2.1.1, Or.inl ⟨by omega, ?_⟩⟩, ⟨c1, q1.2.1, ?_⟩, c4 w (q2.1.trans b2.1) q2.1.1, q2.2.1.s, q3, Or.inl ⟨rfl, rfl, rfl⟩, rfl, by rw [m3], by omega, fun k hk => absurd hk (by omega), by rw [hcs]; omega, by rw [hsl, hcp]; omega, by omega, by omega, by omega⟩
      · rcases k2.2.2.2.2.2.2.1 with y | y <;> omega
      · unfold pjA
        rw [hcs, hsl, hcp]
        omega
    have hlp := lp_blk (op := op) (d := d) (e := e) (La := ch_nx w2) (IH hlt30) h.2.2 hP0 hn31 1500 0 ae 0 _ _ _ _ w4 σ2 tc2 fr2 tt2 (by omega) hI
    rw [d_nO (by omega) (by omega), k1, Option.bind_some]
    dsimp only
    rw [if_neg (show ¬ (1 : Int32) = 0 by decide)]
    exact hlp
  · have hq9 := hq2.2.2.2.1
    have hns := pd_nn hq2 (by omega) (by omega)
    dsimp only
    split
    · exact ⟨_, rfl, hq2.weak (by omega) (by omega)⟩
    · exact dm_blp (hq2.weak (by omega) (by omega)) hns (by omega) (Or.inl rfl)
/-- a block hangs below its statement -/
theorem bQ.row {w2 : ch_W} {σ2 : ch_S} {x : Option Nat} {y : Int32} {a s : Nat} (h : bQ g P r L S n f C1 C2 op w σ fr x w2 y σ2) (ha : a < ch_nx w) (hs : s < nn σ fX3_statements) : ∃ b m Z, x = some b ∧ s_row r L P w2 σ2 (nn σ2 fX3_statements) b y (s + 1) m Z ∧ ∀ (i : Nat) (_ : i < m ∧ s < Z i ∧ Z i < 1600), ∃ a', ch_gr w2 b i = some a' ∧ a < a' ∧ sth g r L P w2 σ2 (nn σ2 fX3_statements) a' (Z i) := by
  obtain ⟨b, m, Z, h1, ⟨r1, r2, r3, r4, r5, r6, r7⟩, h3, h4, h5⟩ := h
  refine ⟨b, m, Z, h1, ⟨r1, r2, r3, r4, r5, r6, fun i hi => ?_⟩, fun i hi => ?_⟩
  · obtain ⟨k1, k2⟩ := r7 i hi
    exact ⟨by omega, k2⟩
  · obtain ⟨a', k1, k2, k3⟩ := h3 i hi.1
    exact ⟨a', k1, by omega, k3⟩
/-- a row of statements stays -/
def s_blk (g : State) (r L P : Nat) (w : ch_W) (σ : ch_S) (hi a s : Nat) (x : Option Nat) (y : Int32) : Prop := ∃ b m Z, x = some b ∧ s_row r L P w σ hi b y (s + 1) m Z ∧ ∀ (i : Nat) (_ : i < m ∧ s < Z i ∧ Z i < 1600), ∃ a', ch_gr w b i = some a' ∧ a < a' ∧ sth g r L P w σ hi a' (Z i)
theorem s_blk.keep0 {a s hi hi' : Nat} {x : Option Nat} {y : Int32} (hk : ∀ x : Nat, ow r L P w x → (ch_tg w x = 11 ∨ ch_tg w x = 27 ∨ ch_tg w x = 28 ∨ (ch_tg w x = 10 ∧ a + 1 ≤ x)) → w'.1 x = w.1 x ∧ ow r L P w' x) (hc : ∀ (i : Nat) (t : List Nat), cn g w L i t → cn g w' L i t) (hm : mg σ σ') (hn1 : nn σ' fX3_nodes ≤ 1500) (hl1 : nn σ' fX3_listed ≤ 1500) (hst : hi ≤ hi') (hst1 : hi' ≤ 1500) (hs1 : ∀ arr ∈ psa, ∀ k : Nat, s + 1 ≤ k → k < hi → σ'.2 arr k = σ.2 arr k) (h : s_blk g r L P w σ hi a s x y) : s_blk g r L P w' σ' hi' a s x y := by
  obtain ⟨b, m, Z, h1, ⟨r1, r2, r3, r4, r5, r6, r7⟩, h3⟩ := h
  obtain ⟨y1, y2⟩ := hk b r1 (Or.inr (Or.inr (Or.inl r3)))
  obtain ⟨t1, t2, t3, t4, -⟩ := b_cell y1
  refine ⟨b, m, Z, h1, ⟨y2, r2, by rw [t1]; exact r3, by rw [t2]; exact r4, r5, r6, fun i hi => ?_⟩, fun i hi => ?_⟩
  · obtain ⟨k1, k2, k3, k4⟩ := r7 i hi
    exact ⟨k1, by omega, k3, by rw [hs1 _ (by decide) (Z i) k1 k2]; exact k4⟩
  · obtain ⟨a', k1, k2, k3⟩ := h3 i hi
    exact ⟨a', by rw [t4]; exact k1, k2, sth.keep0 (a0 := a + 1) (s1 := s + 1) hk hc hm hn1 hl1 hst hst1 (fun arr q1 _ k q2 q3 => hs1 arr q1 k q2 q3) (fun k q2 q3 => hs1 _ (by decide) k (by omega) q3) 1600 a' (Z i) (by omega) (by omega) (by omega) k3⟩
theorem s_blk.keeps {a s hi hi' : Nat} {x : Option Nat} {y : Int32} (hp : pf g r L P w w') (hm : mfs σ σ') (hn1 : nn σ' fX3_nodes ≤ 1500) (hl1 : nn σ' fX3_listed ≤ 1500) (hh : hi ≤ nn σ fX3_statements) (hst : hi ≤ hi') (hst1 : hi' ≤ 1500) (h : s_blk g r L P w σ hi a s x y) : s_blk g r L P w' σ' hi' a s x y :=
  s_blk.keep0 (fun x hx _ => hp.2.1 x hx) hp.2.2 hm.mg hn1 hl1 hst hst1 (fun arr h1 k _ hk => hm.2.2.2.2.2.2.2.2.1 arr h1 k (by omega)) h
end BL
