/-! LEVEL B2: statements of both sides: told ones -/
set_option maxRecDepth 100000
section TD
variable {g : State} {P r L S n C1 C2 : Nat} {f : Nat → Nat} {w w' w0 : ch_W} {σ σ' σ0 : ch_S} {tc fr tt op om fr0 : Nat}
theorem st.keeps (hp : pf g r L P w w') (hm : mfs σ σ') (hn1 : nn σ' fX3_nodes ≤ 1500) (hl1 : nn σ' fX3_listed ≤ 1500) (hst1 : nn σ' fX3_statements ≤ 1500) {a s : Nat} (h : st g r L P w σ a s) : st g r L P w' σ' a s :=
  sth.keep0 (a0 := 0) (s1 := 0) (fun x hx _ => hp.2.1 x hx) hp.2.2 hm.mg hn1 hl1 hm.2.2.2.1 hst1 (fun arr h1 _ k _ hk => hm.2.2.2.2.2.2.2.2.1 arr h1 k hk) (fun k _ hk => hm.2.2.2.2.2.2.2.2.1 fX3_nextOf (by decide) k hk) 1600 a s (by omega) (by omega) (by omega) h
/-- goes on, statements read -/
def pgs (g : State) (P r L S n : Nat) (f : Nat → Nat) (C1 C2 : Nat) (u s t : Int) (op om : Nat) (w : ch_W) (σ : ch_S) (fr : Nat) (w' : ch_W) (σ' : ch_S) : Prop := ∃ tc' fr' tt', pj g P r L S n f C1 C2 w' σ' tc' fr' tt' op om fr' ∧ prs g P r L u s t w σ fr w' σ' fr' ∧ fr < fr'
/-- what a statement leaves -/
def sQ (g : State) (P r L S n : Nat) (f : Nat → Nat) (C1 C2 op : Nat) (w : ch_W) (σ : ch_S) (fr : Nat) (x : Option Nat) (w' : ch_W) (y : Int32) (σ' : ch_S) : Prop := ∃ a s, x = some a ∧ y = Int32.ofNat s ∧ s = nn σ fX3_statements ∧ ch_nx w ≤ a ∧ st g r L P w' σ' a s ∧ σ'.2 fX3_nextOf s = -1 ∧ pgs g P r L S n f C1 C2 2 0 0 op op w σ fr w' σ'
/-- room for a statement -/
def rm1 (L n C1 C2 : Nat) (w : ch_W) (σ : ch_S) (fr : Nat) : Prop := ch_cs w + 32 + 128 * (n - fr) ≤ C1 ∧ ch_sl w + 256 + 1024 * (n - fr) ≤ C2 + 4 * cpN w L ∧ nn σ fX3_statements + 1 + (n - fr) ≤ 1400
theorem dm_78 {rc : Nat → ch_S → Option (Int32 × ch_S)} {x : Int32} {sd td : Int} {q : Nat} (h : pds n sd td σ0 fr0 σ q) (hn31 : n < 2 ^ 31) : ∃ p, m_X3_statement_78 rc x σ = some p ∧ pds n sd td σ0 fr0 p.2 q := by
  have hq := h.2.2.2.1
  obtain ⟨σ', d1, d2⟩ := dm_passes (v := 0) h.2.1 (show q < 2 ^ 31 by omega) (fun _ => rfl)
  unfold m_X3_statement_78
  rw [dm_sign h.2.1 (show q < 2 ^ 31 by omega), Option.bind_some, d1]
  exact ⟨_, rfl, h.dr d2 (by omega)⟩
/-- ; -/
theorem po_semi {rc : Nat → ch_S → Option (Int32 × ch_S)} {u z t : Int} {a s : Nat} (hA0 : pjA L n C1 C2 w0 σ0 fr0) (h : pj g P r L S n f C1 C2 w σ tc fr tt op op fr) (hp : prs g P r L u z t w0 σ0 fr0 w σ fr) (hu : -2 ≤ u) (hz : 0 ≤ z) (ht : -1 ≤ t) (hst : st g r L P w σ a s) (hnx : σ.2 fX3_nextOf s = -1) (hs : s = nn σ0 fX3_statements) (ha : ch_nx w0 ≤ a) : pos P n C1 C2 0 0 w0 σ0 fr0 (ch_tb (c_X4_want g r (some (ch_sa g RX4 164)) w) (fun a w => (Except.error a, w)) (fun _ w3 => some (Except.ok (some a), w3))) (m_X3_statement_78 rc (Int32.ofNat s) σ) (sQ g P r L S n f C1 C2 op w0 σ0 fr0) := by
  have hat := h.1.2.2.2.2.2.2.1
  have htk := hat.2.2.2
  have s1 : m_X3_isSign 59 σ = _ := ms_sign (c := 59) h.2.1 htk (by decide)
  have hfr := hp.2.2.1
  unfold m_X3_statement_78
  rw [s1, Option.bind_some]
  have hw := po_want h (a := some (ch_sa g RX4 164)) (c := 1059) (by decide) (it_164 hat h.1.1)
  rcases hw with ⟨x1, w2, b2, σ2, k1, k2, k3⟩ | ⟨e, w2, b2, σ2, q, k1, k2, k3, k4⟩
  · obtain ⟨rfl, y1, ⟨tc2, fr2, tt2, q1, q2, q3⟩, q4⟩ := k3
    have hp2 := hp.trans (q2.s q3)
    have hA2 := q1.2.2
    unfold pjA at hA2
    have hsl : s < nn σ fX3_statements := by rw [st, sth] at hst; exact hst.2.2.2.1
    refine Or.inl ⟨some a, w2, Int32.ofNat s, σ2, by rw [tb_ok k1], by rw [k2]; rfl, a, s, rfl, rfl, hs, ha, st.keep q2.1 q2.2.1 (by omega) (by omega) (by omega) hst, ?_, ⟨tc2, fr2, tt2, q1, hp2.weak (by omega) (by omega) (by omega), by omega⟩⟩
    rw [q2.2.1.2.2.2.2.2.2.2.2.1 fX3_nextOf (by decide) s hsl]
    exact hnx
  · refine Or.inr ⟨e, w2, Int32.ofNat s, σ2, q, by rw [tb_er k1], by rw [k2]; rfl, k3.base hp.1, ?_⟩
    exact ((k4.s).base hp.2.1 hp.2.2).weak (by omega) (by omega)
/-- a statement begins: the component's cell, the model's row -/
theorem pj_begin {kd kM : Int32} (h : pj g P r L S n f C1 C2 w σ tc fr tt op op fr) (hR : rm1 L n C1 C2 w σ fr) (hv : sn w w' kd (Int32.ofNat fr)) : m_X3_begun kM σ = some (Int32.ofNat (nn σ fX3_statements), md_beg σ (nn σ fX3_statements) kM) ∧ pj g P r L S n f C1 C2 w' (md_beg σ (nn σ fX3_statements) kM) tc fr tt op op fr ∧ prs g P r L (-1) 0 (-1) w σ fr w' (md_beg σ (nn σ fX3_statements) kM) fr ∧ ow r L P w' (ch_nx w) ∧ P ≤ ch_nx w ∧ nn σ fX3_statements < 1400 := by
  obtain ⟨v1, v2, v3, -⟩ := hv
  have hx : ch_nx w' = ch_nx w + 1 := by unfold ch_nx; rw [v2]; rfl
  have hc : ch_cs w' = ch_cs w + 1 := by unfold ch_cs; rw [v2]; rfl
  have hs : ch_sl w' = ch_sl w + 8 := by unfold ch_sl; rw [v2]; rfl
  obtain ⟨c1, c2, c3, c4, c5⟩ := pjC_new h.1 v1 hx
  obtain ⟨R1, R2, R3⟩ := hR
  have hA := h.2.2
  unfold pjA at hA
  have hb := ms_begun (kd := kM) h.2.1.2.2.2.2.2.2.2.2.2 (show nn σ fX3_statements < 1599 by omega)
  have hf := md_beg_fr (σ := σ) (s := nn σ fX3_statements) (kd := kM)
  have m1 : nn (md_beg σ (nn σ fX3_statements) kM) fX3_nodes = nn σ fX3_nodes := nn_fr hf (by decide)
  have m2 : nn (md_beg σ (nn σ fX3_statements) kM) fX3_listed = nn σ fX3_listed := nn_fr hf (by decide)
  have m3 : nn (md_beg σ (nn σ fX3_statements) kM) fX3_held = nn σ fX3_held := nn_fr hf (by decide)
  have m4 : nn (md_beg σ (nn σ fX3_statements) kM) fX3_statements = nn σ fX3_statements + 1 := nn_beg (by omega)
  have hM : pjM n f (md_beg σ (nn σ fX3_statements) kM) tc fr tt op := by
    obtain ⟨p1, p2, p3, p4, p5, ⟨kN, TM, p6, p7, p8⟩, p9⟩ := h.2.1
    exact ⟨p1.fr hf (by decide) (by decide), p2, p3, p4, p5, ⟨kN, TM, p6.fr hf (by decide) (by decide) (by decide) (by decide), p7, p8⟩, ⟨by rw [m1]; exact p9.1, by rw [m2]; exact p9.2.1, by rw [m3]; exact p9.2.2.1, by rw [m4]; rfl⟩⟩
  refine ⟨hb, ⟨c1, hM, ?_⟩, ⟨c2, mf_beg rfl (by omega), ?_⟩, c4, c5, by omega⟩
  · unfold pjA
    rw [c3, hc, hs, m1, m2, m3, m4]
    omega
  · unfold bds
    rw [c3, hc, hs, m1, m2, m4]
    omega
end TD
