/-! LEVEL B2: statements with parts: one step at a time -/
set_option maxRecDepth 100000
section CN
variable {g : State} {P r L S n C1 C2 : Nat} {f : Nat → Nat} {w w' w0 w2 : ch_W} {σ σ' σ0 σ2 : ch_S} {tc fr tt op fr0 : Nat}
/-- what of the trees and rows stays while statement a, s is being made -/
def sk (g : State) (r L P : Nat) (w : ch_W) (σ : ch_S) (w2 : ch_W) (σ2 : ch_S) (a s : Nat) : Prop := (∀ b lo nd, vt g r L P w σ b lo nd → vt g r L P w2 σ2 b lo nd) ∧ (∀ x y, s_blk g r L P w σ (nn σ fX3_statements) a s x y → s_blk g r L P w2 σ2 (nn σ2 fX3_statements) a s x y) ∧ (∀ x y, iota g w L σ x y → iota g w2 L σ2 x y)
theorem sk.trans {w3 : ch_W} {σ3 : ch_S} {a s : Nat} (h : sk g r L P w σ w2 σ2 a s) (h2 : sk g r L P w2 σ2 w3 σ3 a s) : sk g r L P w σ w3 σ3 a s := ⟨fun b lo nd q => h2.1 b lo nd (h.1 b lo nd q), fun x y q => h2.2.1 x y (h.2.1 x y q), fun x y q => h2.2.2 x y (h.2.2 x y q)⟩
theorem sk_pf {a s : Nat} (hp : pf g r L P w w2) (hm : mfs σ σ2) (hn1 : nn σ2 fX3_nodes ≤ 1500) (hl1 : nn σ2 fX3_listed ≤ 1500) (hs1 : nn σ2 fX3_statements ≤ 1500) : sk g r L P w σ w2 σ2 a s :=
  ⟨fun b lo nd q => vt.keep0 (fun x hx _ => hp.2.1 x hx) hp.2.2 hm.mg hn1 hl1 (nd + 1) b lo nd (by omega) q, fun _ _ q => q.keeps hp hm hn1 hl1 (Nat.le_refl _) hm.2.2.2.1 hs1, fun _ _ q => q.keep0 hp.2.2 hm.mg⟩
/-- the statement's cell and row -/
def cr (r L P : Nat) (w : ch_W) (σ : ch_S) (a s : Nat) (GI : Nat → Int32) (GR : Nat → Option Nat) (RW : Nat → Int32) : Prop := ow r L P w a ∧ P ≤ a ∧ ch_tg w a = 10 ∧ s < nn σ fX3_statements ∧ (∀ k : Nat, ch_gi w a k = GI k) ∧ (∀ k : Nat, ch_gr w a k = GR k) ∧ ∀ arr ∈ psa, σ.2 arr s = RW arr
theorem cr.pf {a s : Nat} {GI : Nat → Int32} {GR : Nat → Option Nat} {RW : Nat → Int32} (h : cr r L P w σ a s GI GR RW) (hp : pf g r L P w w2) (hm : mfs σ σ2) : cr r L P w2 σ2 a s GI GR RW := by
  obtain ⟨h1, h2, h3, h4, h5, h6, h7⟩ := h
  obtain ⟨y1, y2⟩ := hp.2.1 a h1
  obtain ⟨t1, t2, t3, t4, -⟩ := b_cell y1
  exact ⟨y2, h2, by rw [t1]; exact h3, by have := hm.2.2.2.1; omega, fun k => by rw [t3]; exact h5 k, fun k => by rw [t4]; exact h6 k, fun arr ha => by rw [hm.2.2.2.2.2.2.2.2.1 arr ha s h4]; exact h7 arr ha⟩
/-- where both are while statement a, s is being made -/
def cst (g : State) (P r L S n : Nat) (f : Nat → Nat) (C1 C2 op : Nat) (w0 : ch_W) (σ0 : ch_S) (fr0 a s : Nat) (u z t : Int) (w : ch_W) (σ : ch_S) (tc fr tt : Nat) (GI : Nat → Int32) (GR : Nat → Option Nat) (RW : Nat → Int32) : Prop := pj g P r L S n f C1 C2 w σ tc fr tt op op fr ∧ prs g P r L u z t w0 σ0 fr0 w σ fr ∧ cr r L P w σ a s GI GR RW ∧ ch_nx w0 ≤ a ∧ nn σ0 fX3_statements ≤ s ∧ pjA L n C1 C2 w0 σ0 fr0
section
variable {a s : Nat} {u z t : Int} {GI : Nat → Int32} {GR : Nat → Option Nat} {RW : Nat → Int32}
theorem cst.bnd (h : cst g P r L S n f C1 C2 op w0 σ0 fr0 a s u z t w σ tc fr tt GI GR RW) : nn σ fX3_nodes ≤ 1400 ∧ nn σ fX3_listed ≤ 1400 ∧ nn σ fX3_statements ≤ 1400 ∧ s < 1400 ∧ fr ≤ n ∧ fr ≤ tt ∧ n ≤ 1280 := by
  have hA := h.1.2.2
  unfold pjA at hA
  have htk := h.1.1.2.2.2.2.2.2.1.2.2.2
  have := htk.1
  have := htk.2.1
  have := h.2.2.1.2.2.2.1
  have := h.1.2.1.2.2.2.2.1
  omega
/-- a step that leaves the statement alone -/
theorem cst.step {u2 z2 t2 : Int} {tc2 fr2 tt2 : Nat} (h : cst g P r L S n f C1 C2 op w0 σ0 fr0 a s u z t w σ tc fr tt GI GR RW) (h2 : pj g P r L S n f C1 C2 w2 σ2 tc2 fr2 tt2 op op fr2) (hp : prs g P r L u2 z2 t2 w σ fr w2 σ2 fr2) : cst g P r L S n f C1 C2 op w0 σ0 fr0 a s (u + u2) (z + z2) (t + t2) w2 σ2 tc2 fr2 tt2 GI GR RW ∧ sk g r L P w σ w2 σ2 a s := by
  have hc : cst g P r L S n f C1 C2 op w0 σ0 fr0 a s (u + u2) (z + z2) (t + t2) w2 σ2 tc2 fr2 tt2 GI GR RW := ⟨h2, h.2.1.trans hp, h.2.2.1.pf hp.1 hp.2.1, h.2.2.2⟩
  have := hc.bnd
  exact ⟨hc, sk_pf hp.1 hp.2.1 (by omega) (by omega) (by omega)⟩
theorem cst.weak {u' z' t' : Int} (h : cst g P r L S n f C1 C2 op w0 σ0 fr0 a s u z t w σ tc fr tt GI GR RW) (hu : u' ≤ u) (hz : z' ≤ z) (ht : t' ≤ t) : cst g P r L S n f C1 C2 op w0 σ0 fr0 a s u' z' t' w σ tc fr tt GI GR RW := ⟨h.1, h.2.1.weak hu hz ht, h.2.2⟩
/-- a cell's row is written -/
theorem cst.setR {k : Nat} {v : Option Nat} (h : cst g P r L S n f C1 C2 op w0 σ0 fr0 a s u z t w σ tc fr tt GI GR RW) : cst g P r L S n f C1 C2 op w0 σ0 fr0 a s u z t (ch_sr w a k v) σ tc fr tt GI (fun j => if j = k then v else GR j) RW ∧ sk g r L P w σ (ch_sr w a k v) σ a s := by
  have hn := h.bnd
  obtain ⟨h1, h2, ⟨c1, c2, c3, c4, c5, c6, c7⟩, h4, h5, h6⟩ := h
  obtain ⟨d1, d2, d3, d4, d5⟩ := pj_fld10 (w' := ch_sr w a k v) h1 c1 c2 c3 (fun x hx => b_oR hx) rfl
  refine ⟨⟨d1, d5 _ _ _ _ _ _ h2 h4, ⟨d3 _ c1, c2, by rw [b_tR]; exact c3, c4, fun j => by rw [b_IR]; exact c5 j, fun j => ?_, c7⟩, h4, h5, h6⟩, fun b lo nd q => d2 b lo nd (by omega) (by omega) q, fun x y q => q.keep0 (fun x hx hor => ⟨b_oR (fun q2 => ?_), d3 x hx⟩) d4 mf.refl.mg (by omega) (by omega) (Nat.le_refl _) (by omega) (fun _ _ _ _ _ => rfl), fun x y q => q.keep0 d4 mf.refl.mg⟩
  · show _ = if j = k then v else GR j
    rw [b_RR]
    by_cases hj : j = k
    · rw [if_pos ⟨rfl, hj⟩, if_pos hj]
    · rw [if_neg (fun q => hj q.2), if_neg hj]; exact c6 j
  · rw [q2, c3] at hor
    omega
theorem cst.setI {k : Nat} {v : Int32} (h : cst g P r L S n f C1 C2 op w0 σ0 fr0 a s u z t w σ tc fr tt GI GR RW) : cst g P r L S n f C1 C2 op w0 σ0 fr0 a s u z t (ch_si w a k v) σ tc fr tt (fun j => if j = k then v else GI j) GR RW ∧ sk g r L P w σ (ch_si w a k v) σ a s := by
  have hn := h.bnd
  obtain ⟨h1, h2, ⟨c1, c2, c3, c4, c5, c6, c7⟩, h4, h5, h6⟩ := h
  obtain ⟨d1, d2, d3, d4, d5⟩ := pj_fld10 (w' := ch_si w a k v) h1 c1 c2 c3 (fun x hx => b_oI hx) rfl
  refine ⟨⟨d1, d5 _ _ _ _ _ _ h2 h4, ⟨d3 _ c1, c2, by rw [b_tI]; exact c3, c4, fun j => ?_, fun j => by rw [b_RI]; exact c6 j, c7⟩, h4, h5, h6⟩, fun b lo nd q => d2 b lo nd (by omega) (by omega) q, fun x y q => q.keep0 (fun x hx hor => ⟨b_oI (fun q2 => ?_), d3 x hx⟩) d4 mf.refl.mg (by omega) (by omega) (Nat.le_refl _) (by omega) (fun _ _ _ _ _ => rfl), fun x y q => q.keep0 d4 mf.refl.mg⟩
  · show _ = if j = k then v else GI j
    rw [b_II]
    by_cases hj : j = k
    · rw [if_pos ⟨rfl, hj⟩, if_pos hj]
    · rw [if_neg (fun q => hj q.2), if_neg hj]; exact c5 j
  · rw [q2, c3] at hor
    omega
theorem cst.setM {arr : Nat} {v : Int32} (h : cst g P r L S n f C1 C2 op w0 σ0 fr0 a s u z t w σ tc fr tt GI GR RW) (ha : arr ∈ psa) : cst g P r L S n f C1 C2 op w0 σ0 fr0 a s u z t w (md_sa σ arr s v) tc fr tt GI GR (fun j => if j = arr then v else RW j) ∧ sk g r L P w σ w (md_sa σ arr s v) a s := by
  have hn := h.bnd
  obtain ⟨h1, h2, ⟨c1, c2, c3, c4, c5, c6, c7⟩, h4, h5, h6⟩ := h
  refine ⟨⟨pj_sa h1 ha, pr_sa h2 ha h5, ⟨c1, c2, c3, c4, c5, c6, fun j hj => ?_⟩, h4, h5, h6⟩, fun b lo nd q => vt.keep0 (fun x hx _ => ⟨rfl, hx⟩) (fun _ _ q => q) (mg_sa ha) (show nn σ fX3_nodes ≤ 1500 by omega) (show nn σ fX3_listed ≤ 1500 by omega) (nd + 1) b lo nd (by omega) q, fun x y q => s_blk.keep0 (hi' := nn σ fX3_statements) (fun x hx _ => ⟨rfl, hx⟩) (fun _ _ q => q) (mg_sa ha) (show nn σ fX3_nodes ≤ 1500 by omega) (show nn σ fX3_listed ≤ 1500 by omega) (Nat.le_refl _) (by omega) (fun x _ k q1 _ => by rw [md_ga, if_neg (fun q => by omega)]) q, fun x y q => q.keep0 (fun _ _ q => q) (mg_sa ha)⟩
  show (md_sa σ arr s v).2 j s = if j = arr then v else RW j
  rw [md_ga]
  by_cases hj2 : j = arr
  · rw [if_pos ⟨hj2, rfl⟩, if_pos hj2]
  · rw [if_neg (fun q => hj2 q.1), if_neg hj2]; exact c7 j hj
/-- stuck behind such a state -/
theorem cst.stuck {sd td : Int} {q : Nat} (h : cst g P r L S n f C1 C2 op w0 σ0 fr0 a s u z t w σ tc fr tt GI GR RW) (hq : pds n sd td σ fr σ2 q) (hs : 0 ≤ sd + z) (ht : 0 ≤ td + t) : pds n 0 0 σ0 fr0 σ2 q := (hq.base h.2.1.2.1 h.2.1.2.2).weak hs ht
/-- ( value ) -/
theorem po_cval {K : ch_W → Option (Except Nat (Option Nat) × ch_W)} {K2 : ch_S → Option (Int32 × ch_S)} {Q' : Option Nat → ch_W → Int32 → ch_S → Prop} (h : cst g P r L S n f C1 C2 op w0 σ0 fr0 a s u z t w σ tc fr tt GI GR RW) (hu : 0 ≤ u) (hz : 0 ≤ z) (ht : 0 ≤ t) (hn31 : n < 2 ^ 31)
    (ok : ∀ w2 σ2 a2 nd tc2 fr2 tt2, cst g P r L S n f C1 C2 op w0 σ0 fr0 a s (u + 2) z t w2 σ2 tc2 fr2 tt2 GI (fun j => if j = fX9_value then some a2 else GR j) (fun j => if j = fX3_value then Int32.ofNat nd else RW j) → sk g r L P w σ w2 σ2 a s → vt g r L P w2 σ2 a2 (nn σ fX3_nodes) nd → nd < 1500 → pos P n C1 C2 0 0 w0 σ0 fr0 (K w2) (K2 σ2) Q')
    (er : ∀ σ2 q, pds n 0 0 σ0 fr0 σ2 q → ∃ p, K2 σ2 = some p ∧ pds n 0 0 σ0 fr0 p.2 q) : pos P n C1 C2 0 0 w0 σ0 fr0 (ch_tb (c_X4_opens g r (some (ch_sa g RX4 171)) w) (fun a w => (.error a, w)) fun _ w8 => (ch_rc w8 (some r) 5).bind fun _ => ch_tb (cr_PA g 300 0 r w8) (fun a w => (.error a, w)) fun v10 w11 => (ch_pR w11 (some a) 10 fX9_value v10).bind fun w12 => (ch_rc w12 (some r) 5).bind fun _ => ch_tb (c_X4_closes g r (some (ch_sa g RX4 173)) w12) (fun a w => (.error a, w)) fun _ w15 => K w15)
      ((m_X3_inParentheses σ).bind fun p7 => (ch_mw p7.2 fX3_value (Int32.ofNat s) p7.1).bind fun σ9 => K2 σ9) Q' := by
  have hnn := h.bnd
  have hat := h.1.1.2.2.2.2.2.2.1
  have htk := hat.2.2.2
  have s1 : m_X3_isSign 40 σ = some (if tc = 1000 + 40 then 1 else 0) := ms_sign (c := 40) h.1.2.1 htk (by decide)
  have hsl : s < 1600 := by omega
  unfold m_X3_inParentheses
  rw [s1, Option.bind_some, Option.bind_assoc]
  refine pos.tb2 ((po_opens h.1 (Nat.le_refl _) htk.1 (by decide) (it_171 hat h.1.1.1)).s) h.2.1.1 (fun _ w2 b σ2 q => ?_) (fun b σ2 q hq2 => ?_)
  · obtain ⟨rfl, z0, hlt30, ⟨tc2, fr2, tt2, q1, q2, q3⟩, q4⟩ := q
    have hcr2 := h.2.2.1.pf q2.1 q2.2.1.s
    have hno2 : nn σ2 fX3_nodes = nn σ fX3_nodes := nn_fr q4 (by decide)
    have hp2 := h.2.1.trans (q2.s q3)
    have hA2 := q1.2.2
    unfold pjA at hA2
    have htk2 := q1.1.2.2.2.2.2.2.1.2.2.2
    have hk12 : sk g r L P w σ w2 σ2 a s := sk_pf q2.1 q2.2.1.s (by omega) (by omega) (by omega)
    dsimp only
    rw [if_neg (show ¬ (1 : Int32) = 0 by decide), d_rc q1.1.2.2.2.2.2.2.1.1.1, Option.bind_assoc]
    refine pos.tb2 ((po_expr q1).s) hp2.1 (fun x7 w7 y7 σ7 z => ?_) (fun b σ7 q hq7 => ?_)
    · obtain ⟨a7, nd7, rfl, rfl, j1, j2, tc7, fr7, tt7, j3, j4, j5⟩ := z
      have hp7 := hp2.trans (j4.s j5)
      have hA7 := j3.2.2
      unfold pjA at hA7
      have htk7 := j3.1.2.2.2.2.2.2.1.2.2.2
      have hf7 := htk7.1
      have hf7' := htk7.2.1
      have hst2 : cst g P r L S n f C1 C2 (op + 1) w0 σ0 fr0 a s _ _ _ w7 σ7 tc7 fr7 tt7 GI GR RW := ⟨j3, hp7, hcr2.pf j4.1 j4.2.1.s, h.2.2.2⟩
      obtain ⟨e1, e2⟩ := hst2.setR (k := fX9_value) (v := some a7)
      have hk27 : sk g r L P w2 σ2 w7 σ7 a s := sk_pf j4.1 j4.2.1.s (by omega) (by omega) (by omega)
      dsimp only
      rw [d_pR hst2.2.2.1.2.2.1, d_rc e1.1.1.2.2.2.2.2.2.1.1.1]
      unfold m_X3_inParentheses_21
      have hat8 := e1.1.1.2.2.2.2.2.2.1
      generalize hw8 : ch_sr w7 a fX9_value (some a7) = w8 at *
      refine pos.tb2 ((po_closes (c := 41) (v := Int32.ofNat nd7) e1.1 (by decide) (it_173 hat8 e1.1.1.1)).s) e1.2.1.1 (fun _ w9 b σ9 y => ?_) (fun b σ9 q hq9 => ?_)
      · obtain ⟨rfl, y0, ⟨tc9, fr9, tt9, y1, y2, y3⟩, y4⟩ := y
        have hA9 := y1.2.2
        unfold pjA at hA9
        have hst9 : cst g P r L S n f C1 C2 op w0 σ0 fr0 a s _ _ _ w9 σ9 tc9 fr9 tt9 GI _ RW := ⟨y1, e1.2.1.trans (y2.s y3), e1.2.2.1.pf y2.1 y2.2.1.s, h.2.2.2⟩
        have hk89 : sk g r L P w8 σ7 w9 σ9 a s := sk_pf y2.1 y2.2.1.s (by omega) (by omega) (by omega)
        obtain ⟨e3, e4⟩ := hst9.setM (arr := fX3_value) (v := Int32.ofNat nd7) (by decide)
        dsimp only
        rw [ms_w (by decide) hsl]
        have hk := ((e2.trans hk89).trans e4)
        refine ok _ _ a7 nd7 tc9 fr9 tt9 (e3.weak (by omega) (by omega) (by omega)) ((hk12.trans hk27).trans hk) (hk.1 _ _ _ (by rw [hno2] at j2; exact j2)) (by omega)
      · dsimp only
        rw [ms_w (by decide) hsl]
        exact er _ _ (pd_sa (e1.stuck hq9 (by omega) (by omega)) (by decide))
    · have hpds := (hq7.base hp2.2.1 hp2.2.2).weak (show (0 : Int) ≤ _ by omega) (show (0 : Int) ≤ _ by omega)
      have hq9 := hpds.2.2.2.1
      unfold m_X3_inParentheses_21
      obtain ⟨σ8, d1, d2⟩ := dm_closes (c := 41) hpds.2.1 (show q < 2 ^ 31 by omega)
      dsimp only
      rw [d1, Option.bind_some, Option.bind_some]
      dsimp only
      rw [ms_w (by decide) hsl]
      exact er _ _ (pd_sa (hpds.dr d2 (by omega)) (by decide))
  · have hpds := (hq2.base h.2.1.2.1 h.2.1.2.2).weak (show (0 : Int) ≤ _ by omega) (show (0 : Int) ≤ _ by omega)
    have hq9 := hpds.2.2.2.1
    have hq31 : q < 2 ^ 31 := by omega
    unfold m_X3_inParentheses_21
    dsimp only
    split
    · obtain ⟨σ8, d1, d2⟩ := dm_closes (c := 41) hpds.2.1 hq31
      rw [d1, Option.bind_some, Option.bind_some]
      dsimp only
      rw [ms_w (by decide) hsl]
      exact er _ _ (pd_sa (hpds.dr d2 hq31) (by decide))
    · obtain ⟨σ8, d1, d2⟩ := dm_0 (d := 441) hpds.2.1 hq31
      obtain ⟨σ9, d3, d4⟩ := dm_closes (c := 41) d2.dk hq31
      rw [d1, Option.bind_some]
      dsimp only
      rw [d3, Option.bind_some, Option.bind_some]
      dsimp only
      rw [ms_w (by decide) hsl]
      exact er _ _ (pd_sa (hpds.dr (d2.trans d4) hq31) (by decide))
/-- a block -/
theorem po_cblk {d e fd arr : Nat} {K : ch_W → Option (Except Nat (Option Nat) × ch_W)} {K2 : ch_S → Option (Int32 × ch_S)} {Q' : Option Nat → ch_W → Int32 → ch_S → Prop} (HB : BP g P r L S n f C1 C2 op d e) (h : cst g P r L S n f C1 C2 op w0 σ0 fr0 a s u z t w σ tc fr tt GI GR RW) (hz : 0 ≤ z) (ht : 0 ≤ t) (harr : arr ∈ psa)
    (ok : ∀ w2 σ2 x y tc2 fr2 tt2, cst g P r L S n f C1 C2 op w0 σ0 fr0 a s (u + 4) (z + 2) (t + 2) w2 σ2 tc2 fr2 tt2 GI (fun j => if j = fd then x else GR j) (fun j => if j = arr then y else RW j) → sk g r L P w σ w2 σ2 a s → s_blk g r L P w2 σ2 (nn σ2 fX3_statements) a s x y → fr < fr2 → pos P n C1 C2 0 0 w0 σ0 fr0 (K w2) (K2 σ2) Q')
    (er : ∀ σ2 q, pds n 0 0 σ0 fr0 σ2 q → ∃ p, K2 σ2 = some p ∧ pds n 0 0 σ0 fr0 p.2 q) : pos P n C1 C2 0 0 w0 σ0 fr0 (ch_tb (cr_PS g d 0 r 0 w) (fun a w => (.error a, w)) fun v17 w18 => (ch_pR w18 (some a) 10 fd v17).bind fun w19 => K w19) ((cr_MB e 0 σ).bind fun p => (ch_mw p.2 arr (Int32.ofNat s) p.1).bind fun σ9 => K2 σ9) Q' := by
  have hnn := h.bnd
  have hsl : s < 1600 := by omega
  refine pos.tb2 (HB w σ tc fr tt h.1) h.2.1.1 (fun x2 w2 y2 σ2 q => ?_) (fun b σ2 q hq2 => ?_)
  · have hq := q
    obtain ⟨b, m, Z, rfl, -, -, -, tc2, fr2, tt2, q1, q2, q3⟩ := hq
    have hlt : a < ch_nx w := by
      have := h.2.2.1.2.2.1
      exact h.1.1.2.2.2.2.2.1 a (by rw [this]; decide)
    have hblk : s_blk g r L P w2 σ2 (nn σ2 fX3_statements) a s (some b) y2 := q.row hlt h.2.2.1.2.2.2.1
    obtain ⟨e1, e2⟩ := h.step q1 q2
    obtain ⟨e3, e4⟩ := e1.setR (k := fd) (v := some b)
    obtain ⟨e5, e6⟩ := e3.setM (arr := arr) (v := y2) harr
    dsimp only
    rw [d_pR e1.2.2.1.2.2.1, ms_w harr hsl]
    have hk := e4.trans e6
    exact ok _ _ _ _ _ _ _ e5 (e2.trans hk) (hk.2.1 _ _ hblk) q3
  · dsimp only
    rw [ms_w harr hsl]
    exact er _ _ (pd_sa (h.stuck hq2 (by omega) (by omega)) harr)
end
end CN
