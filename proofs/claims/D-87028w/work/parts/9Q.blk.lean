/-! LEVEL B2: blocks: the model when it is stuck; the row -/
set_option maxRecDepth 100000
section DB
variable {n q fr0 : Nat} {σ σ0 : ch_S}
/-- a statement of the model at a bad word -/
theorem dm_stm {e : Nat} {sd td : Int} (h : pds n sd td σ0 fr0 σ q) (hw : σ.1 fX3_wrong = -1) (hs : nn σ fX3_statements < 1599) (hq : q < 2 ^ 31) : ∃ σ', cr_MB (e + 1) 1 σ = some (Int32.ofNat (nn σ fX3_statements), σ') ∧ pds n sd td σ0 fr0 σ' q ∧ σ'.1 fX3_wrong = Int32.ofNat q := by
  obtain ⟨h1, h2, h3, h4, h5, h6, h7, h8, h9⟩ := h
  have hwd : σ.1 fX3_word = 1 := by
    rcases h2 with z | z
    · exact absurd (z.symm.trans hw) (bn_m1n hq)
    · exact z.2.1
  have hb := ms_begun (kd := 7) h5.2.2.2 hs
  have hf := md_beg_fr (σ := σ) (s := nn σ fX3_statements) (kd := 7)
  have m4 : nn (md_beg σ (nn σ fX3_statements) 7) fX3_statements = nn σ fX3_statements + 1 := nn_beg hs
  have m1 : nn (md_beg σ (nn σ fX3_statements) 7) fX3_nodes = nn σ fX3_nodes := nn_fr hf (by decide)
  have m2 : nn (md_beg σ (nn σ fX3_statements) 7) fX3_listed = nn σ fX3_listed := nn_fr hf (by decide)
  have m3 : nn (md_beg σ (nn σ fX3_statements) 7) fX3_held = nn σ fX3_held := nn_fr hf (by decide)
  have hN : pjN (md_beg σ (nn σ fX3_statements) 7) := ⟨by rw [m1]; exact h5.1, by rw [m2]; exact h5.2.1, by rw [m3]; exact h5.2.2.1, by rw [m4]; rfl⟩
  have hdk : dk (md_beg σ (nn σ fX3_statements) 7) q := h2
  generalize hσ1 : md_beg σ (nn σ fX3_statements) 7 = σ1 at *
  obtain ⟨σ2, d1, d2⟩ := dm_0 (d := 441) hdk hq
  have k1 : nn σ2 fX3_nodes = nn σ1 fX3_nodes := nn_fr d2.1 (by decide)
  have k2 : nn σ2 fX3_listed = nn σ1 fX3_listed := nn_fr d2.1 (by decide)
  have k3 : nn σ2 fX3_statements = nn σ1 fX3_statements := nn_fr d2.1 (by decide)
  refine ⟨σ2, ?_, ⟨(h1.trans (hf.mono (by decide) (by decide))).trans (d2.1.mono (by decide) (by decide)), d2.dk, h3, h4, pjN_fr hN d2.1 (by decide) (by decide) (by decide) (by decide), (d2.1.1 _ (by decide)).trans ((hf.1 _ (by decide)).trans h6), by rw [k1, m1]; exact h7, by rw [k2, m2]; exact h8, ?_⟩, d2.2⟩
  · show m_X3_statement (cr_MB e) σ = _
    unfold m_X3_statement m_X3_statement_91 m_X3_statement_107 m_X3_placed
    rw [dm_isType h2 hq, Option.bind_some, if_pos rfl, hwd, if_neg (show ¬ (1 : Int32) = 2 by decide), if_neg (show ¬ (1 : Int32) = 5 by decide), if_neg (show ¬ (0 : Int32) = 6 by decide), if_neg (show ¬ (0 : Int32) = 7 by decide), if_neg (show ¬ (0 : Int32) = 8 by decide), if_neg (show ¬ (0 : Int32) = 9 by decide), if_neg (show ¬ (0 : Int32) = 10 by decide), if_neg (show ¬ (0 : Int32) = 11 by decide), if_neg (show ¬ (0 : Int32) = 12 by decide), if_neg (show ¬ (0 : Int32) = 13 by decide), hb, Option.bind_some]
    dsimp only
    rw [d1, Option.bind_some]
    dsimp only
    rw [d2.2, if_neg (bn_nn hq)]
    rfl
  · rw [k3, m4, d2.2, if_neg (bn_m1n hq)]
    rw [hw, if_pos rfl] at h9
    omega
def bBM (e : Nat) : Int32 × Int32 × ch_S → Option ((Int32 × Int32 × ch_S) ⊕ (Int32 × ch_S)) := fun s => m_X3_block_19 (cr_MB e) s.1 s.2.1 s.2.2
theorem dm_66 {e : Nat} {x : Int32} {sd td : Int} (h : pds n sd td σ0 fr0 σ q) (hq : q < 2 ^ 31) : ∃ p, m_X3_block_66 (cr_MB e) x σ = some p ∧ pds n sd td σ0 fr0 p.2 q := by
  unfold m_X3_block_66
  rw [m_mI]
  obtain ⟨h1, h2, h3, h4, h5, h6, h7, h8, h9⟩ := h
  have hp : pds n sd td σ0 fr0 (md_si σ fX3_blockEnd (σ.1 fX3_wordFrom)) q := ⟨h1.si (by decide), h2, h3, h4, h5, h6, h7, h8, h9⟩
  obtain ⟨σ', d1, d2⟩ := dm_closes (c := 125) hp.2.1 hq
  rw [d1]
  exact ⟨_, rfl, hp.dr d2 hq⟩
/-- the loop of a block when it is stuck -/
theorem dm_blp {e : Nat} {x1 x2 : Int32} {sd td : Int} (h : pds n sd td σ0 fr0 σ q) (hs : nn σ fX3_statements < 1599) (hq : q < 2 ^ 31) (hx : x2 = -1 ∨ ∃ k : Nat, k < 1600 ∧ x2 = Int32.ofNat k) : ∃ p, ch_loop (bBM (e + 1)) (x1, x2, σ) = some p ∧ pds n sd td σ0 fr0 p.2 q := by
  have one : ∀ (y1 y2 : Int32) (σ : ch_S), pds n sd td σ0 fr0 σ q → σ.1 fX3_wrong = Int32.ofNat q → ∃ p, ch_loop (bBM (e + 1)) (y1, y2, σ) = some p ∧ pds n sd td σ0 fr0 p.2 q := by
    intro y1 y2 σ h hw
    obtain ⟨p, p1, p2⟩ := dm_66 (e := e + 1) (x := y1) h hq
    refine ⟨p, ch_loop_inr ?_, p2⟩
    show m_X3_block_19 (cr_MB (e + 1)) y1 y2 σ = _
    unfold m_X3_block_19
    rw [hw, if_neg (bn_nn hq), p1]
    rfl
  rcases id h.2.1 with z | z
  · exact one _ _ _ h z
  · obtain ⟨σ1, d1, d2, d3⟩ := dm_stm (e := e) h z.1 hs hq
    have hb : ∀ σ2 : ch_S, ch_loop (bBM (e + 1)) (x1, x2, σ) = (m_X3_block_51 (cr_MB (e + 1)) x1 (Int32.ofNat (nn σ fX3_statements)) σ2).bind (lpc (bBM (e + 1))) → pds n sd td σ0 fr0 σ2 q → σ2.1 fX3_wrong = Int32.ofNat q → ∃ p, ch_loop (bBM (e + 1)) (x1, x2, σ) = some p ∧ pds n sd td σ0 fr0 p.2 q := by
      intro σ2 h1 h2 h3
      rw [h1]
      unfold m_X3_block_51
      split
      · exact one _ _ _ h2 h3
      · exact one _ _ _ h2 h3
    rcases hx with hx | ⟨k, k1, k2⟩
    · refine hb σ1 ?_ d2 d3
      rw [lp_eq]
      show (m_X3_block_19 (cr_MB (e + 1)) x1 x2 σ).bind _ = _
      unfold m_X3_block_19
      rw [z.1, if_pos bn_m1, dm_sign h.2.1 hq, Option.bind_some, if_pos rfl, d1, Option.bind_some, hx, if_pos bn_m1]
    · refine hb (md_sa σ1 fX3_nextOf k (Int32.ofNat (nn σ fX3_statements))) ?_ (pd_sa d2 (by decide)) d3
      rw [lp_eq]
      show (m_X3_block_19 (cr_MB (e + 1)) x1 x2 σ).bind _ = _
      unfold m_X3_block_19
      rw [z.1, if_pos bn_m1, dm_sign h.2.1 hq, Option.bind_some, if_pos rfl, d1, Option.bind_some, k2, if_neg (bn_nn (by omega))]
      dsimp only
      rw [ms_w (by decide) k1]
theorem dm_block {e : Nat} {sd td : Int} (h : pds n sd td σ0 fr0 σ q) (hq : q < 2 ^ 31) : ∃ p, cr_MB (e + 1) 0 σ = some p ∧ pds n sd td σ0 fr0 p.2 q := by
  show ∃ p, m_X3_block (cr_MB e) σ = some p ∧ _
  unfold m_X3_block
  obtain ⟨σ', d1, d2⟩ := dm_opens (v := 0) h.2.1 hq (fun _ => rfl)
  rw [dm_sign h.2.1 hq, Option.bind_some, d1, Option.bind_some, if_pos rfl]
  exact ⟨_, rfl, h.dr d2 hq⟩
theorem dm_paren {sd td : Int} (h : pds n sd td σ0 fr0 σ q) (hq : q < 2 ^ 31) : ∃ p, m_X3_inParentheses σ = some p ∧ pds n sd td σ0 fr0 p.2 q := by
  unfold m_X3_inParentheses m_X3_inParentheses_21
  obtain ⟨σ', d1, d2⟩ := dm_opens (v := 0) h.2.1 hq (fun _ => rfl)
  obtain ⟨σ2, d3, d4⟩ := dm_closes (c := 41) d2.dk hq
  rw [dm_sign h.2.1 hq, Option.bind_some, d1, Option.bind_some, if_pos rfl]
  dsimp only
  rw [d3]
  exact ⟨_, rfl, h.dr (d2.trans d4) hq⟩
end DB
/-- the row is filled -/
theorem lc_59 {g : State} {rc : Nat → Nat → Int32 → ch_W → Option (Except Nat (Option Nat) × ch_W)} {r La A i cap v : Nat} {E : Nat → Nat} (hc : cap < 2 ^ 30) : ∀ (c k : Nat) (w : ch_W), i - k ≤ c → k ≤ i → jl g w La A i cap 10 E → ch_tg w v = 28 → ch_ln w v = i →
    ∃ w', ch_loop (fun (s : Int32 × ch_W) => c_X4_block_59 rc g r (some La) (some v) s.1 s.2) (Int32.ofNat k, w) = some (.ok (some v), w') ∧ (∀ j : Nat, k ≤ j → j < i → ch_gr w' v j = some (E j)) ∧ (∀ j : Nat, j < k → ch_gr w' v j = ch_gr w v j) ∧ ch_tg w' v = 28 ∧ ch_ln w' v = i ∧ (∀ a : Nat, a ≠ v → w'.1 a = w.1 a) ∧ w'.2 = w.2 := by
  intro c
  have fin : ∀ (k : Nat) (w : ch_W), k = i → ch_tg w v = 28 → ch_ln w v = i → cap < 2 ^ 30 → i ≤ cap → ch_loop (fun (s : Int32 × ch_W) => c_X4_block_59 rc g r (some La) (some v) s.1 s.2) (Int32.ofNat k, w) = some (.ok (some v), w) := by
    intro k w hk t1 t2 h3 h4
    refine ch_loop_inr ?_
    show c_X4_block_59 rc g r (some La) (some v) (Int32.ofNat k) w = _
    unfold c_X4_block_59
    rw [b_le (Or.inl t1), Option.bind_some, t2, if_neg (by rw [bn_lt (by omega) (by omega)]; omega)]
  induction c with
  | zero =>
    intro k w h1 h2 hj t1 t2
    have := hj.2.2.2.2.1
    exact ⟨w, fin k w (by omega) t1 t2 hc this, fun j q1 q2 => by omega, fun _ _ => rfl, t1, t2, fun _ _ => rfl, rfl⟩
  | succ c ih =>
    intro k w h1 h2 hj t1 t2
    have hic := hj.2.2.2.2.1
    by_cases hk : k = i
    · exact ⟨w, fin k w hk t1 t2 hc hic, fun j q1 q2 => by omega, fun _ _ => rfl, t1, t2, fun _ _ => rfl, rfl⟩
    · have e1 : Int32.ofNat k + 1 = Int32.ofNat (k + 1) := bn_add (b := 1)
      have hE := hj.2.2.2.2.2.2.2 k (by omega)
      have hv1 : v ≠ La := fun q => by
        have := hj.1
        rw [← q, t1] at this
        cases this
      have hv2 : v ≠ A := fun q => by
        have := hj.2.2.2.2.2.2.1
        rw [← q, t1] at this
        omega
      have hb : c_X4_block_59 rc g r (some La) (some v) (Int32.ofNat k) w = some (.inl (Int32.ofNat (k + 1), ch_sr w v k (some (E k)))) := by
        unfold c_X4_block_59
        have hcast : ch_cast w (some (E k)) 10 = some () := by
          unfold ch_cast
          show (if ch_tg w (E k) = 10 then _ else _) = _
          rw [if_pos hE.2]
        rw [b_le (Or.inl t1), Option.bind_some, t2, if_pos (by rw [bn_lt (by omega) (by omega)]; omega), d_rc hj.1, jl_get hj (by omega) (by omega), Option.bind_some, hcast, Option.bind_some, b_wR t1 (by omega) (by omega) (by unfold ch_fitR; simp [hE.2]), Option.bind_some, e1]
      have hj2 : jl g (ch_sr w v k (some (E k))) La A i cap 10 E := hj.keep (b_oR (fun q => hv1 q.symm)) (b_oR (fun q => hv2 q.symm)) (fun j hj3 => by rw [b_tR]; exact (hj.2.2.2.2.2.2.2 j hj3).2)
      obtain ⟨w', g1, g2, g3, g4, g5, g6, g7⟩ := ih (k + 1) (ch_sr w v k (some (E k))) (by omega) (by omega) hj2 (by rw [b_tR]; exact t1) (by rw [b_nR]; exact t2)
      refine ⟨w', (ch_loop_inl hb).trans g1, fun j q1 q2 => ?_, fun j q1 => ?_, g4, g5, fun a ha => by rw [g6 a ha, b_oR ha], by rw [g7]; rfl⟩
      · by_cases hjk : j = k
        · subst hjk
          rw [g3 j (by omega), b_RR, if_pos ⟨rfl, rfl⟩]
        · exact g2 j (by omega) q2
      · rw [g3 j (by omega), b_RR, if_neg (fun q => by omega)]
section CK
variable {g : State} {P r L S n C1 C2 : Nat} {f : Nat → Nat} {w w' : ch_W} {σ : ch_S} {tc fr tt op om ps : Nat}
/-- closes keeps closing -/
theorem closes_keep (h : pj g P r L S n f C1 C2 w σ tc fr tt (op + 1) om fr) {a : Option Nat} {c : Nat} (hc : c ≠ 0) (hi : c_X4_isThe g r a w = some (if tc = c then 1 else 0)) (hk : c_X4_closes g r a w = some (.ok (), w')) : ch_gi w' r fX4_closing = ch_gi w r fX4_closing := by
  have hr := h.1.2.2.2.2.2.2.1.1.1
  have hop := h.1.2.2.2.2.2.2.2.1
  have h30 := h.1.2.2.2.2.2.2.2.2.1
  have ht := h.1.2.2.2.2.2.2.1.2.2.2
  have e1 : Int32.ofNat (op + 1) - 1 = Int32.ofNat op := bn_sub (a := op + 1) (b := 1) (by omega)
  unfold c_X4_closes at hk
  rw [d_rc hr, hi, Option.bind_some, d_rc hr] at hk
  by_cases hq : tc = c
  · rw [if_pos hq, lc_must1, tb_ok rfl, d_gI hr, hop, e1, d_pI hr, d_rc (by rw [b_tI]; exact hr), tb_id] at hk
    obtain ⟨p1, p2⟩ := pj_si (k := fX4_open) (v := Int32.ofNat op) (op' := op) h (by decide) (by decide) (by decide) (by decide) (by rw [b_II, if_pos ⟨rfl, rfl⟩]) (by omega)
    rcases pj_next p1 ht.1 (Nat.le_refl _) (by omega) with ⟨w9, σ', tc', fr', tt', a1, a2, a3, a4, a5, a6, a7⟩ | ⟨e, w9, σ', q, a1, a2, a3, a4, a5⟩
    · rw [a1] at hk
      have : w' = w9 := by injection hk with hk; injection hk with _ hk; exact hk.symm
      rw [this, a6]
      unfold rd_set
      rw [b_II, if_neg (fun q => absurd q.2 (by decide)), b_II, if_neg (fun q => absurd q.2 (by decide)), b_II, if_neg (fun q => absurd q.2 (by decide)), b_II, if_neg (fun q => absurd q.2 (by decide))]
    · rw [a1] at hk
      injection hk with hk
      injection hk with hk _
      cases hk
  · obtain ⟨w9, a1, a2⟩ := pj_must h ht.1
    rw [if_neg hq, tb_er a1] at hk
    injection hk with hk
    injection hk with hk _
    cases hk
/-- the end of a block is noted -/
theorem pj_bE {v : Int32} (h : pj g P r L S n f C1 C2 w σ tc fr tt op om ps) : pj g P r L S n f C1 C2 w (md_si σ fX3_blockEnd v) tc fr tt op om ps ∧ mfs σ (md_si σ fX3_blockEnd v) := by
  have hf : md_fr [fX3_blockEnd] [] σ (md_si σ fX3_blockEnd v) := md_fr.refl.si (by decide)
  obtain ⟨m1, m2, m3, m4, m5, ⟨kM, TM, m6, m7, m8⟩, m9⟩ := h.2.1
  refine ⟨⟨h.1, ⟨m1.fr hf (by decide) (by decide), m2, m3, m4, m5, ⟨kM, TM, m6.fr hf (by decide) (by decide) (by decide) (by decide), m7, m8⟩, m9⟩, h.2.2⟩, hf.mono (by decide) (by decide), Nat.le_refl _, Nat.le_refl _, Nat.le_refl _, rfl, fun _ _ _ _ => rfl, fun _ _ => rfl, fun _ _ => rfl, fun _ _ _ _ => rfl, fun j t q => mn_fr q hf (by decide) (by decide) (by decide) (by decide)⟩
end CK
