/-! LEVEL B2: both go on or both are stuck: putting together -/
set_option maxRecDepth 100000
theorem tb_id {x : Option (Except Nat Unit × ch_W)} : ch_tb x (fun a w => (Except.error a, w)) (fun _ w => some (Except.ok (), w)) = x := by
  unfold ch_tb
  cases x with
  | none => rfl
  | some p =>
    obtain ⟨a, w⟩ := p
    cases a <;> rfl
theorem tb_idA {α : Type} {x : Option (Except Nat α × ch_W)} : ch_tb x (fun a w => (Except.error a, w)) (fun v w => some (Except.ok v, w)) = x := by
  unfold ch_tb
  cases x with
  | none => rfl
  | some p =>
    obtain ⟨a, w⟩ := p
    cases a <;> rfl
theorem tb_er {α γ : Type} {x : Option (Except Nat α × ch_W)} {e : Nat → ch_W → γ} {k : α → ch_W → Option γ} {a : Nat} {w : ch_W} (h : x = some (.error a, w)) : ch_tb x e k = some (e a w) := by rw [h]; rfl
theorem tb_ok {α γ : Type} {x : Option (Except Nat α × ch_W)} {e : Nat → ch_W → γ} {k : α → ch_W → Option γ} {a : α} {w : ch_W} (h : x = some (.ok a, w)) : ch_tb x e k = k a w := by rw [h]; rfl
/-- behind a loop's turn -/
def lpc {α β : Type} (body : α → Option (α ⊕ β)) (r : α ⊕ β) : Option β := match r with
  | .inl a => ch_loop body a
  | .inr b => some b
theorem lp_eq {α β : Type} {body : α → Option (α ⊕ β)} {a : α} : ch_loop body a = (body a).bind (lpc body) := by
  rw [ch_loop]
  rfl
theorem tb_lp {α β s : Type} {x : Option (Except Nat α × ch_W)} {k : α → ch_W → Option (s ⊕ (Except Nat β × ch_W))} {body : s → Option (s ⊕ (Except Nat β × ch_W))} : (ch_tb x (fun a w => Sum.inr (Except.error a, w)) k).bind (lpc body) = ch_tb x (fun a w => (Except.error a, w)) (fun v w => (k v w).bind (lpc body)) := by
  unfold ch_tb
  cases x with
  | none => rfl
  | some p =>
    obtain ⟨a, w⟩ := p
    cases a <;> rfl
section PO
variable {α β : Type} {g : State} {P r L S n C1 C2 : Nat} {f : Nat → Nat} {w w1 : ch_W} {σ σ1 : ch_S} {fr fr1 : Nat} {u s : Int}
theorem pe.base {w' : ch_W} {e q : Nat} (h : pe P C1 C2 w1 w' e q) (hp : pf g r L P w w1) : pe P C1 C2 w w' e q := by
  obtain ⟨h1, h2, h3, h4, h5, h6, h7⟩ := h
  exact ⟨h1, h2, fun a ha => (h3 a ha).trans (hp.2.1 a (Or.inl ha)).1, Nat.le_trans hp.1 h4, h5, h6, h7⟩
theorem pd.base {sd : Int} {σ' : ch_S} {q : Nat} (h : pd n sd σ1 fr1 σ' q) (hm : mf σ σ1) (hb : bd L u s w σ fr w1 σ1 fr1) : pd n (sd + s) σ fr σ' q := by
  obtain ⟨h1, h2, h3, h4, h5, h6, h7, h8, h9⟩ := h
  obtain ⟨b1, b2, b3, b4, b5, b6⟩ := hb
  refine ⟨hm.1.trans h1, h2, by omega, h4, h5, h6.trans hm.2.2.2.2.1, ?_, by omega, ?_⟩
  · generalize (if σ'.1 fX3_wrong = -1 then (0 : Int) else 1) = z at *
    omega
  · generalize (if σ'.1 fX3_wrong = -1 then (0 : Int) else 1) = z at *
    omega
theorem pd.weak {sd sd' : Int} {σ' : ch_S} {q : Nat} (h : pd n sd σ fr σ' q) (hs : sd' ≤ sd) : pd n sd' σ fr σ' q := by
  obtain ⟨h1, h2, h3, h4, h5, h6, h7, h8, h9⟩ := h
  refine ⟨h1, h2, by omega, h4, h5, h6, ?_, by omega, ?_⟩
  · generalize (if σ'.1 fX3_wrong = -1 then (0 : Int) else 1) = z at *
    omega
  · generalize (if σ'.1 fX3_wrong = -1 then (0 : Int) else 1) = z at *
    omega
theorem po.base {sd : Int} {x : Option (Except Nat α × ch_W)} {y : Option (Int32 × ch_S)} {Q : α → ch_W → Int32 → ch_S → Prop} (h : po P n C1 C2 sd w1 σ1 fr1 x y Q) (hp : pr g P r L u s w σ fr w1 σ1 fr1) : po P n C1 C2 (sd + s) w σ fr x y Q := by
  rcases h with h | ⟨e, w', b, σ', q, h1, h2, h3, h4⟩
  · exact Or.inl h
  · exact Or.inr ⟨e, w', b, σ', q, h1, h2, h3.base hp.1, h4.base hp.2.1 hp.2.2⟩
theorem po.mono {sd sd' : Int} {x : Option (Except Nat α × ch_W)} {y : Option (Int32 × ch_S)} {Q Q' : α → ch_W → Int32 → ch_S → Prop} (h : po P n C1 C2 sd w σ fr x y Q) (hs : sd' ≤ sd) (hq : ∀ a w' b σ', Q a w' b σ' → Q' a w' b σ') : po P n C1 C2 sd' w σ fr x y Q' := by
  rcases h with ⟨a, w', b, σ', h1, h2, h3⟩ | ⟨e, w', b, σ', q, h1, h2, h3, h4⟩
  · exact Or.inl ⟨a, w', b, σ', h1, h2, hq _ _ _ _ h3⟩
  · exact Or.inr ⟨e, w', b, σ', q, h1, h2, h3, h4.weak hs⟩
theorem po.tb {sd sd' : Int} {x : Option (Except Nat α × ch_W)} {y : Option (Int32 × ch_S)} {Q : α → ch_W → Int32 → ch_S → Prop} {Q' : β → ch_W → Int32 → ch_S → Prop} {k : α → ch_W → Option (Except Nat β × ch_W)} {k2 : Int32 × ch_S → Option (Int32 × ch_S)} (h : po P n C1 C2 sd w σ fr x y Q)
    (ok : ∀ a w1 b σ1, Q a w1 b σ1 → po P n C1 C2 sd' w σ fr (k a w1) (k2 (b, σ1)) Q') (er : ∀ b σ1 q, pd n sd σ fr σ1 q → ∃ p, k2 (b, σ1) = some p ∧ pd n sd' σ fr p.2 q) : po P n C1 C2 sd' w σ fr (ch_tb x (fun a w => (Except.error a, w)) k) (y.bind k2) Q' := by
  rcases h with ⟨a, w', b, σ', h1, h2, h3⟩ | ⟨e, w', b, σ', q, h1, h2, h3, h4⟩
  · rw [tb_ok h1, h2]
    exact ok a w' b σ' h3
  · obtain ⟨p, p1, p2⟩ := er b σ' q h4
    rw [tb_er h1, h2]
    exact Or.inr ⟨e, w', p.1, p.2, q, rfl, p1, h3, p2⟩
theorem po.tb2 {sd sd' : Int} {x : Option (Except Nat α × ch_W)} {y : Option (Int32 × ch_S)} {Q : α → ch_W → Int32 → ch_S → Prop} {Q' : β → ch_W → Int32 → ch_S → Prop} {k : α → ch_W → Option (Except Nat β × ch_W)} {k2 : Int32 × ch_S → Option (Int32 × ch_S)} (h : po P n C1 C2 sd w1 σ1 fr1 x y Q) (hp : pf g r L P w w1)
    (ok : ∀ a w2 b σ2, Q a w2 b σ2 → po P n C1 C2 sd' w σ fr (k a w2) (k2 (b, σ2)) Q') (er : ∀ b σ2 q, pd n sd σ1 fr1 σ2 q → ∃ p, k2 (b, σ2) = some p ∧ pd n sd' σ fr p.2 q) : po P n C1 C2 sd' w σ fr (ch_tb x (fun a w => (Except.error a, w)) k) (y.bind k2) Q' := by
  rcases h with ⟨a, w', b, σ', h1, h2, h3⟩ | ⟨e, w', b, σ', q, h1, h2, h3, h4⟩
  · rw [tb_ok h1, h2]
    exact ok a w' b σ' h3
  · obtain ⟨p, p1, p2⟩ := er b σ' q h4
    rw [tb_er h1, h2]
    exact Or.inr ⟨e, w', p.1, p.2, q, rfl, p1, h3.base hp, p2⟩
theorem po.last {sd sd' : Int} {x : Option (Except Nat α × ch_W)} {y : Option (Int32 × ch_S)} {Q : α → ch_W → Int32 → ch_S → Prop} {Q' : β → ch_W → Int32 → ch_S → Prop} {k : α → ch_W → Option (Except Nat β × ch_W)} (h : po P n C1 C2 sd w1 σ1 fr1 x y Q) (hp : pr g P r L u s w σ fr w1 σ1 fr1) (hs : sd' ≤ sd + s)
    (ok : ∀ a w2 b σ2, Q a w2 b σ2 → ∃ v w3, k a w2 = some (.ok v, w3) ∧ Q' v w3 b σ2) : po P n C1 C2 sd' w σ fr (ch_tb x (fun a w => (Except.error a, w)) k) y Q' := by
  rcases h with ⟨a, w', b, σ', h1, h2, h3⟩ | ⟨e, w', b, σ', q, h1, h2, h3, h4⟩
  · obtain ⟨v, w3, k1, k2⟩ := ok a w' b σ' h3
    rw [tb_ok h1]
    exact Or.inl ⟨v, w3, b, σ', k1, h2, k2⟩
  · rw [tb_er h1]
    exact Or.inr ⟨e, w', b, σ', q, rfl, h2, h3.base hp.1, (h4.base hp.2.1 hp.2.2).weak hs⟩
theorem tb_j {γ : Type} {x : Option (Except Nat α × ch_W)} {J : α → ch_W → Option (γ × ch_W)} {K : γ → ch_W → Option (Except Nat β × ch_W)} : ch_tb x (fun a w => (Except.error a, w)) (fun v w => (J v w).bind fun p => K p.1 p.2) = ch_tb (ch_tb x (fun a w => (Except.error a, w)) (fun v w => (J v w).bind fun p => some (Except.ok p.1, p.2))) (fun a w => (Except.error a, w)) K := by
  unfold ch_tb
  cases x with
  | none => rfl
  | some p =>
    obtain ⟨a, w⟩ := p
    cases a with
    | error e => rfl
    | ok v =>
      show (J v w).bind _ = ((J v w).bind _).bind _
      cases J v w <;> rfl
end PO
section PJ
variable {g : State} {P r L S n C1 C2 : Nat} {f : Nat → Nat} {w : ch_W} {σ : ch_S} {tc fr tt op om ps : Nat}
/-- goes on to some word -/
def pg (g : State) (P r L S n : Nat) (f : Nat → Nat) (C1 C2 : Nat) (u s : Int) (op om : Nat) (w : ch_W) (σ : ch_S) (fr : Nat) (w' : ch_W) (σ' : ch_S) : Prop := ∃ tc' fr' tt', pj g P r L S n f C1 C2 w' σ' tc' fr' tt' op om fr' ∧ pr g P r L u s w σ fr w' σ' fr' ∧ fr < fr'
/-- goes on, and no node, no statement is new -/
def pq (g : State) (P r L S n : Nat) (f : Nat → Nat) (C1 C2 : Nat) (u s : Int) (op om : Nat) (w : ch_W) (σ : ch_S) (fr : Nat) (w' : ch_W) (σ' : ch_S) : Prop := pg g P r L S n f C1 C2 u s op om w σ fr w' σ' ∧ md_fr (fX3_deep :: md_nk) md_na σ σ'
/-- a word is passed -/
theorem po_next (h : pj g P r L S n f C1 C2 w σ tc fr tt op om ps) (h0 : tc ≠ 0) {v : Int32} (hpf : fr ≤ ps) (hps : ps ≤ tt) : po P n C1 C2 1 w σ fr (c_X4_next g r w) ((m_X3_next σ).bind fun p => some (v, p)) (fun _ w' b σ' => b = v ∧ pq g P r L S n f C1 C2 4 1 op om w σ fr w' σ') := by
  have hlt := h.1.2.2.2.2.2.2.1.2.2.2.lt h0
  rcases pj_next h hps hpf h0 with ⟨w', σ', tc', fr', tt', a1, a2, a3, a4, a5, a6, a7⟩ | ⟨e, w', σ', q, a1, a2, a3, a4, a5⟩
  · exact Or.inl ⟨(), w', v, σ', a1, by rw [a2]; rfl, rfl, ⟨tc', fr', tt', a3, a5, by omega⟩, a7.mono (by decide) (by decide)⟩
  · exact Or.inr ⟨e, w', v, σ', q, a1, by rw [a2]; rfl, a3, a4⟩
theorem po_must (h : pj g P r L S n f C1 C2 w σ tc fr tt op om ps) (hps : ps ≤ tt) {v : Int32} {Q : Unit → ch_W → Int32 → ch_S → Prop} : po P n C1 C2 0 w σ fr (c_X4_must g r 0 w) ((m_X3_fails (σ.1 fX3_wordFrom) σ).bind fun p => some (v, p.2)) Q := by
  obtain ⟨w', a1, a2⟩ := pj_must h hps
  exact Or.inr ⟨ch_nx w, w', v, dz σ fr, fr, a1, by rw [ms_fails h.2.1.2.2.1 h.2.1.2.1.1]; rfl, a2, dz_pd h.2.1 h.1.2.2.2.2.2.2.1.2.2.2⟩
/-- PASSES, WANT -/
theorem lc_want {a : Option Nat} (hr : ch_tg w r = 5) {c : Nat} (hi : c_X4_isThe g r a w = some (if tc = c then 1 else 0)) : c_X4_want g r a w = if tc = c then c_X4_next g r w else ch_tb (c_X4_must g r 0 w) (fun a w => (Except.error a, w)) fun _ w6 => (ch_rc w6 (some r) 5).bind fun _ => c_X4_next g r w6 := by
  unfold c_X4_want
  rw [d_rc hr, hi, Option.bind_some, d_rc hr]
  simp only [tb_id]
  by_cases h : tc = c
  · rw [if_pos h, if_pos h, lc_must1]
    show (ch_rc w (some r) 5).bind _ = _
    rw [d_rc hr]
  · rw [if_neg h, if_neg h]
theorem ms_passes {v : Int32} (hw : σ.1 fX3_wrong = -1) : m_X3_passes v σ = if v = 0 then ((m_X3_fails (σ.1 fX3_wordFrom) σ).bind fun p => some (0, p.2)) else ((m_X3_next σ).bind fun p => some (1, p)) := by
  unfold m_X3_passes
  rw [hw, if_pos bn_m1]
  rfl
theorem po_want (h : pj g P r L S n f C1 C2 w σ tc fr tt op om fr) {a : Option Nat} {c : Nat} (hc : c ≠ 0) (hi : c_X4_isThe g r a w = some (if tc = c then 1 else 0)) : po P n C1 C2 0 w σ fr (c_X4_want g r a w) (m_X3_passes (if tc = c then 1 else 0) σ) (fun _ w' b σ' => b = 1 ∧ tc = c ∧ pq g P r L S n f C1 C2 4 1 op om w σ fr w' σ') := by
  rw [lc_want h.1.2.2.2.2.2.2.1.1.1 hi, ms_passes h.2.1.2.2.1]
  by_cases hq : tc = c
  · rw [if_pos hq, if_pos hq, if_neg (by decide)]
    exact (po_next h (by omega) (Nat.le_refl _) h.1.2.2.2.2.2.2.1.2.2.2.1).mono (by decide) (fun _ _ _ _ q => ⟨q.1, hq, q.2⟩)
  · rw [if_neg hq, if_neg hq, if_pos rfl]
    obtain ⟨w', a1, a2⟩ := pj_must h h.1.2.2.2.2.2.2.1.2.2.2.1
    rw [tb_er a1, ms_fails h.2.1.2.2.1 h.2.1.2.1.1]
    exact Or.inr ⟨ch_nx w, w', 0, dz σ fr, fr, rfl, rfl, a2, dz_pd h.2.1 h.1.2.2.2.2.2.2.1.2.2.2⟩
end PJ
