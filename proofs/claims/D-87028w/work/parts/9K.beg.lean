/-! LEVEL B2: a statement begins -/
set_option maxRecDepth 100000
def md_beg (σ : ch_S) (s : Nat) (kd : Int32) : ch_S := md_si (md_sa (md_sa (md_sa (md_sa (md_sa (md_sa (md_sa (md_sa (md_sa σ fX3_statementIs s kd) fX3_place s (σ.1 fX3_wordFrom)) fX3_nodesFrom s (σ.1 fX3_nodes)) fX3_value s (-1)) fX3_target s (-1)) fX3_toldName s (-1)) fX3_inner s (-1)) fX3_other s (-1)) fX3_nextOf s (-1)) fX3_statements (Int32.ofNat (s + 1))
def pks : List Nat := pk ++ [fX3_statements, fX3_blockEnd]
def pas : List Nat := pa ++ psa
/-- what of the model's rows stays when statements are read -/
def mfs (σ σ' : ch_S) : Prop := md_fr pks pas σ σ' ∧ nn σ fX3_nodes ≤ nn σ' fX3_nodes ∧ nn σ fX3_listed ≤ nn σ' fX3_listed ∧ nn σ fX3_statements ≤ nn σ' fX3_statements ∧ σ'.1 fX3_held = σ.1 fX3_held ∧
  (∀ a ∈ pna, ∀ k : Nat, k < nn σ fX3_nodes → σ'.2 a k = σ.2 a k) ∧ (∀ k : Nat, k < nn σ fX3_listed → σ'.2 fX3_list k = σ.2 fX3_list k) ∧ (∀ k : Nat, k < nn σ fX3_held → σ'.2 fX3_hold k = σ.2 fX3_hold k) ∧ (∀ a ∈ psa, ∀ k : Nat, k < nn σ fX3_statements → σ'.2 a k = σ.2 a k) ∧ ∀ (j : Nat) (t : List Nat), mn σ j t → mn σ' j t
theorem mf.s {σ σ' : ch_S} (h : mf σ σ') : mfs σ σ' := ⟨h.1.mono (by decide) (by decide), h.2⟩
theorem mfs.mg {σ σ' : ch_S} (h : mfs σ σ') : mg σ σ' := ⟨h.2.1, h.2.2.1, h.2.2.2.2.2.1, h.2.2.2.2.2.2.1, h.2.2.2.2.2.2.2.2.2⟩
theorem mfs.trans {σ σ1 σ2 : ch_S} (h : mfs σ σ1) (h2 : mfs σ1 σ2) : mfs σ σ2 := by
  obtain ⟨a1, a2, a3, a4, a5, a6, a7, a8, a9, a10⟩ := h
  obtain ⟨b1, b2, b3, b4, b5, b6, b7, b8, b9, b10⟩ := h2
  have hh : nn σ1 fX3_held = nn σ fX3_held := by unfold nn; rw [a5]
  exact ⟨a1.trans b1, by omega, by omega, by omega, b5.trans a5, fun a ha k hk => (b6 a ha k (by omega)).trans (a6 a ha k hk), fun k hk => (b7 k (by omega)).trans (a7 k hk), fun k hk => (b8 k (by omega)).trans (a8 k hk), fun a ha k hk => (b9 a ha k (by omega)).trans (a9 a ha k hk), fun j t q => b10 j t (a10 j t q)⟩
/-- room when statements are read: t of the statements' rows -/
def bds (L : Nat) (u s t : Int) (w : ch_W) (σ : ch_S) (fr : Nat) (w' : ch_W) (σ' : ch_S) (fr' : Nat) : Prop := fr ≤ fr' ∧ (ch_cs w' : Int) + 32 * u ≤ ch_cs w + 128 * ((fr' : Int) - fr) ∧ (ch_sl w' : Int) + 4 * cpN w L + 256 * u ≤ ch_sl w + 1024 * ((fr' : Int) - fr) + 4 * cpN w' L ∧ (nn σ' fX3_nodes : Int) + s ≤ nn σ fX3_nodes + ((fr' : Int) - fr) ∧ (nn σ' fX3_listed : Int) + s ≤ nn σ fX3_listed + ((fr' : Int) - fr) ∧ (nn σ' fX3_statements : Int) + t ≤ nn σ fX3_statements + ((fr' : Int) - fr)
def prs (g : State) (P r L : Nat) (u s t : Int) (w : ch_W) (σ : ch_S) (fr : Nat) (w' : ch_W) (σ' : ch_S) (fr' : Nat) : Prop := pf g r L P w w' ∧ mfs σ σ' ∧ bds L u s t w σ fr w' σ' fr'
theorem bds.trans {L : Nat} {u s t u2 s2 t2 : Int} {w w1 w2 : ch_W} {σ σ1 σ2 : ch_S} {a b c : Nat} (h : bds L u s t w σ a w1 σ1 b) (h2 : bds L u2 s2 t2 w1 σ1 b w2 σ2 c) : bds L (u + u2) (s + s2) (t + t2) w σ a w2 σ2 c := by
  unfold bds at *
  omega
theorem prs.trans {g : State} {P r L : Nat} {u s t u2 s2 t2 : Int} {w w1 w2 : ch_W} {σ σ1 σ2 : ch_S} {a b c : Nat} (h : prs g P r L u s t w σ a w1 σ1 b) (h2 : prs g P r L u2 s2 t2 w1 σ1 b w2 σ2 c) : prs g P r L (u + u2) (s + s2) (t + t2) w σ a w2 σ2 c := ⟨h.1.trans h2.1, h.2.1.trans h2.2.1, h.2.2.trans h2.2.2⟩
theorem prs.weak {g : State} {P r L : Nat} {u s t u' s' t' : Int} {w w1 : ch_W} {σ σ1 : ch_S} {a b : Nat} (h : prs g P r L u s t w σ a w1 σ1 b) (hu : u' ≤ u) (hs : s' ≤ s) (ht : t' ≤ t) : prs g P r L u' s' t' w σ a w1 σ1 b := by
  refine ⟨h.1, h.2.1, ?_⟩
  have := h.2.2
  unfold bds at *
  omega
/-- what reads no statement leaves their rows as they were -/
theorem pr.s {g : State} {P r L : Nat} {u s : Int} {w w1 : ch_W} {σ σ1 : ch_S} {a b : Nat} (h : pr g P r L u s w σ a w1 σ1 b) (hab : a < b) : prs g P r L u s 1 w σ a w1 σ1 b := by
  have e : nn σ1 fX3_statements = nn σ fX3_statements := nn_fr h.2.1.1 (by decide)
  refine ⟨h.1, h.2.1.s, ?_⟩
  have := h.2.2
  unfold bd at this
  unfold bds
  rw [e]
  omega
theorem pr.s0 {g : State} {P r L : Nat} {u s : Int} {w w1 : ch_W} {σ σ1 : ch_S} {a b : Nat} (h : pr g P r L u s w σ a w1 σ1 b) : prs g P r L u s 0 w σ a w1 σ1 b := by
  have e : nn σ1 fX3_statements = nn σ fX3_statements := nn_fr h.2.1.1 (by decide)
  refine ⟨h.1, h.2.1.s, ?_⟩
  have := h.2.2
  unfold bd at this
  unfold bds
  rw [e]
  omega
theorem pjA.steps {L n C1 C2 : Nat} {u s t : Int} {w w' : ch_W} {σ σ' : ch_S} {fr fr' : Nat} (h : pjA L n C1 C2 w σ fr) (hb : bds L u s t w σ fr w' σ' fr') (hu : 0 ≤ u) (hs : 0 ≤ s) (ht : 0 ≤ t) (hn : fr' ≤ n) (hh : σ'.1 fX3_held = σ.1 fX3_held) : pjA L n C1 C2 w' σ' fr' := by
  have e : nn σ' fX3_held = nn σ fX3_held := by unfold nn; rw [hh]
  unfold bds at hb
  unfold pjA at *
  omega
/-- the model is stuck, statements being read -/
def pds (n : Nat) (sd td : Int) (σ : ch_S) (fr : Nat) (σ' : ch_S) (q : Nat) : Prop := md_fr pks pas σ σ' ∧ dk σ' q ∧ fr ≤ q ∧ q ≤ n ∧ pjN σ' ∧ σ'.1 fX3_held = σ.1 fX3_held ∧ (nn σ' fX3_nodes : Int) + sd ≤ nn σ fX3_nodes + ((q : Int) - fr) + 1 ∧ (nn σ' fX3_listed : Int) + sd ≤ nn σ fX3_listed + ((q : Int) - fr) ∧ (nn σ' fX3_statements : Int) + td ≤ nn σ fX3_statements + ((q : Int) - fr) + (if σ'.1 fX3_wrong = -1 then 1 else 2)
theorem pd.s {n : Nat} {sd : Int} {σ σ' : ch_S} {fr q : Nat} (h : pd n sd σ fr σ' q) : pds n sd 1 σ fr σ' q := by
  obtain ⟨h1, h2, h3, h4, h5, h6, h7, h8, h9⟩ := h
  have e : nn σ' fX3_statements = nn σ fX3_statements := nn_fr h1 (by decide)
  refine ⟨h1.mono (by decide) (by decide), h2, h3, h4, h5, h6, ?_, h8, ?_⟩
  · split at h7 <;> omega
  · rw [e]; split <;> omega
theorem pds.base {n L : Nat} {sd td u s t : Int} {w w1 : ch_W} {σ σ1 σ' : ch_S} {fr fr1 q : Nat} (h : pds n sd td σ1 fr1 σ' q) (hm : mfs σ σ1) (hb : bds L u s t w σ fr w1 σ1 fr1) : pds n (sd + s) (td + t) σ fr σ' q := by
  obtain ⟨h1, h2, h3, h4, h5, h6, h7, h8, h9⟩ := h
  obtain ⟨b1, b2, b3, b4, b5, b6⟩ := hb
  refine ⟨hm.1.trans h1, h2, by omega, h4, h5, h6.trans hm.2.2.2.2.1, by omega, by omega, ?_⟩
  generalize (if σ'.1 fX3_wrong = -1 then (1 : Int) else 2) = z at *
  omega
theorem pds.weak {n : Nat} {sd td sd' td' : Int} {σ σ' : ch_S} {fr q : Nat} (h : pds n sd td σ fr σ' q) (hs : sd' ≤ sd) (ht : td' ≤ td) : pds n sd' td' σ fr σ' q := by
  obtain ⟨h1, h2, h3, h4, h5, h6, h7, h8, h9⟩ := h
  refine ⟨h1, h2, h3, h4, h5, h6, by omega, by omega, ?_⟩
  generalize (if σ'.1 fX3_wrong = -1 then (1 : Int) else 2) = z at *
  omega
theorem pds.dr {n : Nat} {sd td : Int} {σ0 σ σ' : ch_S} {fr q : Nat} (h : pds n sd td σ0 fr σ q) (hd : dr q σ σ') (hq : q < 2 ^ 31) : pds n sd td σ0 fr σ' q := by
  obtain ⟨h1, h2, h3, h4, h5, h6, h7, h8, h9⟩ := h
  refine ⟨h1.trans (hd.1.mono (by decide) (by decide)), hd.dk, h3, h4, pjN_fr h5 hd.1 (by decide) (by decide) (by decide) (by decide), (hd.1.1 _ (by decide)).trans h6, by rw [nn_fr hd.1 (by decide)]; exact h7, by rw [nn_fr hd.1 (by decide)]; exact h8, ?_⟩
  rw [nn_fr hd.1 (by decide), hd.2, if_neg (bn_m1n hq)]
  split at h9 <;> omega
/-- both go on, or both are stuck: statements -/
def pos {α : Type} (P n C1 C2 : Nat) (sd td : Int) (w : ch_W) (σ : ch_S) (fr : Nat) (x : Option (Except Nat α × ch_W)) (y : Option (Int32 × ch_S)) (Q : α → ch_W → Int32 → ch_S → Prop) : Prop :=
  (∃ a w' b σ', x = some (.ok a, w') ∧ y = some (b, σ') ∧ Q a w' b σ') ∨ (∃ e w' b σ' q, x = some (.error e, w') ∧ y = some (b, σ') ∧ pe P C1 C2 w w' e q ∧ pds n sd td σ fr σ' q)
theorem po.s {α : Type} {P n C1 C2 : Nat} {sd : Int} {w : ch_W} {σ : ch_S} {fr : Nat} {x : Option (Except Nat α × ch_W)} {y : Option (Int32 × ch_S)} {Q : α → ch_W → Int32 → ch_S → Prop} (h : po P n C1 C2 sd w σ fr x y Q) : pos P n C1 C2 sd 1 w σ fr x y Q := by
  rcases h with h | ⟨e, w', b, σ', q, h1, h2, h3, h4⟩
  · exact Or.inl h
  · exact Or.inr ⟨e, w', b, σ', q, h1, h2, h3, h4.s⟩
theorem pos.tb2 {α β : Type} {g : State} {P r L n C1 C2 : Nat} {sd td sd' td' : Int} {w w1 : ch_W} {σ σ1 : ch_S} {fr fr1 : Nat} {x : Option (Except Nat α × ch_W)} {y : Option (Int32 × ch_S)} {Q : α → ch_W → Int32 → ch_S → Prop} {Q' : β → ch_W → Int32 → ch_S → Prop} {k : α → ch_W → Option (Except Nat β × ch_W)} {k2 : Int32 × ch_S → Option (Int32 × ch_S)} (h : pos P n C1 C2 sd td w1 σ1 fr1 x y Q) (hp : pf g r L P w w1)
    (ok : ∀ a w2 b σ2, Q a w2 b σ2 → pos P n C1 C2 sd' td' w σ fr (k a w2) (k2 (b, σ2)) Q') (er : ∀ b σ2 q, pds n sd td σ1 fr1 σ2 q → ∃ p, k2 (b, σ2) = some p ∧ pds n sd' td' σ fr p.2 q) : pos P n C1 C2 sd' td' w σ fr (ch_tb x (fun a w => (Except.error a, w)) k) (y.bind k2) Q' := by
  rcases h with ⟨a, w', b, σ', h1, h2, h3⟩ | ⟨e, w', b, σ', q, h1, h2, h3, h4⟩
  · rw [tb_ok h1, h2]
    exact ok a w' b σ' h3
  · obtain ⟨p, p1, p2⟩ := er b σ' q h4
    rw [tb_er h1, h2]
    exact Or.inr ⟨e, w', p.1, p.2, q, rfl, p1, h3.base hp, p2⟩
theorem pos.last {α β : Type} {g : State} {P r L n C1 C2 : Nat} {sd td sd' td' u s t : Int} {w w1 : ch_W} {σ σ1 : ch_S} {fr fr1 : Nat} {x : Option (Except Nat α × ch_W)} {y : Option (Int32 × ch_S)} {Q : α → ch_W → Int32 → ch_S → Prop} {Q' : β → ch_W → Int32 → ch_S → Prop} {k : α → ch_W → Option (Except Nat β × ch_W)} (h : pos P n C1 C2 sd td w1 σ1 fr1 x y Q) (hp : prs g P r L u s t w σ fr w1 σ1 fr1) (hs : sd' ≤ sd + s) (ht : td' ≤ td + t)
    (ok : ∀ a w2 b σ2, Q a w2 b σ2 → ∃ v w3, k a w2 = some (.ok v, w3) ∧ Q' v w3 b σ2) : pos P n C1 C2 sd' td' w σ fr (ch_tb x (fun a w => (Except.error a, w)) k) y Q' := by
  rcases h with ⟨a, w', b, σ', h1, h2, h3⟩ | ⟨e, w', b, σ', q, h1, h2, h3, h4⟩
  · obtain ⟨v, w3, k1, k2⟩ := ok a w' b σ' h3
    rw [tb_ok h1]
    exact Or.inl ⟨v, w3, b, σ', k1, h2, k2⟩
  · rw [tb_er h1]
    exact Or.inr ⟨e, w', b, σ', q, rfl, h2, h3.base hp.1, (h4.base hp.2.1 hp.2.2).weak hs ht⟩
section BEG
variable {σ : ch_S} {s : Nat} {kd : Int32}
theorem ms_begun (hs : σ.1 fX3_statements = Int32.ofNat s) (h : s < 1599) : m_X3_begun kd σ = some (Int32.ofNat s, md_beg σ s kd) := by
  have L : ∀ a : Nat, a ∈ psa → ch_ml a = 1600 := by decide
  have e1 : Int32.ofNat s + 1 = Int32.ofNat (s + 1) := bn_add (b := 1)
  unfold m_X3_begun
  rw [hs, m_mw (by rw [L _ (by decide)]; omega) (by rw [L _ (by decide)]; decide), m_mw (by rw [L _ (by decide)]; omega) (by rw [L _ (by decide)]; decide), m_mw (by rw [L _ (by decide)]; omega) (by rw [L _ (by decide)]; decide), m_mw (by rw [L _ (by decide)]; omega) (by rw [L _ (by decide)]; decide), m_mw (by rw [L _ (by decide)]; omega) (by rw [L _ (by decide)]; decide), m_mw (by rw [L _ (by decide)]; omega) (by rw [L _ (by decide)]; decide), m_mw (by rw [L _ (by decide)]; omega) (by rw [L _ (by decide)]; decide), m_mw (by rw [L _ (by decide)]; omega) (by rw [L _ (by decide)]; decide), m_mw (by rw [L _ (by decide)]; omega) (by rw [L _ (by decide)]; decide), m_mI]
  simp only [md_gi]
  rw [hs, e1]
  rfl
theorem md_beg_fr : md_fr [fX3_statements] [fX3_statementIs, fX3_place, fX3_nodesFrom, fX3_value, fX3_target, fX3_toldName, fX3_inner, fX3_other, fX3_nextOf] σ (md_beg σ s kd) := by
  unfold md_beg
  exact (((((((((md_fr.refl.sa (by decide)).sa (by decide)).sa (by decide)).sa (by decide)).sa (by decide)).sa (by decide)).sa (by decide)).sa (by decide)).sa (by decide)).si (by decide)
theorem md_beg_lt {j : Nat} (hj : j ≠ s) : ∀ x : Nat, (md_beg σ s kd).2 x j = σ.2 x j := by
  intro x
  unfold md_beg
  simp only [md_ia, md_ga]
  rw [if_neg (fun q => hj q.2), if_neg (fun q => hj q.2), if_neg (fun q => hj q.2), if_neg (fun q => hj q.2), if_neg (fun q => hj q.2), if_neg (fun q => hj q.2), if_neg (fun q => hj q.2), if_neg (fun q => hj q.2), if_neg (fun q => hj q.2)]
theorem md_beg_at : (md_beg σ s kd).2 fX3_statementIs s = kd ∧ (md_beg σ s kd).2 fX3_place s = σ.1 fX3_wordFrom ∧ (md_beg σ s kd).2 fX3_nodesFrom s = σ.1 fX3_nodes ∧ (md_beg σ s kd).2 fX3_value s = -1 ∧ (md_beg σ s kd).2 fX3_target s = -1 ∧ (md_beg σ s kd).2 fX3_toldName s = -1 ∧ (md_beg σ s kd).2 fX3_inner s = -1 ∧ (md_beg σ s kd).2 fX3_other s = -1 ∧ (md_beg σ s kd).2 fX3_nextOf s = -1 := by
  have N : ∀ (σ : ch_S) (a b i : Nat) (v : Int32), a ≠ b → (md_sa σ b i v).2 a i = σ.2 a i := fun σ a b i v h => by rw [md_ga, if_neg (fun q => h q.1)]
  have Y : ∀ (σ : ch_S) (a i : Nat) (v : Int32), (md_sa σ a i v).2 a i = v := fun σ a i v => by rw [md_ga, if_pos ⟨rfl, rfl⟩]
  unfold md_beg
  rw [md_ia]
  refine ⟨?_, ?_, ?_, ?_, ?_, ?_, ?_, ?_, ?_⟩
  · rw [N _ _ _ _ _ (by decide), N _ _ _ _ _ (by decide), N _ _ _ _ _ (by decide), N _ _ _ _ _ (by decide), N _ _ _ _ _ (by decide), N _ _ _ _ _ (by decide), N _ _ _ _ _ (by decide), N _ _ _ _ _ (by decide), Y]
  · rw [N _ _ _ _ _ (by decide), N _ _ _ _ _ (by decide), N _ _ _ _ _ (by decide), N _ _ _ _ _ (by decide), N _ _ _ _ _ (by decide), N _ _ _ _ _ (by decide), N _ _ _ _ _ (by decide), Y]
  · rw [N _ _ _ _ _ (by decide), N _ _ _ _ _ (by decide), N _ _ _ _ _ (by decide), N _ _ _ _ _ (by decide), N _ _ _ _ _ (by decide), N _ _ _ _ _ (by decide), Y]
  · rw [N _ _ _ _ _ (by decide), N _ _ _ _ _ (by decide), N _ _ _ _ _ (by decide), N _ _ _ _ _ (by decide), N _ _ _ _ _ (by decide), Y]
  · rw [N _ _ _ _ _ (by decide), N _ _ _ _ _ (by decide), N _ _ _ _ _ (by decide), N _ _ _ _ _ (by decide), Y]
  · rw [N _ _ _ _ _ (by decide), N _ _ _ _ _ (by decide), N _ _ _ _ _ (by decide), Y]
  · rw [N _ _ _ _ _ (by decide), N _ _ _ _ _ (by decide), Y]
  · rw [N _ _ _ _ _ (by decide), Y]
  · rw [Y]
theorem nn_beg (h : s < 1599) : nn (md_beg σ s kd) fX3_statements = s + 1 := by
  unfold nn md_beg
  rw [md_gs, lw_nat (by omega)]
theorem mf_beg (hs : nn σ fX3_statements = s) (h : s < 1599) : mfs σ (md_beg σ s kd) := by
  have hf := md_beg_fr (σ := σ) (s := s) (kd := kd)
  refine ⟨hf.mono (by decide) (by decide), by rw [nn_fr hf (by decide)]; exact Nat.le_refl _, by rw [nn_fr hf (by decide)]; exact Nat.le_refl _, by rw [nn_beg h]; omega, hf.1 _ (by decide), fun x hx j _ => ?_, fun j _ => by rw [hf.2 _ (by decide)], fun j _ => by rw [hf.2 _ (by decide)], fun x _ j hj => md_beg_lt (by omega) x, fun j t q => mn_fr q hf (by decide) (by decide) (by decide) (by decide)⟩
  have hh : ∀ y ∈ pna, y ∉ [fX3_statementIs, fX3_place, fX3_nodesFrom, fX3_value, fX3_target, fX3_toldName, fX3_inner, fX3_other, fX3_nextOf] := by decide
  rw [hf.2 _ (hh x hx)]
end BEG
section SA
variable {g : State} {P r L S n C1 C2 : Nat} {f : Nat → Nat} {w w' w0 : ch_W} {σ σ0 : ch_S} {tc fr tt op om ps s fr0 arr : Nat} {v : Int32} {u z : Int}
theorem md_sa_fr (h : arr ∈ psa) : md_fr [] psa σ (md_sa σ arr s v) := md_fr.refl.sa h
theorem mf_sa (h : mfs σ0 σ) (ha : arr ∈ psa) (hs : nn σ0 fX3_statements ≤ s) : mfs σ0 (md_sa σ arr s v) := by
  have hf := md_sa_fr (σ := σ) (s := s) (v := v) ha
  obtain ⟨a1, a2, a3, a4, a5, a6, a7, a8, a9, a10⟩ := h
  refine ⟨a1.trans (hf.mono (by decide) (by decide)), a2, a3, a4, a5, fun x hx j hj => ?_, fun j hj => ?_, fun j hj => ?_, fun x hx j hj => ?_, fun j t q => mn_fr (a10 j t q) hf (by decide) (by decide) (by decide) (by decide)⟩
  · have hh : ∀ y ∈ pna, y ∉ psa := by decide
    rw [hf.2 _ (hh x hx)]; exact a6 x hx j hj
  · rw [hf.2 _ (by decide)]; exact a7 j hj
  · rw [hf.2 _ (by decide)]; exact a8 j hj
  · rw [md_ga, if_neg (fun q => by omega)]; exact a9 x hx j hj
theorem mg_sa (ha : arr ∈ psa) : mg σ (md_sa σ arr s v) := by
  have hf := md_sa_fr (σ := σ) (s := s) (v := v) ha
  refine ⟨Nat.le_refl _, Nat.le_refl _, fun x hx j _ => ?_, fun j _ => by rw [hf.2 _ (by decide)], fun j t q => mn_fr q hf (by decide) (by decide) (by decide) (by decide)⟩
  have hh : ∀ y ∈ pna, y ∉ psa := by decide
  rw [hf.2 _ (hh x hx)]
theorem pjM_sa (h : pjM n f σ tc fr tt om) (ha : arr ∈ psa) : pjM n f (md_sa σ arr s v) tc fr tt om := by
  have hf := md_sa_fr (σ := σ) (s := s) (v := v) ha
  obtain ⟨m1, m2, m3, m4, m5, ⟨kM, TM, m6, m7, m8⟩, m9⟩ := h
  exact ⟨m1.fr hf (by decide) (by decide), m2, m3, m4, m5, ⟨kM, TM, m6.fr hf (by decide) (by decide) (by decide) (by decide), m7, m8⟩, m9⟩
theorem pj_sa (h : pj g P r L S n f C1 C2 w σ tc fr tt op om ps) (ha : arr ∈ psa) : pj g P r L S n f C1 C2 w (md_sa σ arr s v) tc fr tt op om ps := ⟨h.1, pjM_sa h.2.1 ha, h.2.2⟩
theorem pr_sa {t : Int} (h : prs g P r L u z t w0 σ0 fr0 w σ fr) (ha : arr ∈ psa) (hs : nn σ0 fX3_statements ≤ s) : prs g P r L u z t w0 σ0 fr0 w (md_sa σ arr s v) fr := ⟨h.1, mf_sa h.2.1 ha hs, h.2.2⟩
theorem pd_sa {sd td : Int} {q : Nat} (h : pds n sd td σ0 fr0 σ q) (ha : arr ∈ psa) : pds n sd td σ0 fr0 (md_sa σ arr s v) q := by
  have hf := md_sa_fr (σ := σ) (s := s) (v := v) ha
  obtain ⟨h1, h2, h3, h4, h5, h6, h7, h8, h9⟩ := h
  exact ⟨h1.trans (hf.mono (by decide) (by decide)), h2, h3, h4, h5, h6, h7, h8, h9⟩
theorem ms_w {β : Type} {F : ch_S → Option β} (ha : arr ∈ psa) (hs : s < 1600) : (ch_mw σ arr (Int32.ofNat s) v).bind F = F (md_sa σ arr s v) := by
  have Lh : ∀ a : Nat, a ∈ psa → ch_ml a = 1600 := by decide
  exact m_mw (by rw [Lh _ ha]; exact hs) (by rw [Lh _ ha]; decide)
/-- a new statement -/
def sn (w w' : ch_W) (kd pl : Int32) : Prop := (∀ a : Nat, a ≠ ch_nx w → w'.1 a = w.1 a) ∧ w'.2 = (ch_nx w + 1, ch_cs w + 1, ch_sl w + 8) ∧ ch_tg w' (ch_nx w) = 10 ∧ ch_gi w' (ch_nx w) fX9_kind = kd ∧ ch_gi w' (ch_nx w) fX9_place = pl ∧ ch_gr w' (ch_nx w) fX9_place0 = none ∧ ch_gr w' (ch_nx w) fX9_value = none ∧ ch_gr w' (ch_nx w) fX9_first = none ∧ ch_gr w' (ch_nx w) fX9_second = none
theorem lc_stm {β : Type} {kd pl : Int32} {F : ch_W → Option β} (h1 : ch_cs w + 1 ≤ 601024) (h2 : ch_sl w + 8 ≤ 7293034) : ∃ w', ((ch_nO w 10 8).bind fun w1 => (c_X9_init (ch_nx w) kd pl w1).bind F) = F w' ∧ sn w w' kd pl := by
  have t0 : ch_tg (ch_nw w (ch_new 10 8)) (ch_nx w) = 10 := by rw [b_tN, if_pos rfl]; rfl
  rw [d_nO h1 h2]
  unfold c_X9_init
  rw [d_pI t0, d_pI (by rw [b_tI]; exact t0)]
  refine ⟨_, rfl, fun a ha => by rw [b_oI ha, b_oI ha, b_oN ha], rfl, by rw [b_tI, b_tI]; exact t0, ?_, ?_, ?_, ?_, ?_, ?_⟩
  · rw [b_II, if_neg (fun q => absurd q.2 (by decide)), b_II, if_pos ⟨rfl, rfl⟩]
  · rw [b_II, if_pos ⟨rfl, rfl⟩]
  · rw [b_RI, b_RI, b_RN, if_pos rfl]; rfl
  · rw [b_RI, b_RI, b_RN, if_pos rfl]; rfl
  · rw [b_RI, b_RI, b_RN, if_pos rfl]; rfl
  · rw [b_RI, b_RI, b_RN, if_pos rfl]; rfl
/-- a field of a statement of one's own -/
theorem pj_fld10 {a : Nat} (h : pj g P r L S n f C1 C2 w σ tc fr tt op om ps) (ha : ow r L P w a) (hP : P ≤ a) (ht : ch_tg w a = 10) (ho : ∀ x : Nat, x ≠ a → w'.1 x = w.1 x) (h2 : w'.2 = w.2) : pj g P r L S n f C1 C2 w' σ tc fr tt op om ps ∧ (∀ b lo nd : Nat, nn σ fX3_nodes ≤ 1500 → nn σ fX3_listed ≤ 1500 → vt g r L P w σ b lo nd → vt g r L P w' σ b lo nd) ∧ (∀ x : Nat, ow r L P w x → ow r L P w' x) ∧ (∀ (i : Nat) (t : List Nat), cn g w L i t → cn g w' L i t) ∧ ∀ w0 σ0 fr0 u z t, prs g P r L u z t w0 σ0 fr0 w σ fr → ch_nx w0 ≤ a → prs g P r L u z t w0 σ0 fr0 w' σ fr := by
  have hx : ch_nx w' = ch_nx w := by unfold ch_nx; rw [h2]
  have hc : ch_cs w' = ch_cs w := by unfold ch_cs; rw [h2]
  have hs : ch_sl w' = ch_sl w := by unfold ch_sl; rw [h2]
  obtain ⟨c1, c2, c3, c4⟩ := pjC_set (w' := w') h.1 ha hP (by rw [ht]; decide) ho hx
  have hown : a < ch_nx w ∧ a ≠ r ∧ a ≠ L ∧ ch_gr w L fJ5_elementData ≠ some a := by
    rcases ha with q | q
    · omega
    · exact q
  have hcn : ∀ (i : Nat) (t : List Nat), cn g w L i t → cn g w' L i t := by
    intro i t hc
    obtain ⟨A0, k1, cap1, E0, T0, h1, h2, h3⟩ := hc
    exact ⟨A0, k1, cap1, E0, T0, h1.keep (ho _ (fun q => hown.2.2.1 q.symm)) (ho _ (fun q => hown.2.2.2 (by rw [← q]; exact h1.1.2.1))) (fun i hi => ho _ (fun q => by
      have := (h1.2.1 i hi).1
      rw [q, ht] at this
      cases this)), h2, h3⟩
  refine ⟨⟨c1, h.2.1, ?_⟩, fun b lo nd n1 n2 hv => ?_, c3, hcn, fun w0 σ0 fr0 u z t hp hn => ⟨c4 w0 hp.1 hn, hp.2.1, ?_⟩⟩
  · have := h.2.2
    unfold pjA at *
    rw [c2, hc, hs]
    exact this
  · refine vt.keep0 (fun x hx hor => ⟨ho x (fun q => ?_), c3 x hx⟩) hcn mf.refl.mg n1 n2 (nd + 1) b lo nd (by omega) hv
    rw [q] at hor
    rcases hor with ⟨lo', n', q2⟩ | q2
    · rw [vt] at q2
      have := q2.2.2.1
      omega
    · omega
  · have hb := hp.2.2
    unfold bds at *
    rw [c2, hc, hs]
    exact hb
end SA
