/-! LEVEL B2: statements of both sides -/
set_option maxRecDepth 100000
/-- the value of a statement, or none -/
def s_val (g : State) (r L P : Nat) (w : ch_W) (σ : ch_S) (a s lo : Nat) : Prop := (ch_gr w a fX9_value = none ∧ σ.2 fX3_value s = -1) ∨ ∃ b nd, ch_gr w a fX9_value = some b ∧ σ.2 fX3_value s = Int32.ofNat nd ∧ nd < 1500 ∧ vt g r L P w σ b lo nd
/-- a row of statements: the component's at b; the model's from h on, all from lb on -/
def s_row (r L P : Nat) (w : ch_W) (σ : ch_S) (hi b : Nat) (h : Int32) (lb m : Nat) (Z : Nat → Nat) : Prop := ow r L P w b ∧ P ≤ b ∧ ch_tg w b = 28 ∧ ch_ln w b = m ∧ m ≤ 1400 ∧ (m = 0 ∧ h = -1 ∨ 0 < m ∧ h = Int32.ofNat (Z 0)) ∧ ∀ i : Nat, i < m → lb ≤ Z i ∧ Z i < hi ∧ (i + 1 < m → Z i < Z (i + 1)) ∧ σ.2 fX3_nextOf (Z i) = if i + 1 < m then Int32.ofNat (Z (i + 1)) else -1
/-- THE SAME STATEMENT -/
def sth (g : State) (r L P : Nat) (w : ch_W) (σ : ch_S) (hi a s : Nat) : Prop :=
  ow r L P w a ∧ P ≤ a ∧ ch_tg w a = 10 ∧ s < hi ∧ hi ≤ 1500 ∧ ch_gi w a fX9_place = σ.2 fX3_place s ∧ (∃ p, σ.2 fX3_place s = Int32.ofNat p ∧ p ≤ 3000) ∧ ∃ lo, σ.2 fX3_nodesFrom s = Int32.ofNat lo ∧ lo ≤ 1500 ∧
  ((ch_gi w a fX9_kind = 0 ∧ σ.2 fX3_statementIs s = 0 ∧ tyR g w L σ (ch_gi w a fX9_type) (σ.2 fX3_toldType s) ∧ iota g w L σ (ch_gi w a fX9_name) (σ.2 fX3_toldName s) ∧ s_val g r L P w σ a s lo) ∨
   (ch_gi w a fX9_kind = 1 ∧ σ.2 fX3_statementIs s = 8 ∧ ∃ b x c nd, ch_gr w a fX9_place0 = some b ∧ σ.2 fX3_target s = Int32.ofNat x ∧ x < 1500 ∧ (σ.2 fX3_is x = 4 ∨ σ.2 fX3_is x = 6 ∨ σ.2 fX3_is x = 7) ∧ vt g r L P w σ b lo x ∧ ch_gr w a fX9_value = some c ∧ σ.2 fX3_value s = Int32.ofNat nd ∧ nd < 1500 ∧ vt g r L P w σ c (x + 1) nd) ∨
   (ch_gi w a fX9_kind = 2 ∧ σ.2 fX3_statementIs s = 7 ∧ ∃ c nd, ch_gr w a fX9_value = some c ∧ σ.2 fX3_value s = Int32.ofNat nd ∧ nd < 1500 ∧ (σ.2 fX3_is nd = 8 ∨ σ.2 fX3_is nd = 9) ∧ vt g r L P w σ c lo nd) ∨
   (ch_gi w a fX9_kind = 5 ∧ σ.2 fX3_statementIs s = 3 ∧ s_val g r L P w σ a s lo) ∨
   (((ch_gi w a fX9_kind = 6 ∧ σ.2 fX3_statementIs s = 4) ∨ (ch_gi w a fX9_kind = 8 ∧ σ.2 fX3_statementIs s = 6)) ∧ ∃ c nd, ch_gr w a fX9_value = some c ∧ σ.2 fX3_value s = Int32.ofNat nd ∧ nd < 1500 ∧ vt g r L P w σ c lo nd) ∨
   (((ch_gi w a fX9_kind = 3 ∧ σ.2 fX3_statementIs s = 1) ∨ (ch_gi w a fX9_kind = 4 ∧ σ.2 fX3_statementIs s = 2)) ∧ (∃ c nd, ch_gr w a fX9_value = some c ∧ σ.2 fX3_value s = Int32.ofNat nd ∧ nd < 1500 ∧ vt g r L P w σ c lo nd) ∧
     (∃ b m Z, ch_gr w a fX9_first = some b ∧ s_row r L P w σ hi b (σ.2 fX3_inner s) (s + 1) m Z ∧ ∀ (i : Nat) (_ : i < m ∧ s < Z i ∧ Z i < 1600), ∃ a', ch_gr w b i = some a' ∧ a < a' ∧ sth g r L P w σ hi a' (Z i)) ∧
     ((ch_gr w a fX9_second = none ∧ σ.2 fX3_other s = -1 ∧ (ch_gi w a fX9_kind = 3 → σ.2 fX3_target s = 0)) ∨
      (ch_gi w a fX9_kind = 3 ∧ σ.2 fX3_target s = 1 ∧ ∃ b m Z, ch_gr w a fX9_second = some b ∧ s_row r L P w σ hi b (σ.2 fX3_other s) (s + 1) m Z ∧ ∀ (i : Nat) (_ : i < m ∧ s < Z i ∧ Z i < 1600), ∃ a', ch_gr w b i = some a' ∧ a < a' ∧ sth g r L P w σ hi a' (Z i)))) ∨
   (ch_gi w a fX9_kind = 7 ∧ σ.2 fX3_statementIs s = 5 ∧ (∃ y', σ.2 fX3_toldType s = 10 + y' ∧ iota g w L σ (ch_gi w a fX9_type) y') ∧ iota g w L σ (ch_gi w a fX9_name) (σ.2 fX3_toldName s) ∧ σ.2 fX3_value s = -1 ∧
     (∃ b m Z, ch_gr w a fX9_first = some b ∧ s_row r L P w σ hi b (σ.2 fX3_inner s) (s + 1) m Z ∧ ∀ (i : Nat) (_ : i < m ∧ s < Z i ∧ Z i < 1600), ∃ a', ch_gr w b i = some a' ∧ a < a' ∧ sth g r L P w σ hi a' (Z i)) ∧
     (∃ b m Z, ch_gr w a fX9_second = some b ∧ s_row r L P w σ hi b (σ.2 fX3_other s) (s + 1) m Z ∧ ∀ (i : Nat) (_ : i < m ∧ s < Z i ∧ Z i < 1600), ∃ a', ch_gr w b i = some a' ∧ a < a' ∧ sth g r L P w σ hi a' (Z i))))
termination_by 1600 - s
decreasing_by all_goals omega
def st (g : State) (r L P : Nat) (w : ch_W) (σ : ch_S) (a s : Nat) : Prop := sth g r L P w σ (nn σ fX3_statements) a s
section ST
variable {g : State} {r L P : Nat} {w w' : ch_W} {σ σ' : ch_S}
/-- STATEMENTS STAY -/
theorem sth.keep0 {a0 s1 hi hi' : Nat} (hk : ∀ x : Nat, ow r L P w x → (ch_tg w x = 11 ∨ ch_tg w x = 27 ∨ ch_tg w x = 28 ∨ (ch_tg w x = 10 ∧ a0 ≤ x)) → w'.1 x = w.1 x ∧ ow r L P w' x) (hc : ∀ (i : Nat) (t : List Nat), cn g w L i t → cn g w' L i t) (hm : mg σ σ') (hn1 : nn σ' fX3_nodes ≤ 1500) (hl1 : nn σ' fX3_listed ≤ 1500) (hst : hi ≤ hi') (hst1 : hi' ≤ 1500) (hs1 : ∀ arr ∈ psa, arr ≠ fX3_nextOf → ∀ k : Nat, s1 ≤ k → k < hi → σ'.2 arr k = σ.2 arr k) (hs2 : ∀ k : Nat, s1 < k → k < hi → σ'.2 fX3_nextOf k = σ.2 fX3_nextOf k) : ∀ (N a s : Nat), 1600 - s ≤ N → a0 ≤ a → s1 ≤ s → sth g r L P w σ hi a s → sth g r L P w' σ' hi' a s := by
  have kv : ∀ b lo nd : Nat, vt g r L P w σ b lo nd → vt g r L P w' σ' b lo nd := fun b lo nd hv => vt.keep0 (fun x hx hor => hk x hx (by
    rcases hor with ⟨lo', n', q⟩ | q
    · rw [vt] at q
      exact Or.inl q.2.2.1
    · exact Or.inr (Or.inl q))) hc hm hn1 hl1 (nd + 1) b lo nd (by omega) hv
  have vis : ∀ b lo nd : Nat, vt g r L P w σ b lo nd → σ'.2 fX3_is nd = σ.2 fX3_is nd := fun b lo nd hv => by
    rw [vt] at hv
    exact hm.2.2.1 fX3_is (by decide) nd hv.2.2.2.2.1
  intro N
  induction N with
  | zero =>
    intro a s hN _ _ h
    rw [sth] at h
    have := h.2.2.2.1
    have := h.2.2.2.2.1
    omega
  | succ N ih =>
    intro a s hN ha0 hs h
    rw [sth] at h ⊢
    obtain ⟨h1, h2, h3, h4, h5, h6, h7, lo, h8, h9, h10⟩ := h
    obtain ⟨z1, z2⟩ := hk a h1 (Or.inr (Or.inr (Or.inr ⟨h3, ha0⟩)))
    obtain ⟨e1, e2, e3, e4, -⟩ := b_cell z1
    have hrow : ∀ arr : Nat, arr ∈ psa → arr ≠ fX3_nextOf → σ'.2 arr s = σ.2 arr s := fun arr q1 q2 => hs1 arr q1 q2 s hs h4
    have rI := hrow fX3_statementIs (by decide) (by decide)
    have rP := hrow fX3_place (by decide) (by decide)
    have rN := hrow fX3_nodesFrom (by decide) (by decide)
    have rV := hrow fX3_value (by decide) (by decide)
    have rT := hrow fX3_target (by decide) (by decide)
    have rY := hrow fX3_toldType (by decide) (by decide)
    have rM := hrow fX3_toldName (by decide) (by decide)
    have rInn := hrow fX3_inner (by decide) (by decide)
    have rO := hrow fX3_other (by decide) (by decide)
    have hval : s_val g r L P w σ a s lo → s_val g r L P w' σ' a s lo := by
      intro q
      unfold s_val at *
      rw [e4, rV]
      rcases q with q | ⟨b, nd, q1, q2, q3, q4⟩
      · exact Or.inl q
      · exact Or.inr ⟨b, nd, q1, q2, q3, kv b lo nd q4⟩
    have hblk : ∀ (fd : Nat) (hh : Int32), (∃ b m Z, ch_gr w a fd = some b ∧ s_row r L P w σ hi b hh (s + 1) m Z ∧ ∀ (i : Nat) (_ : i < m ∧ s < Z i ∧ Z i < 1600), ∃ a', ch_gr w b i = some a' ∧ a < a' ∧ sth g r L P w σ hi a' (Z i)) → (∃ b m Z, ch_gr w' a fd = some b ∧ s_row r L P w' σ' hi' b hh (s + 1) m Z ∧ ∀ (i : Nat) (_ : i < m ∧ s < Z i ∧ Z i < 1600), ∃ a', ch_gr w' b i = some a' ∧ a < a' ∧ sth g r L P w' σ' hi' a' (Z i)) := by
      rintro fd hh ⟨b, m, Z, q1, ⟨p1, p2, p3, p4, p5, p6, p7⟩, q3⟩
      obtain ⟨y1, y2⟩ := hk b p1 (Or.inr (Or.inr (Or.inl p3)))
      obtain ⟨t1, t2, t3, t4, -⟩ := b_cell y1
      refine ⟨b, m, Z, by rw [e4]; exact q1, ⟨y2, p2, by rw [t1]; exact p3, by rw [t2]; exact p4, p5, p6, fun i hi => ?_⟩, fun i hi => ?_⟩
      · obtain ⟨k1, k2, k3, k4⟩ := p7 i hi
        exact ⟨k1, by omega, k3, by rw [hs2 (Z i) (by omega) k2]; exact k4⟩
      · obtain ⟨a', k1, k2, k3⟩ := q3 i hi
        exact ⟨a', by rw [t4]; exact k1, k2, ih a' (Z i) (by omega) (by omega) (by omega) k3⟩
    refine ⟨z2, h2, by rw [e1]; exact h3, by omega, hst1, by rw [e3, rP]; exact h6, by rw [rP]; exact h7, lo, by rw [rN]; exact h8, h9, ?_⟩
    rw [e3, e3, e3, e4, e4, e4, e4, rI, rV, rT, rY, rM, rInn, rO]
    rcases h10 with ⟨q1, q2, q3, q4, q5⟩ | ⟨q1, q2, b, x, c, nd, q3, q4, q5, q6, q7, q8, q9, q10, q11⟩ | ⟨q1, q2, c, nd, q3, q4, q5, q6, q7⟩ | ⟨q1, q2, q3⟩ | ⟨q1, c, nd, q2, q3, q4, q5⟩ | ⟨q1, ⟨c, nd, q2, q3, q4, q5⟩, q6, q7⟩ | ⟨q1, q2, ⟨y', q3, q4⟩, q5, q6, q7, q8⟩
    · exact Or.inl ⟨q1, q2, q3.keep (r := r) (P := P) hc hm, q4.keep0 hc hm, hval q5⟩
    · exact Or.inr (Or.inl ⟨q1, q2, b, x, c, nd, q3, q4, q5, by rw [vis b lo x q7]; exact q6, kv _ _ _ q7, q8, q9, q10, kv _ _ _ q11⟩)
    · exact Or.inr (Or.inr (Or.inl ⟨q1, q2, c, nd, q3, q4, q5, by rw [vis c lo nd q7]; exact q6, kv _ _ _ q7⟩))
    · exact Or.inr (Or.inr (Or.inr (Or.inl ⟨q1, q2, hval q3⟩)))
    · exact Or.inr (Or.inr (Or.inr (Or.inr (Or.inl ⟨q1, c, nd, q2, q3, q4, kv _ _ _ q5⟩))))
    · refine Or.inr (Or.inr (Or.inr (Or.inr (Or.inr (Or.inl ⟨q1, ⟨c, nd, q2, q3, q4, kv _ _ _ q5⟩, ?_, ?_⟩)))))
      · have := hblk fX9_first (σ.2 fX3_inner s) q6
        rw [e4] at this
        exact this
      · rcases q7 with q | ⟨p1, p2, p3⟩
        · exact Or.inl q
        · refine Or.inr ⟨p1, p2, ?_⟩
          have := hblk fX9_second (σ.2 fX3_other s) p3
          rw [e4] at this
          exact this
    · refine Or.inr (Or.inr (Or.inr (Or.inr (Or.inr (Or.inr ⟨q1, q2, ⟨y', q3, q4.keep0 hc hm⟩, q5.keep0 hc hm, q6, ?_, ?_⟩)))))
      · have := hblk fX9_first (σ.2 fX3_inner s) q7
        rw [e4] at this
        exact this
      · have := hblk fX9_second (σ.2 fX3_other s) q8
        rw [e4] at this
        exact this
theorem st.keep (hp : pf g r L P w w') (hm : mf σ σ') (hn1 : nn σ' fX3_nodes ≤ 1500) (hl1 : nn σ' fX3_listed ≤ 1500) (hst1 : nn σ' fX3_statements ≤ 1500) {a s : Nat} (h : st g r L P w σ a s) : st g r L P w' σ' a s :=
  sth.keep0 (a0 := 0) (s1 := 0) (fun x hx _ => hp.2.1 x hx) hp.2.2 hm.mg hn1 hl1 hm.2.2.2.1 hst1 (fun arr h1 _ k _ hk => hm.2.2.2.2.2.2.2.2.1 arr h1 k hk) (fun k _ hk => hm.2.2.2.2.2.2.2.2.1 fX3_nextOf (by decide) k hk) 1600 a s (by omega) (by omega) (by omega) h
end ST
