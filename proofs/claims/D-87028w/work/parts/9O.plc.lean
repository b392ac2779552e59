/-! LEVEL B2: statements of both sides: what is put, what is done -/
set_option maxRecDepth 100000
/-- the kinds of a tree on both sides -/
theorem vt_kd {g : State} {r L P : Nat} {w : ch_W} {σ : ch_S} {a lo m : Nat} (h : vt g r L P w σ a lo m) : (ch_gi w a fX10_kind, σ.2 fX3_is m) ∈ [((0 : Int32), (0 : Int32)), (0, 21), (1, 1), (2, 2), (3, 3), (4, 4), (6, 5), (7, 12), (8, 13), (9, 14), (10, 6), (13, 10), (14, 11), (12, 7), (16, 16), (17, 17), (15, 15), (5, 9), (11, 8)] := by
  rw [vt] at h
  obtain ⟨-, -, -, -, -, -, h7⟩ := h
  rcases h7 with ⟨-, p2⟩ | ⟨p1, -⟩ | ⟨p1, -⟩ | ⟨p1, -⟩ | ⟨p1, p2, -⟩ | ⟨p1, p2, -⟩
  · unfold v_leaf at p2
    rcases p2 with q | q | q | q | q | q | q
    · rw [q.1, q.2.1]; decide
    · rw [q.1, q.2.1]; decide
    · rw [q.1, q.2]; decide
    · rw [q.1, q.2]; decide
    · rw [q.1, q.2]; decide
    · rw [q.1, q.2.1]; decide
    · rw [q.1, q.2.1]; decide
  · unfold v_un at p1
    rcases p1 with q | q | q <;> rw [q.1, q.2] <;> decide
  · unfold v_nm at p1
    rcases p1.1 with q | q | q <;> rw [q.1, q.2] <;> decide
  · unfold v_bi at p1
    rcases p1 with q | q | q | q
    · rw [q.1, q.2]; decide
    · rw [q.1, q.2]; decide
    · rw [q.1, q.2]; decide
    · rw [q.1, q.2.1]; decide
  · rw [p1, p2]; decide
  · rw [p1, p2]; decide
theorem vt_plc {x y : Int32} (h : (x, y) ∈ [((0 : Int32), (0 : Int32)), (0, 21), (1, 1), (2, 2), (3, 3), (4, 4), (6, 5), (7, 12), (8, 13), (9, 14), (10, 6), (13, 10), (14, 11), (12, 7), (16, 16), (17, 17), (15, 15), (5, 9), (11, 8)]) : ((x = 4 ∨ x = 10 ∨ x = 12) ↔ (y = 4 ∨ y = 6 ∨ y = 7)) ∧ ((x = 5 ∨ x = 11) ↔ (y = 8 ∨ y = 9)) := by
  simp only [List.mem_cons, Prod.mk.injEq, List.mem_nil_iff, or_false] at h
  rcases h with ⟨rfl, rfl⟩ | ⟨rfl, rfl⟩ | ⟨rfl, rfl⟩ | ⟨rfl, rfl⟩ | ⟨rfl, rfl⟩ | ⟨rfl, rfl⟩ | ⟨rfl, rfl⟩ | ⟨rfl, rfl⟩ | ⟨rfl, rfl⟩ | ⟨rfl, rfl⟩ | ⟨rfl, rfl⟩ | ⟨rfl, rfl⟩ | ⟨rfl, rfl⟩ | ⟨rfl, rfl⟩ | ⟨rfl, rfl⟩ | ⟨rfl, rfl⟩ | ⟨rfl, rfl⟩ | ⟨rfl, rfl⟩ | ⟨rfl, rfl⟩ <;> decide
theorem lc_isPlace {w : ch_W} {a : Nat} (h : ch_tg w a = 11) : c_X10_isPlace a w = some (if ch_gi w a fX10_kind = 4 ∨ ch_gi w a fX10_kind = 10 ∨ ch_gi w a fX10_kind = 12 then 1 else 0) := by
  unfold c_X10_isPlace
  rw [d_gI h]
  by_cases q1 : ch_gi w a fX10_kind = 4
  · rw [if_pos q1, if_pos (Or.inl q1)]
  rw [if_neg q1, d_gI h]
  by_cases q2 : ch_gi w a fX10_kind = 10
  · rw [if_pos q2, if_pos (Or.inr (Or.inl q2))]
  rw [if_neg q2, d_gI h]
  by_cases q3 : ch_gi w a fX10_kind = 12
  · rw [if_pos q3, if_pos (Or.inr (Or.inr q3))]
  · rw [if_neg q3, if_neg (fun z => by rcases z with z | z | z; exact q1 z; exact q2 z; exact q3 z)]
theorem lc_isCall {w : ch_W} {a : Nat} (h : ch_tg w a = 11) : c_X10_isCall a w = some (if ch_gi w a fX10_kind = 5 ∨ ch_gi w a fX10_kind = 11 then 1 else 0) := by
  unfold c_X10_isCall
  rw [d_gI h]
  by_cases q1 : ch_gi w a fX10_kind = 5
  · rw [if_pos q1, if_pos (Or.inl q1)]
  rw [if_neg q1, d_gI h]
  by_cases q2 : ch_gi w a fX10_kind = 11
  · rw [if_pos q2, if_pos (Or.inr q2)]
  · rw [if_neg q2, if_neg (fun z => by rcases z with z | z; exact q1 z; exact q2 z)]
section PL
variable {g : State} {P r L S n C1 C2 : Nat} {f : Nat → Nat} {w w' w0 : ch_W} {σ σ' σ0 : ch_S} {tc fr tt op om fr0 : Nat}
/-- a cell is made while a statement is read -/
theorem pj_alloc3 {u z t : Int} {m : Nat} (hA : pjA L n C1 C2 w0 σ0 fr0) (h : pj g P r L S n f C1 C2 w σ tc fr tt op om fr) (hp : prs g P r L u z t w0 σ0 fr0 w σ fr) (hu : 1 ≤ u) (hz : 0 ≤ z) (ht : 0 ≤ t) (ho : ∀ a : Nat, a ≠ ch_nx w → w'.1 a = w.1 a) (h2 : w'.2 = (ch_nx w + 1, ch_cs w + 1, ch_sl w + m)) (hm : m ≤ 256) : pj g P r L S n f C1 C2 w' σ tc fr tt op om fr ∧ pf g r L P w w' ∧ prs g P r L (u - 1) z t w0 σ0 fr0 w' σ fr ∧ ow r L P w' (ch_nx w) ∧ P ≤ ch_nx w := by
  have hx : ch_nx w' = ch_nx w + 1 := by unfold ch_nx; rw [h2]; rfl
  have hc : ch_cs w' = ch_cs w + 1 := by unfold ch_cs; rw [h2]; rfl
  have hs2 : ch_sl w' = ch_sl w + m := by unfold ch_sl; rw [h2]; rfl
  have htn := h.1.2.2.2.2.2.2.1.2.2.2.2.1
  have hff := h.1.2.2.2.2.2.2.1.2.2.2.1
  obtain ⟨d1, d2, d3, d4, d5⟩ := pjC_new h.1 ho hx
  have hp2 : prs g P r L (u - 1) z t w0 σ0 fr0 w' σ fr := by
    refine ⟨hp.1.trans d2, hp.2.1, ?_⟩
    have hb := hp.2.2
    unfold bds at *
    rw [d3, hc, hs2]
    omega
  exact ⟨⟨d1, h.2.1, hA.steps hp2.2.2 (by omega) hz ht (by omega) hp2.2.1.2.2.2.2.1⟩, d2, hp2, d4, d5⟩
end PL
