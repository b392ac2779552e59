/-! LEVEL B2: the start's cells in any world that keeps them -/
set_option maxRecDepth 100000
def bb (g : State) (w : ch_W) : Prop := (∃ b L xs, ch_W0 g b L xs (cs_w g)) ∧ ch_Base g w
theorem bb_same {g : State} {w : ch_W} {a : Nat} (h : bb g w) (ha : ch_tg (cs_w g) a ≠ 0) : w.1 a = (cs_w g).1 a := h.2 a ha
theorem bb.keep {g : State} {w w' : ch_W} {P : Nat} (h : bb g w) (hP : g.heap.size ≤ P) (hk : ∀ a : Nat, a < P → w'.1 a = w.1 a) : bb g w' := by
  refine ⟨h.1, fun a ha => ?_⟩
  obtain ⟨b, L, xs, -, -, -, -, -, -, h7, -⟩ := h.1
  rcases h7 a with q | q
  · exact absurd q ha
  · rw [hk a (by omega)]; exact h.2 a ha
theorem bb_str {g : State} {w : ch_W} {own : String} {k : Nat} {bs : List Int32} (h : bb g w) (hm : (own, k, bs) ∈ ch_strs) : ch_Str w (ch_sa g own k) bs := by
  obtain ⟨b, L, xs, -, -, -, h4, -⟩ := h.1
  obtain ⟨h1, v, h2, h3, h5, h6⟩ := h4 _ hm
  have e1 := bb_same h (a := ch_sa g own k) (by rw [h1]; decide)
  have e2 := bb_same h (a := v) (by rw [h3]; decide)
  refine ⟨?_, v, ?_, ?_, ?_, fun j hj => ?_⟩
  · unfold ch_tg at h1 ⊢; rw [e1]; exact h1
  · unfold ch_gr at h2 ⊢; rw [e1]; exact h2
  · unfold ch_tg at h3 ⊢; rw [e2]; exact h3
  · unfold ch_ln at h5 ⊢; rw [e2]; exact h5
  · have := h6 j hj
    unfold ch_gi at this ⊢; rw [e2]; exact this
theorem bb_S {g : State} {w : ch_W} {own : String} {k : Nat} {l : List Nat} (h : bb g w) (hm : (own, k, l.map Int32.ofNat) ∈ ch_strs) (hl : l.length < 100) (hc : ∀ k : Nat, k < l.length → l.getD k 0 < 128) : ls_S w (ch_sa g own k) l := ⟨bb_str h hm, hl, hc⟩
theorem bb_W {g : State} {w : ch_W} (h : bb g w) : rd_W g w := by
  obtain ⟨b, L, xs, -, -, -, -, ⟨aw, h1, h2, h3, h4⟩, -⟩ := h.1
  have e1 := bb_same h (a := aw) (by rw [h2]; decide)
  refine ⟨aw, h1, ?_, ?_, fun j hj => ⟨ch_sa g "ClassHouse" (139 + 2 * j), ?_, ?_⟩⟩
  · unfold ch_tg at h2 ⊢; rw [e1]; exact h2
  · unfold ch_ln at h3 ⊢; rw [e1]; exact h3
  · have := h4 j hj
    unfold ch_gr at this ⊢; rw [e1]; exact this
  · have hm : ∀ j : Nat, j < 21 → ("ClassHouse", 139 + 2 * j, (lx_kw.getD j []).map Int32.ofNat) ∈ ch_strs := by decide +kernel
    have h9 : ∀ j : Nat, j < 21 → (lx_kw.getD j []).length < 100 ∧ ∀ k : Nat, k < (lx_kw.getD j []).length → (lx_kw.getD j []).getD k 0 < 128 := by decide
    exact bb_S h (hm j hj) (h9 j hj).1 (h9 j hj).2
theorem bb_E {g : State} {w : ch_W} (h : bb g w) : ∃ ae, ch_stE g = some ae ∧ ch_tg w ae = 55 ∧ ch_ln w ae = 0 ∧ ae < g.heap.size := by
  obtain ⟨b, L, xs, -, -, -, -, -, ⟨ae, h1, h2, h3⟩, h7, -⟩ := h.1
  have e1 := bb_same h (a := ae) (by rw [h2]; decide)
  refine ⟨ae, h1, ?_, ?_, ?_⟩
  · unfold ch_tg at h2 ⊢; rw [e1]; exact h2
  · unfold ch_ln at h3 ⊢; rw [e1]; exact h3
  · rcases h7 ae with q | q
    · rw [h2] at q; cases q
    · exact q.2
