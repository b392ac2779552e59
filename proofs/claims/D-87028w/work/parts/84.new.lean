/-! LEVEL B2: new cells and fields of one's own -/
set_option maxRecDepth 100000
section NEW
variable {g : State} {P r L S n : Nat} {f : Nat → Nat} {w w' : ch_W} {tc fr tt op ps a : Nat}
theorem pjC_new (h : pjC g P r L S n f w tc fr tt op ps) (ho : ∀ a : Nat, a ≠ ch_nx w → w'.1 a = w.1 a) (hx : ch_nx w' = ch_nx w + 1) : pjC g P r L S n f w' tc fr tt op ps ∧ pf g r L P w w' ∧ cpN w' L = cpN w L ∧ ow r L P w' (ch_nx w) ∧ P ≤ ch_nx w := by
  obtain ⟨c1, c2, c3, c4, c5, c6, c7, c8, c9, c10, A, k0, cap, E, T, c11, c12, c13⟩ := h
  obtain ⟨d1, d2, d3, d4⟩ := id c7
  obtain ⟨s1, s2, s3, s4, s5, s6, s7, s8⟩ := id d1
  have hrn := c6 r (by rw [s1]; decide)
  have hLn := c6 L (by rw [c11.1.1]; decide)
  have hAn := c6 A (by rcases c11.1.2.2.2.2.2.2.1 with q | q <;> omega)
  have hEn : ∀ i : Nat, i < k0 → E i < ch_nx w := fun i hi => c6 (E i) (by rw [(c11.2.1 i hi).1]; decide)
  have ho' : ∀ a : Nat, a < ch_nx w → w'.1 a = w.1 a := fun a ha => ho a (by omega)
  obtain ⟨b1, b2, b3, b4, b5⟩ := b_cell (ho' r hrn)
  obtain ⟨l1, l2, l3, l4, l5⟩ := b_cell (ho' L hLn)
  obtain ⟨u1, u2, u3, u4, u5⟩ := b_cell (ho' S (by omega))
  have hN' : rd_N g w' L A k0 cap E T := c11.keep (ho' L hLn) (ho' A hAn) (fun i hi => ho' (E i) (hEn i hi))
  refine ⟨⟨c1.keep c2 (fun a ha => ho' a (by omega)), c2, c3, c4, c5, fun b hb => ?_, ⟨⟨by rw [b1]; exact s1, by rw [b4]; exact s2, by rw [u1]; exact s3, by rw [u2]; exact s4, s5, by rw [b3]; exact s6, s7, fun i hi => by rw [u3]; exact s8 i hi⟩, ⟨by rw [b3]; exact d2.1, by rw [b3]; exact d2.2⟩, by rw [b3]; exact d3, d4⟩, by rw [b3]; exact c8, c9, c10.keep b4, A, k0, cap, E, T, hN', c12, by rw [(b_cell (ho' A hAn)).1]; exact c13⟩, ⟨by omega, fun a ha => ?_, fun i t hc => ?_⟩, ?_, ?_, by omega⟩
  · by_cases hb2 : b = ch_nx w
    · omega
    · rw [(b_cell (ho b hb2)).1] at hb
      have := c6 b hb
      omega
  · rcases ha with ha | ⟨a1, a2, a3, a4⟩
    · exact ⟨ho' a (by omega), Or.inl ha⟩
    · exact ⟨ho' a a1, Or.inr ⟨by omega, a2, a3, by rw [l4]; exact a4⟩⟩
  · obtain ⟨A0, k1, cap1, E0, T0, h1, h2, h3⟩ := hc
    have hA0 := c6 A0 (by rcases h1.1.2.2.2.2.2.2.1 with q | q <;> omega)
    exact ⟨A0, k1, cap1, E0, T0, h1.keep (ho' L hLn) (ho' A0 hA0) (fun i hi => ho' (E0 i) (c6 (E0 i) (by rw [(h1.2.1 i hi).1]; decide))), h2, h3⟩
  · unfold cpN
    rw [l4, c11.1.2.1]
    exact (b_cell (ho' A hAn)).2.1
  · refine Or.inr ⟨by omega, by omega, by omega, ?_⟩
    rw [l4, c11.1.2.1]
    intro q
    have := Option.some.inj q
    omega
/-- a cell of one's own is another -/
theorem pjC_set (h : pjC g P r L S n f w tc fr tt op ps) (ha : ow r L P w a) (hP : P ≤ a) (ht : ch_tg w a ≠ 22) (ho : ∀ b : Nat, b ≠ a → w'.1 b = w.1 b) (hx : ch_nx w' = ch_nx w) : pjC g P r L S n f w' tc fr tt op ps ∧ cpN w' L = cpN w L ∧ (∀ b : Nat, ow r L P w b → ow r L P w' b) ∧ ∀ w0, pf g r L P w0 w → ch_nx w0 ≤ a → pf g r L P w0 w' := by
  obtain ⟨c1, c2, c3, c4, c5, c6, c7, c8, c9, c10, A, k0, cap, E, T, c11, c12, c13⟩ := h
  obtain ⟨d1, d2, d3, d4⟩ := id c7
  obtain ⟨s1, s2, s3, s4, s5, s6, s7, s8⟩ := id d1
  obtain ⟨a1, a2, a3, a4⟩ : a < ch_nx w ∧ a ≠ r ∧ a ≠ L ∧ ch_gr w L fJ5_elementData ≠ some a := by
    rcases ha with q | q
    · omega
    · exact q
  have hAa : A ≠ a := fun q => a4 (by rw [← q]; exact c11.1.2.1)
  have hEa : ∀ i : Nat, i < k0 → E i ≠ a := fun i hi q => ht (by rw [← q]; exact (c11.2.1 i hi).1)
  obtain ⟨b1, b2, b3, b4, b5⟩ := b_cell (ho r (fun q => a2 q.symm))
  obtain ⟨l1, l2, l3, l4, l5⟩ := b_cell (ho L (fun q => a3 q.symm))
  obtain ⟨u1, u2, u3, u4, u5⟩ := b_cell (ho S (by omega))
  have hN' : rd_N g w' L A k0 cap E T := c11.keep (ho L (fun q => a3 q.symm)) (ho A hAa) (fun i hi => ho (E i) (hEa i hi))
  have how : ∀ b : Nat, ow r L P w b → ow r L P w' b := by
    intro b hb
    rcases hb with hb | ⟨e1, e2, e3, e4⟩
    · exact Or.inl hb
    · exact Or.inr ⟨by omega, e2, e3, by rw [l4]; exact e4⟩
  refine ⟨⟨c1.keep c2 (fun b hb => ho b (by omega)), c2, c3, c4, c5, fun b hb => ?_, ⟨⟨by rw [b1]; exact s1, by rw [b4]; exact s2, by rw [u1]; exact s3, by rw [u2]; exact s4, s5, by rw [b3]; exact s6, s7, fun i hi => by rw [u3]; exact s8 i hi⟩, ⟨by rw [b3]; exact d2.1, by rw [b3]; exact d2.2⟩, by rw [b3]; exact d3, d4⟩, by rw [b3]; exact c8, c9, c10.keep b4, A, k0, cap, E, T, hN', c12, by rw [(b_cell (ho A hAa)).1]; exact c13⟩, ?_, how, fun w0 hp hn => ⟨by rw [hx]; exact hp.1, fun b hb => ?_, fun i t hc => ?_⟩⟩
  · by_cases hb2 : b = a
    · omega
    · rw [(b_cell (ho b hb2)).1] at hb
      have := c6 b hb
      omega
  · unfold cpN
    rw [l4, c11.1.2.1]
    exact (b_cell (ho A hAa)).2.1
  · obtain ⟨e1, e2⟩ := hp.2.1 b hb
    refine ⟨?_, how b e2⟩
    rw [ho b ?_, e1]
    intro q
    rcases hb with hb | ⟨e1, -⟩ <;> omega
  · obtain ⟨A0, k1, cap1, E0, T0, h1, h2, h3⟩ := hp.2.2 i t hc
    have hA0 : A0 ≠ a := fun q => a4 (by rw [← q]; exact h1.1.2.1)
    exact ⟨A0, k1, cap1, E0, T0, h1.keep (ho L (fun q => a3 q.symm)) (ho A0 hA0) (fun i hi => ho (E0 i) (fun q => ht (by rw [← q]; exact (h1.2.1 i hi).1))), h2, h3⟩
end NEW
/-- a new value: kind, what, type, its parts -/
def vn (w w' : ch_W) (kd wh ty : Int32) (lf rt ar : Option Nat) : Prop := (∀ a : Nat, a ≠ ch_nx w → w'.1 a = w.1 a) ∧ w'.2 = (ch_nx w + 1, ch_cs w + 1, ch_sl w + 6) ∧ ch_tg w' (ch_nx w) = 11 ∧ ch_gi w' (ch_nx w) fX10_kind = kd ∧ ch_gi w' (ch_nx w) fX10_what = wh ∧ ch_gi w' (ch_nx w) fX10_type = ty ∧ ch_gr w' (ch_nx w) fX10_left = lf ∧ ch_gr w' (ch_nx w) fX10_right = rt ∧ ch_gr w' (ch_nx w) fX10_arguments = ar
theorem lc_val {β : Type} {w : ch_W} {k x : Int32} {F : ch_W → Option β} (h1 : ch_cs w + 1 ≤ 601024) (h2 : ch_sl w + 6 ≤ 7293034) : ∃ w', ((ch_nO w 11 6).bind fun w1 => (c_X10_init (ch_nx w) k x w1).bind F) = F w' ∧ vn w w' k x (-1) none none none := by
  have t0 : ch_tg (ch_nw w (ch_new 11 6)) (ch_nx w) = 11 := by rw [b_tN, if_pos rfl]; rfl
  rw [d_nO h1 h2]
  unfold c_X10_init
  rw [d_pI t0, d_pI (by rw [b_tI]; exact t0), d_pI (by rw [b_tI, b_tI]; exact t0)]
  refine ⟨_, rfl, fun a ha => by rw [b_oI ha, b_oI ha, b_oI ha, b_oN ha], rfl, by rw [b_tI, b_tI, b_tI]; exact t0, ?_, ?_, ?_, ?_, ?_, ?_⟩
  · rw [b_II, if_neg (fun q => absurd q.2 (by decide)), b_II, if_pos ⟨rfl, rfl⟩]
  · rw [b_II, if_pos ⟨rfl, rfl⟩]
  · rw [b_II, if_neg (fun q => absurd q.2 (by decide)), b_II, if_neg (fun q => absurd q.2 (by decide)), b_II, if_pos ⟨rfl, rfl⟩]
  · rw [b_RI, b_RI, b_RI, b_RN, if_pos rfl]; rfl
  · rw [b_RI, b_RI, b_RI, b_RN, if_pos rfl]; rfl
  · rw [b_RI, b_RI, b_RI, b_RN, if_pos rfl]; rfl
theorem lc_joined {w : ch_W} {k x : Int32} {lf rt : Option Nat} (h1 : ch_cs w + 1 ≤ 601024) (h2 : ch_sl w + 6 ≤ 7293034) : ∃ w', c_X4_joined k x lf rt w = some (some (ch_nx w), w') ∧ vn w w' k x (-1) lf rt none := by
  unfold c_X4_joined
  obtain ⟨w1, e1, v1, v2, v3, v4, v5, v6, v7, v8, v9⟩ := lc_val (k := k) (x := x) (F := fun p2 => (ch_pR p2 (some (ch_nx w)) 11 fX10_left lf).bind fun w4 => (ch_pR w4 (some (ch_nx w)) 11 fX10_right rt).bind fun w5 => some ((some (ch_nx w), w5))) h1 h2
  rw [e1, d_pR v3, d_pR (by rw [b_tR]; exact v3)]
  refine ⟨_, rfl, fun a ha => by rw [b_oR ha, b_oR ha]; exact v1 a ha, v2, by rw [b_tR, b_tR]; exact v3, by rw [b_IR, b_IR]; exact v4, by rw [b_IR, b_IR]; exact v5, by rw [b_IR, b_IR]; exact v6, ?_, ?_, ?_⟩
  · rw [b_RR, if_neg (fun q => absurd q.2 (by decide)), b_RR, if_pos ⟨rfl, rfl⟩]
  · rw [b_RR, if_pos ⟨rfl, rfl⟩]
  · rw [b_RR, if_neg (fun q => absurd q.2 (by decide)), b_RR, if_neg (fun q => absurd q.2 (by decide))]; exact v9
