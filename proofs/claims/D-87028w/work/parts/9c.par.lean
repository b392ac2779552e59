/-! LEVEL B2: classes: a method's parameters -/
set_option maxRecDepth 100000
/-- a member that is being made -/
def cmb (r L P hA : Nat) (w : ch_W) (b : Nat) (im ty nm pl : Int32) (Rt At qt ct : Nat) (Ft : Nat → Int32) (Rn An qn kn : Nat) (Fn : Nat → Int32) (Rc Ac : Nat) : Prop := ch_tg w b = 8 ∧ ch_gi w b fX7_isMethod = im ∧ ch_gi w b fX7_type = ty ∧ ch_gi w b fX7_name = nm ∧ ch_gi w b fX7_place = pl ∧ ch_gi w b fX7_slots = 0 ∧ ch_gr w b fX7_code = none ∧ ch_gr w b fX7_types = some Rt ∧ ch_gr w b fX7_names = some Rn ∧ ch_gr w b fX7_catches = some Rc ∧ rwA w Rt At qt ct Ft ∧ rwA w Rn An qn kn Fn ∧ rwA w Rc Ac 0 8 (fun _ => 0) ∧ (∀ x ∈ [b, Rt, At, Rn, An, Rc, Ac], ow r L P w x ∧ hA ≤ x) ∧ Rt ≠ Rn ∧ Rt ≠ Rc ∧ Rn ≠ Rc ∧ At ≠ An ∧ At ≠ Ac ∧ An ≠ Ac
section CM
variable {g : State} {P r L S n K hA b : Nat} {f : Nat → Nat} {w w' : ch_W} {tc fr tt op ps : Nat} {im ty nm pl v : Int32} {Rt At qt ct Rn An qn kn Rc Ac : Nat} {Ft Fn : Nat → Int32}
theorem ow.lt {x : Nat} (h : ow r L P w x) (hP : P ≤ ch_nx w) : x < ch_nx w := by
  rcases h with z | z
  · omega
  · exact z.1
theorem cmb.keep (h : cmb r L P hA w b im ty nm pl Rt At qt ct Ft Rn An qn kn Fn Rc Ac) (hk : ∀ x ∈ [b, Rt, At, Rn, An, Rc, Ac], w'.1 x = w.1 x ∧ ow r L P w' x) : cmb r L P hA w' b im ty nm pl Rt At qt ct Ft Rn An qn kn Fn Rc Ac := by
  obtain ⟨a1, a2, a3, a4, a5, a6, a7, a8, a9, a10, a11, a12, a13, a14, a15⟩ := h
  obtain ⟨e1, e2, e3, e4, -⟩ := b_cell (hk b (by simp)).1
  exact ⟨by rw [e1]; exact a1, by rw [e3]; exact a2, by rw [e3]; exact a3, by rw [e3]; exact a4, by rw [e3]; exact a5, by rw [e3]; exact a6, by rw [e4]; exact a7, by rw [e4]; exact a8, by rw [e4]; exact a9, by rw [e4]; exact a10, a11.keep (hk _ (by simp)).1 (hk _ (by simp)).1, a12.keep (hk _ (by simp)).1 (hk _ (by simp)).1, a13.keep (hk _ (by simp)).1 (hk _ (by simp)).1, fun x hx => ⟨(hk x hx).2, (a14 x hx).2⟩, a15⟩
theorem cmb.pf (h : cmb r L P hA w b im ty nm pl Rt At qt ct Ft Rn An qn kn Fn Rc Ac) (hp : pf g r L P w w') : cmb r L P hA w' b im ty nm pl Rt At qt ct Ft Rn An qn kn Fn Rc Ac := h.keep fun x hx => hp.2.1 x (h.2.2.2.2.2.2.2.2.2.2.2.2.2.1 x hx).1
/-- the two rows change places -/
theorem ow_new {x : Nat} (hC : pjC g P r L S n f w tc fr tt op ps) (hs : ∀ a : Nat, a < ch_nx w → w'.1 a = w.1 a) (h1 : ch_nx w ≤ x) (h2 : x < ch_nx w') : ow r L P w' x := by
  have hwf := hC.2.2.2.2.2.1
  obtain ⟨A1, k1, cap1, E1, T1, m1, -, -⟩ := hC.2.2.2.2.2.2.2.2.2.2
  have hLn := hwf L (by rw [m1.1.1]; decide)
  have hrn := hwf r (by rw [hC.2.2.2.2.2.2.1.1.1]; decide)
  have hA1n := hwf A1 (by rcases m1.1.2.2.2.2.2.2.1 with q | q <;> omega)
  refine Or.inr ⟨h2, by omega, by omega, fun y => ?_⟩
  rw [(b_cell (hs L hLn)).2.2.2.1, m1.1.2.1] at y
  have := Option.some.inj y
  omega
theorem cmb_T (hC : pjC g P r L S n f w tc fr tt op ps) (h : cmb r L P hA w b im ty nm pl Rt At qt ct Ft Rn An qn kn Fn Rc Ac) (hP : P ≤ hA) (hK : K < hA) (hn : hA ≤ ch_nx w) (hc1 : ch_cs w + 1 ≤ 601024) (hc2 : ch_sl w + 2 * ct ≤ 7293034) (hcp : ct < 2 ^ 27) :
    ∃ w' At' ct', c_X8_add Rt v w = some w' ∧ cmb r L P hA w' b im ty nm pl Rt At' (qt + 1) ct' (up1 Ft qt v) Rn An qn kn Fn Rc Ac ∧ pjC g P r L S n f w' tc fr tt op ps ∧ cpN w' L = cpN w L ∧ cf g r L K P hA w w' ∧ ch_cs w' ≤ ch_cs w + 1 ∧ ch_sl w' + 2 * ct ≤ ch_sl w + 2 * ct' ∧ (ct ≤ 2 * qt + 8 → ct' ≤ 2 * (qt + 1) + 8) := by
  obtain ⟨a1, a2, a3, a4, a5, a6, a7, a8, a9, a10, a11, a12, a13, a14, a15, a16, a17, a18, a19, a20⟩ := id h
  have hPn : P ≤ ch_nx w := by omega
  obtain ⟨w', At', ct', c1, c2, c3, c4, c5, c6, c7, c8, c9, c10, c11, c12, c13, c14⟩ := own_add (v := v) (K := K) hC a11 (a14 Rt (by simp)).1 (a14 At (by simp)).1 (a14 Rt (by simp)).2 (a14 At (by simp)).2 hP hK hn hc1 hc2 hcp
  have lt : ∀ x ∈ [b, Rt, At, Rn, An, Rc, Ac], x < ch_nx w := fun x hx => (a14 x hx).1.lt hPn
  have tRn := a12.1
  have tAn := a12.2.2.2.1
  have tRc := a13.1
  have tAc := a13.2.2.2.1
  have tRt := a11.1
  have tAt := a11.2.2.2.1
  have ne : ∀ x y : Nat, ch_tg w x ≠ ch_tg w y → x ≠ y := fun x y hh z => hh (by rw [z])
  have lAt : ∀ x ∈ [b, Rn, An, Rc, Ac], x ≠ At → x ≠ At' := fun x hx hn1 => by
    rcases c7 with q | q
    · rw [q]; exact hn1
    · have := lt x (by simp at hx ⊢; omega)
      omega
  have sb : w'.1 b = w.1 b := c10 b (ne _ _ (by rw [a1, tRt]; decide)) (lAt b (by simp) (ne _ _ (by rw [a1, tAt]; decide)))
  have sRn : w'.1 Rn = w.1 Rn := c10 Rn (fun z => a15 z.symm) (lAt Rn (by simp) (ne _ _ (by rw [tRn, tAt]; decide)))
  have sAn : w'.1 An = w.1 An := c10 An (ne _ _ (by rw [tAn, tRt]; decide)) (lAt An (by simp) (fun z => a18 z.symm))
  have sRc : w'.1 Rc = w.1 Rc := c10 Rc (fun z => a16 z.symm) (lAt Rc (by simp) (ne _ _ (by rw [tRc, tAt]; decide)))
  have sAc : w'.1 Ac = w.1 Ac := c10 Ac (ne _ _ (by rw [tAc, tRt]; decide)) (lAt Ac (by simp) (fun z => a19 z.symm))
  obtain ⟨e1, e2, e3, e4, -⟩ := b_cell sb
  refine ⟨w', At', ct', c1, ⟨by rw [e1]; exact a1, by rw [e3]; exact a2, by rw [e3]; exact a3, by rw [e3]; exact a4, by rw [e3]; exact a5, by rw [e3]; exact a6, by rw [e4]; exact a7, by rw [e4]; exact a8, by rw [e4]; exact a9, by rw [e4]; exact a10, c2, a12.keep sRn sAn, a13.keep sRc sAc, fun x hx => ?_, a15, a16, a17, fun z => ?_, fun z => ?_, a20⟩, c3, c4, c5, c12, c13, c14⟩
  · simp only [List.mem_cons, List.not_mem_nil, or_false] at hx
    rcases hx with q | q | q | q | q | q | q
    · rw [q]; exact ⟨c6 _ (a14 b (by simp)).1, (a14 b (by simp)).2⟩
    · rw [q]; exact ⟨c6 _ (a14 Rt (by simp)).1, (a14 Rt (by simp)).2⟩
    · rw [q]; exact ⟨c8, c9⟩
    · rw [q]; exact ⟨c6 _ (a14 Rn (by simp)).1, (a14 Rn (by simp)).2⟩
    · rw [q]; exact ⟨c6 _ (a14 An (by simp)).1, (a14 An (by simp)).2⟩
    · rw [q]; exact ⟨c6 _ (a14 Rc (by simp)).1, (a14 Rc (by simp)).2⟩
    · rw [q]; exact ⟨c6 _ (a14 Ac (by simp)).1, (a14 Ac (by simp)).2⟩
  · exact lAt An (by simp) (fun z => a18 z.symm) z.symm
  · exact lAt Ac (by simp) (fun z => a19 z.symm) z.symm
theorem cmb_N (hC : pjC g P r L S n f w tc fr tt op ps) (h : cmb r L P hA w b im ty nm pl Rt At qt ct Ft Rn An qn kn Fn Rc Ac) (hP : P ≤ hA) (hK : K < hA) (hn : hA ≤ ch_nx w) (hc1 : ch_cs w + 1 ≤ 601024) (hc2 : ch_sl w + 2 * kn ≤ 7293034) (hcp : kn < 2 ^ 27) :
    ∃ w' An' kn', c_X8_add Rn v w = some w' ∧ cmb r L P hA w' b im ty nm pl Rt At qt ct Ft Rn An' (qn + 1) kn' (up1 Fn qn v) Rc Ac ∧ pjC g P r L S n f w' tc fr tt op ps ∧ cpN w' L = cpN w L ∧ cf g r L K P hA w w' ∧ ch_cs w' ≤ ch_cs w + 1 ∧ ch_sl w' + 2 * kn ≤ ch_sl w + 2 * kn' ∧ (kn ≤ 2 * qn + 8 → kn' ≤ 2 * (qn + 1) + 8) := by
  obtain ⟨a1, a2, a3, a4, a5, a6, a7, a8, a9, a10, a11, a12, a13, a14, a15, a16, a17, a18, a19, a20⟩ := id h
  have hPn : P ≤ ch_nx w := by omega
  obtain ⟨w', An', kn', c1, c2, c3, c4, c5, c6, c7, c8, c9, c10, c11, c12, c13, c14⟩ := own_add (v := v) (K := K) hC a12 (a14 Rn (by simp)).1 (a14 An (by simp)).1 (a14 Rn (by simp)).2 (a14 An (by simp)).2 hP hK hn hc1 hc2 hcp
  have lt : ∀ x ∈ [b, Rt, At, Rn, An, Rc, Ac], x < ch_nx w := fun x hx => (a14 x hx).1.lt hPn
  have tRn := a12.1
  have tAn := a12.2.2.2.1
  have tRc := a13.1
  have tAc := a13.2.2.2.1
  have tRt := a11.1
  have tAt := a11.2.2.2.1
  have ne : ∀ x y : Nat, ch_tg w x ≠ ch_tg w y → x ≠ y := fun x y hh z => hh (by rw [z])
  have lAn : ∀ x ∈ [b, Rt, At, Rc, Ac], x ≠ An → x ≠ An' := fun x hx hn1 => by
    rcases c7 with q | q
    · rw [q]; exact hn1
    · have := lt x (by simp at hx ⊢; omega)
      omega
  have sb : w'.1 b = w.1 b := c10 b (ne _ _ (by rw [a1, tRn]; decide)) (lAn b (by simp) (ne _ _ (by rw [a1, tAn]; decide)))
  have sRt : w'.1 Rt = w.1 Rt := c10 Rt a15 (lAn Rt (by simp) (ne _ _ (by rw [tRt, tAn]; decide)))
  have sAt : w'.1 At = w.1 At := c10 At (ne _ _ (by rw [tAt, tRn]; decide)) (lAn At (by simp) a18)
  have sRc : w'.1 Rc = w.1 Rc := c10 Rc (fun z => a17 z.symm) (lAn Rc (by simp) (ne _ _ (by rw [tRc, tAn]; decide)))
  have sAc : w'.1 Ac = w.1 Ac := c10 Ac (ne _ _ (by rw [tAc, tRn]; decide)) (lAn Ac (by simp) (fun z => a20 z.symm))
  obtain ⟨e1, e2, e3, e4, -⟩ := b_cell sb
  refine ⟨w', An', kn', c1, ⟨by rw [e1]; exact a1, by rw [e3]; exact a2, by rw [e3]; exact a3, by rw [e3]; exact a4, by rw [e3]; exact a5, by rw [e3]; exact a6, by rw [e4]; exact a7, by rw [e4]; exact a8, by rw [e4]; exact a9, by rw [e4]; exact a10, a11.keep sRt sAt, c2, a13.keep sRc sAc, fun x hx => ?_, a15, a16, a17, fun z => ?_, a19, fun z => ?_⟩, c3, c4, c5, c12, c13, c14⟩
  · simp only [List.mem_cons, List.not_mem_nil, or_false] at hx
    rcases hx with q | q | q | q | q | q | q
    · rw [q]; exact ⟨c6 _ (a14 b (by simp)).1, (a14 b (by simp)).2⟩
    · rw [q]; exact ⟨c6 _ (a14 Rt (by simp)).1, (a14 Rt (by simp)).2⟩
    · rw [q]; exact ⟨c6 _ (a14 At (by simp)).1, (a14 At (by simp)).2⟩
    · rw [q]; exact ⟨c6 _ (a14 Rn (by simp)).1, (a14 Rn (by simp)).2⟩
    · rw [q]; exact ⟨c8, c9⟩
    · rw [q]; exact ⟨c6 _ (a14 Rc (by simp)).1, (a14 Rc (by simp)).2⟩
    · rw [q]; exact ⟨c6 _ (a14 Ac (by simp)).1, (a14 Ac (by simp)).2⟩
  · exact lAn At (by simp) a18 z
  · exact lAn Ac (by simp) (fun z => a20 z.symm) z.symm
/-- a new member is one that is being made -/
theorem cmb_new (hC : pjC g P r L S n f w tc fr tt op ps) (hm : mnew w w' im ty nm pl) (hA1 : hA ≤ ch_nx w) (hP : P ≤ hA) (hK : K < hA) : cmb r L P hA w' (ch_nx w) im ty nm pl (ch_nx w + 1) (ch_nx w + 2) 0 8 (fun _ => 0) (ch_nx w + 3) (ch_nx w + 4) 0 8 (fun _ => 0) (ch_nx w + 5) (ch_nx w + 6) ∧ pjC g P r L S n f w' tc fr tt op ps ∧ cpN w' L = cpN w L ∧ pf g r L P w w' ∧ ch_cs w' = ch_cs w + 7 ∧ ch_sl w' = ch_sl w + 42 ∧ ch_nx w' = ch_nx w + 7 := by
  obtain ⟨a1, a2, a3, a4, a5, a6, a7, a8, a9, a10, a11, a12, a13, a14, a15⟩ := hm
  have e1 : ch_nx w' = ch_nx w + 7 := by unfold ch_nx; rw [a1]; rfl
  have e2 : ch_cs w' = ch_cs w + 7 := by unfold ch_cs; rw [a1]; rfl
  have e3 : ch_sl w' = ch_sl w + 42 := by unfold ch_sl; rw [a1]; rfl
  have hwf := hC.2.2.2.2.2.1
  have hwf' : ∀ x, ch_tg w' x ≠ 0 → x < ch_nx w' := fun x hx => by
    by_cases hl : x < ch_nx w ∨ ch_nx w + 7 ≤ x
    · rw [(b_cell (a2 x hl)).1] at hx
      have := hwf x hx
      omega
    · omega
  obtain ⟨p1, p2, p3, p4, p5, p6⟩ := own_gen (w' := w') (K := K) (hA := hA) hC (fun x hx => Or.inr (a2 x (Or.inl hx))) hP hK (by omega) (by omega) hwf'
  have hnew : ∀ x : Nat, ch_nx w ≤ x → x < ch_nx w + 7 → ow r L P w' x ∧ hA ≤ x := fun x h1 h2 => ⟨ow_new hC (fun a ha => a2 a (Or.inl ha)) h1 (by omega), by omega⟩
  refine ⟨⟨a3, a4, a5, a6, a7, a8, a9, a10, a11, a12, a13, a14, a15, fun x hx => ?_, by omega, by omega, by omega, by omega, by omega, by omega⟩, p1, p2, p6 w pf.refl (fun a ha => a2 a (Or.inl ha)), e2, e3, e1⟩
  simp only [List.mem_cons, List.not_mem_nil, or_false] at hx
  rcases hx with q | q | q | q | q | q | q <;> exact hnew x (by omega) (by omega)
end CM
