/-! LEVEL B2: expressions of both sides: signs -/
set_option maxRecDepth 100000
theorem lx_b1 {f : Nat → Nat} {n tc fr tt c : Nat} (h : lx_tk f n tc fr tt) (hc : tc = 1000 + c) (h2 : c < 256) : f fr = c := by
  obtain ⟨h1, h3, h | h | h | h | h | h⟩ := h
  · omega
  · omega
  · omega
  · omega
  · omega
  · obtain ⟨j, j1, j2, -⟩ := h
    omega
theorem lx_b2 {f : Nat → Nat} {n tc fr tt c : Nat} (h : lx_tk f n tc fr tt) (hc : tc = 1256 + c) (h2 : c < 256) : f fr = c := by
  obtain ⟨h1, h3, h | h | h | h | h | h⟩ := h
  · omega
  · omega
  · omega
  · obtain ⟨j1, -, -, -, -, -, j2⟩ := h
    unfold lx_one at j2
    omega
  · omega
  · obtain ⟨j, j1, j2, -⟩ := h
    omega
section EX
variable {g : State} {P r L S n C1 C2 : Nat} {f : Nat → Nat} {w : ch_W} {σ : ch_S} {fr op : Nat}
/-- the byte at hand -/
theorem lc_byte {tc tt om ps c : Nat} {β : Type} {F : Int32 → Option β} (h : pj g P r L S n f C1 C2 w σ tc fr tt op om ps) (h0 : tc ≠ 0) (hb : f fr = c) (hc : c < 128) : ((ch_gR w (some r) 5 fX4_s).bind fun v1 => (ch_gI w (some r) 5 fX4_from).bind fun v2 => (ch_lI w v1 22 v2).bind F) = F (Int32.ofNat c) := by
  obtain ⟨s1, s2, s3, s4, s5, s6, s7, s8⟩ := h.1.2.2.2.2.2.2.1.1
  have hft := h.1.2.2.2.2.2.2.1.2.1
  have htk := h.1.2.2.2.2.2.2.1.2.2.2
  have hlt := htk.lt h0
  have hn := htk.2.1
  rw [d_gR s1, s2, d_gI s1, hft.1, b_lI (Or.inl s3) (by omega) (by omega), Option.bind_some]
  have hx := s8 fr (by omega)
  rw [hb] at hx
  rw [(bx_eq hx hc).mpr rfl]
/-- a sign, then an operand -/
theorem po_sgn {kc ck km cm d d' : Nat} (IH : VP g P r L S n f C1 C2 kc ck km cm d d') (hdm : ∀ (σ : ch_S) (q : Nat), dk σ q → q < 2 ^ 31 → ∃ σ', cr_ME d' km 0 0 0 σ = some (-1, σ') ∧ dr q σ σ') {w1 : ch_W} {σ1 : ch_S} {tc1 fr1 tt1 a1 nd1 : Nat} {kd wh is of : Int32} (hA : pjA L n C1 C2 w σ fr) (h : pj g P r L S n f C1 C2 w1 σ1 tc1 fr1 tt1 op op fr1) (h0 : tc1 ≠ 0) (hpr : pr g P r L 2 0 w σ fr w1 σ1 fr1) (hlt : fr < fr1) (ht : vt g r L P w1 σ1 a1 (nn σ fX3_nodes) nd1) (hn : nd1 + 1 = nn σ1 fX3_nodes) (hd : 9 * (30 - op) + ck ≤ d) (hd' : 14 * (30 - op) + cm ≤ d') (hn31 : n < 2 ^ 31)
    (hvb : ∀ (w' : ch_W) (σ' : ch_S) (a m : Nat), ch_gi w' a fX10_kind = kd → ch_gi w' a fX10_what = wh → σ'.2 fX3_is m = is → σ'.2 fX3_of m = of → v_bi w' σ' a m) :
    po P n C1 C2 0 w σ fr (ch_tb (c_X4_next g r w1) (fun a w => (Except.error a, w)) (fun _ w6 => (ch_rc w6 (some r) 5).bind fun _ => ch_tb (cr_PA g d kc r w6) (fun a w => (Except.error a, w)) (fun v8 w9 => (c_X4_joined kd wh (some a1) v8 w9).bind fun p10 => some (Except.ok p10.1, p10.2)))) ((m_X3_next σ1).bind fun p3 => (cr_ME d' km 0 0 0 p3).bind fun p5 => m_X3_node is (Int32.ofNat nd1) p5.1 of p5.2) (fun x w' y σ' => vQ g P r L S n f C1 C2 op w σ fr x w' y σ' ∧ nd1 + 2 < nn σ' fX3_nodes) := by
  have htk := h.1.2.2.2.2.2.2.1.2.2.2
  rw [o_split 0]
  refine po.tb2 (po_next h h0 (Nat.le_refl _) htk.1) hpr.1 (fun _ w2 b σ2 q => ?_) (fun b σ2 q hq2 => ?_)
  · obtain ⟨rfl, ⟨tc2, fr2, tt2, q1, q2, q3⟩, q4⟩ := q
    rw [d_rc q1.1.2.2.2.2.2.2.1.1.1]
    have hnn : nn σ2 fX3_nodes = nn σ1 fX3_nodes := nn_fr q4 (by decide)
    have hll : nn σ2 fX3_listed ≤ 1500 := by have := q1.2.2.2.2.2.2.2.1; omega
    have hnb : nn σ2 fX3_nodes ≤ 1500 := by have := q1.2.2.2.2.2.2.1; omega
    have ht2 := vt.keep q2.1 q2.2.1 hnb hll (nd1 + 1) a1 _ _ (by omega) ht
    exact po_bin IH (u := 2 + 4) (s := 0 + 1) hA q1 (hpr.trans q2) (by decide) (by decide) (by omega) ht2 (hn.trans hnn.symm) hd hd' hvb
  · have hq3 := hq2.2.2.2.1
    obtain ⟨σ3, d1, d2⟩ := hdm σ2 q hq2.2.1 (by omega)
    have hpd := hq2.dr d2 (by omega)
    obtain ⟨p, p1, p2⟩ := pd_node (k := is) (a := Int32.ofNat nd1) (b := -1) (c := of) hpd hpr.2.1 hpr.2.2 (by decide) hA.2.2.2.2.1
    show ∃ p, ((cr_ME d' km 0 0 0 σ2).bind _) = some p ∧ _
    rw [d1, Option.bind_some]
    exact ⟨p, p1, p2⟩
theorem msg_317 {tc tt om : Nat} {e : Nat} {x : Int32} (h : pjM n f σ tc fr tt om) (hq : tc = 1317) : cr_ME (e + 1) 3 x 0 0 σ = (m_X3_next σ).bind fun p1 => (cr_ME e 4 0 0 0 p1).bind fun p => m_X3_node 15 x p.1 317 p.2 := by
  have hv : σ.1 fX3_wordValue = 317 := by
    have := (h.2.1.2.2.2.2.2.2.1 (by omega) (by omega)).2
    rw [hq] at this
    exact this
  show m_X3_signed (cr_ME e) x σ = _
  unfold m_X3_signed
  rw [hv]
  cases m_X3_next σ with
  | none => rfl
  | some p1 =>
    rw [Option.bind_some, Option.bind_some, if_pos rfl]
    unfold m_X3_signed_23 m_X3_signed_73
    cases cr_ME e 4 0 0 0 p1 with
    | none => rfl
    | some p =>
      rw [Option.bind_some, Option.bind_some]
      cases m_X3_node 15 x p.1 317 p.2 <;> rfl
theorem msg_289 {tc tt om : Nat} {e : Nat} {x : Int32} (h : pjM n f σ tc fr tt om) (hq : tc = 1289) : cr_ME (e + 1) 3 x 0 0 σ = (m_X3_next σ).bind fun p1 => (cr_ME e 4 0 0 0 p1).bind fun p => m_X3_node 15 x p.1 289 p.2 := by
  have hv : σ.1 fX3_wordValue = 289 := by
    have := (h.2.1.2.2.2.2.2.2.1 (by omega) (by omega)).2
    rw [hq] at this
    exact this
  show m_X3_signed (cr_ME e) x σ = _
  unfold m_X3_signed
  rw [hv]
  cases m_X3_next σ with
  | none => rfl
  | some p1 =>
    rw [Option.bind_some, Option.bind_some, if_neg (by decide), if_pos rfl]
    unfold m_X3_signed_23 m_X3_signed_73
    cases cr_ME e 4 0 0 0 p1 with
    | none => rfl
    | some p =>
      rw [Option.bind_some, Option.bind_some]
      cases m_X3_node 15 x p.1 289 p.2 <;> rfl
theorem msg_60 {tc tt om : Nat} {e : Nat} {x : Int32} (h : pjM n f σ tc fr tt om) (hq : tc = 1060) : cr_ME (e + 1) 3 x 0 0 σ = (m_X3_next σ).bind fun p1 => (cr_ME e 5 0 0 0 p1).bind fun p => m_X3_node 15 x p.1 60 p.2 := by
  have hv : σ.1 fX3_wordValue = 60 := by
    have := (h.2.1.2.2.2.2.2.2.1 (by omega) (by omega)).2
    rw [hq] at this
    exact this
  show m_X3_signed (cr_ME e) x σ = _
  unfold m_X3_signed
  rw [hv]
  cases m_X3_next σ with
  | none => rfl
  | some p1 =>
    rw [Option.bind_some, Option.bind_some, if_neg (by decide), if_neg (by decide), if_pos rfl]
    unfold m_X3_signed_43 m_X3_signed_73
    cases cr_ME e 5 0 0 0 p1 with
    | none => rfl
    | some p =>
      rw [Option.bind_some, Option.bind_some]
      cases m_X3_node 15 x p.1 60 p.2 <;> rfl
theorem msg_316 {tc tt om : Nat} {e : Nat} {x : Int32} (h : pjM n f σ tc fr tt om) (hq : tc = 1316) : cr_ME (e + 1) 3 x 0 0 σ = (m_X3_next σ).bind fun p1 => (cr_ME e 5 0 0 0 p1).bind fun p => m_X3_node 15 x p.1 316 p.2 := by
  have hv : σ.1 fX3_wordValue = 316 := by
    have := (h.2.1.2.2.2.2.2.2.1 (by omega) (by omega)).2
    rw [hq] at this
    exact this
  show m_X3_signed (cr_ME e) x σ = _
  unfold m_X3_signed
  rw [hv]
  cases m_X3_next σ with
  | none => rfl
  | some p1 =>
    rw [Option.bind_some, Option.bind_some, if_neg (by decide), if_neg (by decide), if_neg (by decide), if_pos rfl]
    unfold m_X3_signed_43 m_X3_signed_73
    cases cr_ME e 5 0 0 0 p1 with
    | none => rfl
    | some p =>
      rw [Option.bind_some, Option.bind_some]
      cases m_X3_node 15 x p.1 316 p.2 <;> rfl
theorem msg_43 {tc tt om : Nat} {e : Nat} {x : Int32} (h : pjM n f σ tc fr tt om) (hq : tc = 1043) : cr_ME (e + 1) 3 x 0 0 σ = (m_X3_next σ).bind fun p1 => (cr_ME e 6 0 0 0 p1).bind fun p => m_X3_node 15 x p.1 43 p.2 := by
  have hv : σ.1 fX3_wordValue = 43 := by
    have := (h.2.1.2.2.2.2.2.2.1 (by omega) (by omega)).2
    rw [hq] at this
    exact this
  show m_X3_signed (cr_ME e) x σ = _
  unfold m_X3_signed
  rw [hv]
  cases m_X3_next σ with
  | none => rfl
  | some p1 =>
    rw [Option.bind_some, Option.bind_some, if_neg (by decide), if_neg (by decide), if_neg (by decide), if_neg (by decide), if_pos rfl]
    unfold m_X3_signed_62 m_X3_signed_73
    cases cr_ME e 6 0 0 0 p1 with
    | none => rfl
    | some p =>
      rw [Option.bind_some, Option.bind_some]
      cases m_X3_node 15 x p.1 43 p.2 <;> rfl
theorem msg_45 {tc tt om : Nat} {e : Nat} {x : Int32} (h : pjM n f σ tc fr tt om) (hq : tc = 1045) : cr_ME (e + 1) 3 x 0 0 σ = (m_X3_next σ).bind fun p1 => (cr_ME e 6 0 0 0 p1).bind fun p => m_X3_node 15 x p.1 45 p.2 := by
  have hv : σ.1 fX3_wordValue = 45 := by
    have := (h.2.1.2.2.2.2.2.2.1 (by omega) (by omega)).2
    rw [hq] at this
    exact this
  show m_X3_signed (cr_ME e) x σ = _
  unfold m_X3_signed
  rw [hv]
  cases m_X3_next σ with
  | none => rfl
  | some p1 =>
    rw [Option.bind_some, Option.bind_some, if_neg (by decide), if_neg (by decide), if_neg (by decide), if_neg (by decide), if_neg (by decide), if_pos rfl]
    unfold m_X3_signed_62 m_X3_signed_73
    cases cr_ME e 6 0 0 0 p1 with
    | none => rfl
    | some p =>
      rw [Option.bind_some, Option.bind_some]
      cases m_X3_node 15 x p.1 45 p.2 <;> rfl
theorem msg_42 {tc tt om : Nat} {e : Nat} {x : Int32} (h : pjM n f σ tc fr tt om) (hq : tc = 1042) : cr_ME (e + 1) 3 x 0 0 σ = (m_X3_next σ).bind fun p1 => (cr_ME e 7 0 0 0 p1).bind fun p => m_X3_node 15 x p.1 42 p.2 := by
  have hv : σ.1 fX3_wordValue = 42 := by
    have := (h.2.1.2.2.2.2.2.2.1 (by omega) (by omega)).2
    rw [hq] at this
    exact this
  show m_X3_signed (cr_ME e) x σ = _
  unfold m_X3_signed
  rw [hv]
  cases m_X3_next σ with
  | none => rfl
  | some p1 =>
    rw [Option.bind_some, Option.bind_some, if_neg (by decide), if_neg (by decide), if_neg (by decide), if_neg (by decide), if_neg (by decide), if_neg (by decide)]
    unfold m_X3_signed_73
    cases cr_ME e 7 0 0 0 p1 with
    | none => rfl
    | some p =>
      rw [Option.bind_some, Option.bind_some]
      cases m_X3_node 15 x p.1 42 p.2 <;> rfl
theorem msg_47 {tc tt om : Nat} {e : Nat} {x : Int32} (h : pjM n f σ tc fr tt om) (hq : tc = 1047) : cr_ME (e + 1) 3 x 0 0 σ = (m_X3_next σ).bind fun p1 => (cr_ME e 7 0 0 0 p1).bind fun p => m_X3_node 15 x p.1 47 p.2 := by
  have hv : σ.1 fX3_wordValue = 47 := by
    have := (h.2.1.2.2.2.2.2.2.1 (by omega) (by omega)).2
    rw [hq] at this
    exact this
  show m_X3_signed (cr_ME e) x σ = _
  unfold m_X3_signed
  rw [hv]
  cases m_X3_next σ with
  | none => rfl
  | some p1 =>
    rw [Option.bind_some, Option.bind_some, if_neg (by decide), if_neg (by decide), if_neg (by decide), if_neg (by decide), if_neg (by decide), if_neg (by decide)]
    unfold m_X3_signed_73
    cases cr_ME e 7 0 0 0 p1 with
    | none => rfl
    | some p =>
      rw [Option.bind_some, Option.bind_some]
      cases m_X3_node 15 x p.1 47 p.2 <;> rfl
theorem msg_37 {tc tt om : Nat} {e : Nat} {x : Int32} (h : pjM n f σ tc fr tt om) (hq : tc = 1037) : cr_ME (e + 1) 3 x 0 0 σ = (m_X3_next σ).bind fun p1 => (cr_ME e 7 0 0 0 p1).bind fun p => m_X3_node 15 x p.1 37 p.2 := by
  have hv : σ.1 fX3_wordValue = 37 := by
    have := (h.2.1.2.2.2.2.2.2.1 (by omega) (by omega)).2
    rw [hq] at this
    exact this
  show m_X3_signed (cr_ME e) x σ = _
  unfold m_X3_signed
  rw [hv]
  cases m_X3_next σ with
  | none => rfl
  | some p1 =>
    rw [Option.bind_some, Option.bind_some, if_neg (by decide), if_neg (by decide), if_neg (by decide), if_neg (by decide), if_neg (by decide), if_neg (by decide)]
    unfold m_X3_signed_73
    cases cr_ME e 7 0 0 0 p1 with
    | none => rfl
    | some p =>
      rw [Option.bind_some, Option.bind_some]
      cases m_X3_node 15 x p.1 37 p.2 <;> rfl
end EX
