/-! LEVEL B: the component's constructor; where its own cells lie -/
set_option maxRecDepth 100000
section B2
variable {w : ch_W} {a k t n : Nat} {β : Type}
theorem d_nA {f : ch_W → Option β} (hn : n < 2 ^ 31) (h1 : ch_cs w + 1 ≤ 601024) (h2 : ch_sl w + n ≤ 7293034) : (ch_nA w t (Int32.ofNat n)).bind f = f (ch_nw w (ch_new t n)) := by rw [b_nA hn h1 h2]; rfl
theorem d_nO {f : ch_W → Option β} (h1 : ch_cs w + 1 ≤ 601024) (h2 : ch_sl w + n ≤ 7293034) : (ch_nO w t n).bind f = f (ch_nw w (ch_new t n)) := by rw [b_nO h1 h2]; rfl
theorem d_pR {f : ch_W → Option β} {v : Option Nat} (h : ch_tg w a = t) : (ch_pR w (some a) t k v).bind f = f (ch_sr w a k v) := by rw [b_pR h]; rfl
theorem d_pI {f : ch_W → Option β} {v : Int32} (h : ch_tg w a = t) : (ch_pI w (some a) t k v).bind f = f (ch_si w a k v) := by rw [b_pI h]; rfl
theorem d_pL {f : ch_W → Option β} {v : Int64} (h : ch_tg w a = t) : (ch_pL w (some a) t k v).bind f = f (ch_sL w a k v) := by rw [b_pL h]; rfl
theorem d_gI {f : Int32 → Option β} (h : ch_tg w a = t) : (ch_gI w (some a) t k).bind f = f (ch_gi w a k) := by rw [b_gI h]; rfl
theorem d_gR {f : Option Nat → Option β} (h : ch_tg w a = t) : (ch_gR w (some a) t k).bind f = f (ch_gr w a k) := by rw [b_gR h]; rfl
theorem d_gL {f : Int64 → Option β} (h : ch_tg w a = t) : (ch_gL w (some a) t k).bind f = f (ch_gl w a k) := by rw [b_gL h]; rfl
theorem d_rc {f : Nat → Option β} (h : ch_tg w a = t) : (ch_rc w (some a) t).bind f = f a := by rw [b_rc h]; rfl
end B2
/-- where the component's own cells lie, from G on: tags, lengths, references that stay -/
def bc_tag (G : Nat) (w : ch_W) : Prop :=
  ch_tg w G = 1 ∧ ch_tg w (G + 1) = 22 ∧ ch_tg w (G + 2) = 2 ∧ ch_tg w (G + 3) = 24 ∧ ch_tg w (G + 4) = 24 ∧ ch_tg w (G + 5) = 24 ∧ ch_tg w (G + 6) = 26 ∧ ch_tg w (G + 7) = 21 ∧ ch_tg w (G + 8) = 21 ∧ ch_tg w (G + 9) = 21 ∧ ch_tg w (G + 10) = 21 ∧ ch_tg w (G + 11) = 3
def bc_len (G : Nat) (w : ch_W) : Prop :=
  ch_ln w (G + 1) = 3000 ∧ ch_ln w (G + 3) = 11600 ∧ ch_ln w (G + 4) = 11600 ∧ ch_ln w (G + 5) = 160000 ∧ ch_ln w (G + 6) = 100 ∧ ch_ln w (G + 7) = 100 ∧ ch_ln w (G + 8) = 100 ∧ ch_ln w (G + 9) = 300 ∧ ch_ln w (G + 10) = 500
def bc_ref (G : Nat) (w : ch_W) : Prop :=
  ch_gr w G fX0_tape = some (G + 1) ∧ ch_gr w G fX0_machine = some (G + 2) ∧ ch_gr w (G + 2) fX1_pile = some (G + 5) ∧ ch_gr w (G + 2) fX1_methods = some (G + 6) ∧ ch_gr w (G + 2) fX1_places = some (G + 7) ∧ ch_gr w (G + 2) fX1_bases = some (G + 8) ∧ ch_gr w (G + 2) fX1_given = some (G + 9) ∧ ch_gr w (G + 2) fX1_outputs = some (G + 10) ∧ ch_gr w (G + 2) fX1_flying = some (G + 11) ∧
  ((ch_gr w (G + 2) fX1_heap = some (G + 3) ∧ ch_gr w (G + 2) fX1_other = some (G + 4)) ∨ (ch_gr w (G + 2) fX1_heap = some (G + 4) ∧ ch_gr w (G + 2) fX1_other = some (G + 3)))
/-- behind the constructor -/
def bc_new (G : Nat) (w : ch_W) : Prop :=
  bc_tag G w ∧ bc_len G w ∧ bc_ref G w ∧ ch_gr w G fX0_program = none ∧ ch_gi w G fX0_fed = 0 ∧ ch_gi w G fX0_isBegun = 0 ∧ ch_gi w G fX0_cells = 1000 ∧ ch_gi w (G + 2) fX1_givenFirst = 0 ∧ ch_gi w (G + 2) fX1_givenMany = 0
theorem cs_thrb {g : State} {w : ch_W} {a : Nat} {β : Type} {f : ch_W → Option β} (h : ch_tg w a = 3) (h4 : ch_gr w a 4 = none) : (c_X2_init g a w).bind f = f (ch_sr (ch_sr (ch_sr w a 0 (some a)) a 1 (ch_stU g)) a 2 (ch_stP g)) := by
  unfold c_X2_init ch_thr
  show ((if ch_tg w a = 3 ∧ ch_gr w a 4 = none then _ else _ : Option ch_W).bind _).bind f = _
  rw [if_pos ⟨h, h4⟩]
  rfl
theorem cs_bnd {α β : Type} {x : Option α} {f : α → Option β} {b : α} (h : x = some b) : x.bind f = f b := by rw [h]; rfl
theorem bc_init {g : State} {w : ch_W} (h1 : ch_cs w + 100 ≤ 601024) (h2 : ch_sl w + 300000 ≤ 7293034) :
    ∃ w2, c_X0_init g (ch_nx w) (ch_nw w (ch_new 1 7)) = some w2 ∧ bc_new (ch_nx w) w2 ∧ (∀ a : Nat, a < ch_nx w → w2.1 a = w.1 a) ∧ ch_nx w2 = ch_nx w + 12 ∧ ch_cs w2 = ch_cs w + 12 ∧ ch_sl w2 = ch_sl w + 187336 := by
  apply Exists.intro
  constructor
  · unfold c_X0_init
    refine (d_nA (n := 3000) (by decide) (by simp only [b_cN, b_cR, b_cI]; omega) (by simp only [b_sN, b_sR, b_sI, ch_new]; omega)).trans ?_
    refine (d_pR (by simp [b_tN, b_tR, b_tI, b_xN, b_xR, b_xI, ch_new, Nat.add_assoc])).trans ?_
    refine (d_pI (by simp [b_tN, b_tR, b_tI, b_xN, b_xR, b_xI, ch_new, Nat.add_assoc])).trans ?_
    refine (d_nO (by simp only [b_cN, b_cR, b_cI]; omega) (by simp only [b_sN, b_sR, b_sI, ch_new]; omega)).trans ?_
    refine (cs_bnd (b := ?bb) ?hh).trans ?rr
    case hh =>
      unfold c_X1_init
      refine (d_nA (n := 11600) (by decide) (by simp only [b_cN, b_cR, b_cI]; omega) (by simp only [b_sN, b_sR, b_sI, ch_new]; omega)).trans ?_
      refine (d_pR (by simp [b_tN, b_tR, b_tI, b_xN, b_xR, b_xI, ch_new, Nat.add_assoc])).trans ?_
      refine (d_nA (n := 11600) (by decide) (by simp only [b_cN, b_cR, b_cI]; omega) (by simp only [b_sN, b_sR, b_sI, ch_new]; omega)).trans ?_
      refine (d_pR (by simp [b_tN, b_tR, b_tI, b_xN, b_xR, b_xI, ch_new, Nat.add_assoc])).trans ?_
      refine (d_nA (n := 160000) (by decide) (by simp only [b_cN, b_cR, b_cI]; omega) (by simp only [b_sN, b_sR, b_sI, ch_new]; omega)).trans ?_
      refine (d_pR (by simp [b_tN, b_tR, b_tI, b_xN, b_xR, b_xI, ch_new, Nat.add_assoc])).trans ?_
      refine (d_nA (n := 100) (by decide) (by simp only [b_cN, b_cR, b_cI]; omega) (by simp only [b_sN, b_sR, b_sI, ch_new]; omega)).trans ?_
      refine (d_pR (by simp [b_tN, b_tR, b_tI, b_xN, b_xR, b_xI, ch_new, Nat.add_assoc])).trans ?_
      refine (d_nA (n := 100) (by decide) (by simp only [b_cN, b_cR, b_cI]; omega) (by simp only [b_sN, b_sR, b_sI, ch_new]; omega)).trans ?_
      refine (d_pR (by simp [b_tN, b_tR, b_tI, b_xN, b_xR, b_xI, ch_new, Nat.add_assoc])).trans ?_
      refine (d_nA (n := 100) (by decide) (by simp only [b_cN, b_cR, b_cI]; omega) (by simp only [b_sN, b_sR, b_sI, ch_new]; omega)).trans ?_
      refine (d_pR (by simp [b_tN, b_tR, b_tI, b_xN, b_xR, b_xI, ch_new, Nat.add_assoc])).trans ?_
      refine (d_nA (n := 300) (by decide) (by simp only [b_cN, b_cR, b_cI]; omega) (by simp only [b_sN, b_sR, b_sI, ch_new]; omega)).trans ?_
      refine (d_pR (by simp [b_tN, b_tR, b_tI, b_xN, b_xR, b_xI, ch_new, Nat.add_assoc])).trans ?_
      refine (d_nA (n := 500) (by decide) (by simp only [b_cN, b_cR, b_cI]; omega) (by simp only [b_sN, b_sR, b_sI, ch_new]; omega)).trans ?_
      refine (d_pR (by simp [b_tN, b_tR, b_tI, b_xN, b_xR, b_xI, ch_new, Nat.add_assoc])).trans ?_
      refine (d_nO (by simp only [b_cN, b_cR, b_cI]; omega) (by simp only [b_sN, b_sR, b_sI, ch_new]; omega)).trans ?_
      refine (cs_thrb (by simp [b_tN, b_tR, b_tI, b_xN, b_xR, b_xI, ch_new, Nat.add_assoc]) (by simp [b_RN, b_RR, b_RI, b_xN, b_xR, b_xI, ch_new, Nat.add_assoc])).trans ?_
      refine (d_pR (by simp [b_tN, b_tR, b_tI, b_xN, b_xR, b_xI, ch_new, Nat.add_assoc])).trans ?_
      rfl
    refine (d_pR (by simp [b_tN, b_tR, b_tI, b_xN, b_xR, b_xI, ch_new, Nat.add_assoc])).trans ?_
    rfl
  · refine ⟨⟨⟨?_, ?_, ?_, ?_, ?_, ?_, ?_, ?_, ?_, ?_, ?_, ?_⟩, ⟨?_, ?_, ?_, ?_, ?_, ?_, ?_, ?_, ?_⟩, ⟨?_, ?_, ?_, ?_, ?_, ?_, ?_, ?_, ?_, Or.inl ⟨?_, ?_⟩⟩, ?_, ?_, ?_, ?_, ?_, ?_⟩, fun a ha => ?_, ?_, ?_, ?_⟩
    all_goals first
      | (simp [b_tN, b_tR, b_tI, b_nN, b_nR, b_nI, b_RN, b_RR, b_RI, b_IN, b_II, b_IR, b_xN, b_xR, b_xI, b_cN, b_cR, b_cI, ch_new, Nat.add_assoc, fX0_tape, fX0_fed, fX0_program, fX0_kinds, fX0_cells, fX0_machine, fX0_isBegun, fX1_kinds, fX1_size, fX1_heap, fX1_other, fX1_used, fX1_pile, fX1_top, fX1_methods, fX1_places, fX1_bases, fX1_open, fX1_given, fX1_givenFirst, fX1_givenMany, fX1_outputs, fX1_printed, fX1_steps, fX1_made, fX1_thrown, fX1_ended, fX1_result, fX1_flying]; done)
      | (simp only [b_sN, b_sR, b_sI, ch_new]; done)
      | (simp only [b_sN, b_sR, b_sI, ch_new]; omega)
      | skip
    rw [b_oR (by first | omega | (simp only [b_xN, b_xR, b_xI]; omega))]
    repeat (first | rw [b_oR (by first | omega | (simp only [b_xN, b_xR, b_xI]; omega))] | rw [b_oI (by first | omega | (simp only [b_xN, b_xR, b_xI]; omega))] | rw [b_oN (by first | omega | (simp only [b_xN, b_xR, b_xI]; omega))])
