/-! LEVEL B1: feed (printed by tools/mkfeed.py) -/
set_option maxRecDepth 100000
def bt_ms1 (σ : ch_S) (n : Nat) (v : Int32) : ch_S := (va_up σ.1 fX3_taped (Int32.ofNat (n + 1)), va_up σ.2 fX3_tape (va_up (σ.2 fX3_tape) n v))
theorem bt_step {G n : Nat} {w : ch_W} {σ : ch_S} {c v : Int32} (h : bt_tape G w σ n) (hn : n < 3000) (hb : br c v) : bt_tape G (bt_put1 G w n c) (bt_ms1 σ n v) (n + 1) := by
  obtain ⟨h1, h2, h3, h4⟩ := h
  refine ⟨bt_put1_fed, ?_, by omega, fun i hi => ?_⟩
  · simp [bt_ms1, va_up]
  · have e1 : ch_gi (bt_put1 G w n c) (G + 1) i = if i = n then c else ch_gi w (G + 1) i := by
      unfold bt_put1
      rw [b_II, if_neg (by omega), b_II]
      by_cases q : i = n
      · rw [if_pos ⟨rfl, q⟩, if_pos q]
      · rw [if_neg (fun z => q z.2), if_neg q]
    have e2 : (bt_ms1 σ n v).2 fX3_tape i = if i = n then v else σ.2 fX3_tape i := by
      simp [bt_ms1, va_up]
    rw [e1, e2]
    by_cases q : i = n
    · rw [if_pos q, if_pos q]; exact hb
    · rw [if_neg q, if_neg q]; exact h4 i (by omega)
theorem bt_m71 {x1 x2 x3 x4 x5 x6 y : Int32} {σ : ch_S} {n : Nat} (ht : σ.1 fX3_taped = Int32.ofNat n) (hn : n < 3000) : m_X3_feed_71 x1 x2 x3 x4 x5 x6 y σ = some (.inl (x6 + 1, bt_ms1 σ n ((y >>> ((24 - (8 * (x6 - x6 / 4 * 4))) &&& 31)) &&& 255))) := by
  unfold m_X3_feed_71
  have e0 : ch_nz 4 = some 4 := rfl
  rw [e0, Option.bind_some, ht, d_mw (by show n < 3000; exact hn) (by show 3000 ≤ 2 ^ 31; decide), d_mI]
  have e : Int32.ofNat n + 1 = Int32.ofNat (n + 1) := bn_add (b := 1)
  show some (Sum.inl (x6 + 1, (va_up σ.1 fX3_taped (σ.1 fX3_taped + 1), _))) = _
  rw [ht, e]
  rfl
/-- the component's cells but tape and fed stay; the model's fields but tape and taped -/
def bt_frW (G : Nat) (w w1 : ch_W) : Prop := (∀ a : Nat, a ≠ G → a ≠ G + 1 → w1.1 a = w.1 a) ∧ (∀ a : Nat, ch_tg w1 a = ch_tg w a) ∧ (∀ a : Nat, ch_ln w1 a = ch_ln w a) ∧ (∀ a k : Nat, ch_gr w1 a k = ch_gr w a k) ∧ (∀ k : Nat, k ≠ fX0_fed → ch_gi w1 G k = ch_gi w G k) ∧ w1.2 = w.2
def bt_frM (σ σ1 : ch_S) : Prop := (∀ k : Nat, k ≠ fX3_taped → σ1.1 k = σ.1 k) ∧ ∀ k : Nat, k ≠ fX3_tape → σ1.2 k = σ.2 k
theorem bt_frW0 {G : Nat} {w : ch_W} : bt_frW G w w := ⟨fun _ _ _ => rfl, fun _ => rfl, fun _ => rfl, fun _ _ => rfl, fun _ _ => rfl, rfl⟩
theorem bt_frM0 {σ : ch_S} : bt_frM σ σ := ⟨fun _ _ => rfl, fun _ _ => rfl⟩
theorem bt_frW1 {G n : Nat} {w w1 : ch_W} {c : Int32} (h : bt_frW G w w1) : bt_frW G w (bt_put1 G w1 n c) := by
  obtain ⟨h1, h2, h3, h4, h5, h6⟩ := h
  refine ⟨fun a q1 q2 => ?_, fun a => ?_, fun a => ?_, fun a k => ?_, fun k hk => ?_, h6⟩
  · unfold bt_put1; rw [b_oI q1, b_oI q2]; exact h1 a q1 q2
  · unfold bt_put1; rw [b_tI, b_tI]; exact h2 a
  · unfold bt_put1; rw [b_nI, b_nI]; exact h3 a
  · unfold bt_put1; rw [b_RI, b_RI]; exact h4 a k
  · unfold bt_put1; rw [b_II, if_neg (fun q => hk q.2), b_II, if_neg (by omega)]; exact h5 k hk
theorem bt_frM1 {n : Nat} {σ σ1 : ch_S} {c : Int32} (h : bt_frM σ σ1) : bt_frM σ (bt_ms1 σ1 n c) := by
  refine ⟨fun k hk => ?_, fun k hk => ?_⟩
  · simp only [bt_ms1, va_up, if_neg hk]; exact h.1 k hk
  · simp only [bt_ms1, va_up, if_neg hk]; exact h.2 k hk
/-- what goes along with the tape -/
def bt_L (G : Nat) (w : ch_W) : Prop := bc_tag G w ∧ bc_len G w ∧ bc_ref G w
theorem bt_L1 {G n : Nat} {w : ch_W} {c : Int32} (h : bt_L G w) : bt_L G (bt_put1 G w n c) := ⟨bt_put1_tag h.1, bt_put1_len h.2.1, bt_put1_ref h.2.2⟩

def bt_put4 (G : Nat) (w : ch_W) (n : Nat) (x : Int32) : ch_W := bt_put1 G (bt_put1 G (bt_put1 G (bt_put1 G w n (Int32.toInt8 ((Int32.toInt8 (x >>> ((24 : Int32) &&& 31))).toInt32)).toInt32) (n + 1) (Int32.toInt8 ((Int32.toInt8 (x >>> ((16 : Int32) &&& 31))).toInt32)).toInt32) (n + 2) (Int32.toInt8 ((Int32.toInt8 (x >>> ((8 : Int32) &&& 31))).toInt32)).toInt32) (n + 3) (Int32.toInt8 ((Int32.toInt8 (x >>> ((0 : Int32) &&& 31))).toInt32)).toInt32
theorem bt_cput {G n : Nat} {w : ch_W} {x : Int32} (hL : bt_L G w) (hf : ch_gi w G fX0_fed = Int32.ofNat n) (hn : n + 4 ≤ 3000) : c_X0_put G x w = some (bt_put4 G w n x) := by
  unfold c_X0_put
  have s1 := bt_c3 (x := x) (k := 24) hL.1 hL.2.1 hL.2.2 hf (by omega) (by decide)
  have L1 := bt_L1 (n := n) (c := (Int32.toInt8 ((Int32.toInt8 (x >>> ((24 : Int32) &&& 31))).toInt32)).toInt32) hL
  have s2 := bt_c3 (x := x) (k := 16) L1.1 L1.2.1 L1.2.2 bt_put1_fed (by omega) (by decide)
  have L2 := bt_L1 (n := n + 1) (c := (Int32.toInt8 ((Int32.toInt8 (x >>> ((16 : Int32) &&& 31))).toInt32)).toInt32) L1
  have s3 := bt_c3 (x := x) (k := 8) L2.1 L2.2.1 L2.2.2 bt_put1_fed (by omega) (by decide)
  have L3 := bt_L1 (n := n + 2) (c := (Int32.toInt8 ((Int32.toInt8 (x >>> ((8 : Int32) &&& 31))).toInt32)).toInt32) L2
  have s4 := bt_c3 (x := x) (k := 0) L3.1 L3.2.1 L3.2.2 bt_put1_fed (by omega) (by decide)
  refine (ch_loop_inl s1).trans ((ch_loop_inl s2).trans ((ch_loop_inl s3).trans ((ch_loop_inl s4).trans (ch_loop_inr ?_))))
  show c_X0_put_3 G x (-8) _ = _
  unfold c_X0_put_3
  rw [if_pos (by decide)]
  rfl
def bt_ms4 (σ : ch_S) (n : Nat) (y : Int32) : ch_S := bt_ms1 (bt_ms1 (bt_ms1 (bt_ms1 σ n ((y >>> ((24 : Int32) &&& 31)) &&& 255)) (n + 1) ((y >>> ((16 : Int32) &&& 31)) &&& 255)) (n + 2) ((y >>> ((8 : Int32) &&& 31)) &&& 255)) (n + 3) ((y >>> ((0 : Int32) &&& 31)) &&& 255)
theorem bt_step4 {G n : Nat} {w : ch_W} {σ : ch_S} {x : Int32} (h : bt_tape G w σ n) (hn : n + 4 ≤ 3000) : bt_tape G (bt_put4 G w n x) (bt_ms4 σ n x) (n + 4) :=
  bt_step (bt_step (bt_step (bt_step h (by omega) (br_of _)) (by omega) (br_of _)) (by omega) (br_of _)) (by omega) (br_of _)
theorem bt_ms1_t {σ : ch_S} {n : Nat} {v : Int32} : (bt_ms1 σ n v).1 fX3_taped = Int32.ofNat (n + 1) := by simp [bt_ms1, va_up]
theorem bt_mq0 {x1 x2 x3 x4 x5 : Int32} {σ : ch_S} {n : Nat} (ht : σ.1 fX3_taped = Int32.ofNat n) (hn : n + 4 ≤ 3000) : ch_loop (fun (s : Int32 × ch_S) => m_X3_feed_18 x1 x2 x3 x4 x5 s.1 s.2) (0, σ) = ch_loop (fun (s : Int32 × ch_S) => m_X3_feed_18 x1 x2 x3 x4 x5 s.1 s.2) (4, bt_ms4 σ n x1) := by
  have s0 : ∀ (τ : ch_S) (p : Nat), τ.1 fX3_taped = Int32.ofNat p → p < 3000 → m_X3_feed_18 x1 x2 x3 x4 x5 0 τ = some (.inl (1, bt_ms1 τ p ((x1 >>> ((24 : Int32) &&& 31)) &&& 255))) := by
    intro τ p h1 h2
    unfold m_X3_feed_18
    rw [if_pos (show (0 : Int32) < 20 by decide), if_pos (show (0 : Int32) < 4 by decide), bt_m71 h1 h2]
    rfl
  have s1 : ∀ (τ : ch_S) (p : Nat), τ.1 fX3_taped = Int32.ofNat p → p < 3000 → m_X3_feed_18 x1 x2 x3 x4 x5 1 τ = some (.inl (2, bt_ms1 τ p ((x1 >>> ((16 : Int32) &&& 31)) &&& 255))) := by
    intro τ p h1 h2
    unfold m_X3_feed_18
    rw [if_pos (show (1 : Int32) < 20 by decide), if_pos (show (1 : Int32) < 4 by decide), bt_m71 h1 h2]
    rfl
  have s2 : ∀ (τ : ch_S) (p : Nat), τ.1 fX3_taped = Int32.ofNat p → p < 3000 → m_X3_feed_18 x1 x2 x3 x4 x5 2 τ = some (.inl (3, bt_ms1 τ p ((x1 >>> ((8 : Int32) &&& 31)) &&& 255))) := by
    intro τ p h1 h2
    unfold m_X3_feed_18
    rw [if_pos (show (2 : Int32) < 20 by decide), if_pos (show (2 : Int32) < 4 by decide), bt_m71 h1 h2]
    rfl
  have s3 : ∀ (τ : ch_S) (p : Nat), τ.1 fX3_taped = Int32.ofNat p → p < 3000 → m_X3_feed_18 x1 x2 x3 x4 x5 3 τ = some (.inl (4, bt_ms1 τ p ((x1 >>> ((0 : Int32) &&& 31)) &&& 255))) := by
    intro τ p h1 h2
    unfold m_X3_feed_18
    rw [if_pos (show (3 : Int32) < 20 by decide), if_pos (show (3 : Int32) < 4 by decide), bt_m71 h1 h2]
    rfl
  exact (ch_loop_inl (s0 σ n ht (by omega))).trans ((ch_loop_inl (s1 _ (n + 1) bt_ms1_t (by omega))).trans ((ch_loop_inl (s2 _ (n + 2) bt_ms1_t (by omega))).trans (ch_loop_inl (s3 _ (n + 3) bt_ms1_t (by omega)))))
theorem bt_mq1 {x1 x2 x3 x4 x5 : Int32} {σ : ch_S} {n : Nat} (ht : σ.1 fX3_taped = Int32.ofNat n) (hn : n + 4 ≤ 3000) : ch_loop (fun (s : Int32 × ch_S) => m_X3_feed_18 x1 x2 x3 x4 x5 s.1 s.2) (4, σ) = ch_loop (fun (s : Int32 × ch_S) => m_X3_feed_18 x1 x2 x3 x4 x5 s.1 s.2) (8, bt_ms4 σ n x2) := by
  have s0 : ∀ (τ : ch_S) (p : Nat), τ.1 fX3_taped = Int32.ofNat p → p < 3000 → m_X3_feed_18 x1 x2 x3 x4 x5 4 τ = some (.inl (5, bt_ms1 τ p ((x2 >>> ((24 : Int32) &&& 31)) &&& 255))) := by
    intro τ p h1 h2
    unfold m_X3_feed_18
    rw [if_pos (show (4 : Int32) < 20 by decide), if_neg (show ¬ (4 : Int32) < 4 by decide), if_pos (show (4 : Int32) < 8 by decide), bt_m71 h1 h2]
    rfl
  have s1 : ∀ (τ : ch_S) (p : Nat), τ.1 fX3_taped = Int32.ofNat p → p < 3000 → m_X3_feed_18 x1 x2 x3 x4 x5 5 τ = some (.inl (6, bt_ms1 τ p ((x2 >>> ((16 : Int32) &&& 31)) &&& 255))) := by
    intro τ p h1 h2
    unfold m_X3_feed_18
    rw [if_pos (show (5 : Int32) < 20 by decide), if_neg (show ¬ (5 : Int32) < 4 by decide), if_pos (show (5 : Int32) < 8 by decide), bt_m71 h1 h2]
    rfl
  have s2 : ∀ (τ : ch_S) (p : Nat), τ.1 fX3_taped = Int32.ofNat p → p < 3000 → m_X3_feed_18 x1 x2 x3 x4 x5 6 τ = some (.inl (7, bt_ms1 τ p ((x2 >>> ((8 : Int32) &&& 31)) &&& 255))) := by
    intro τ p h1 h2
    unfold m_X3_feed_18
    rw [if_pos (show (6 : Int32) < 20 by decide), if_neg (show ¬ (6 : Int32) < 4 by decide), if_pos (show (6 : Int32) < 8 by decide), bt_m71 h1 h2]
    rfl
  have s3 : ∀ (τ : ch_S) (p : Nat), τ.1 fX3_taped = Int32.ofNat p → p < 3000 → m_X3_feed_18 x1 x2 x3 x4 x5 7 τ = some (.inl (8, bt_ms1 τ p ((x2 >>> ((0 : Int32) &&& 31)) &&& 255))) := by
    intro τ p h1 h2
    unfold m_X3_feed_18
    rw [if_pos (show (7 : Int32) < 20 by decide), if_neg (show ¬ (7 : Int32) < 4 by decide), if_pos (show (7 : Int32) < 8 by decide), bt_m71 h1 h2]
    rfl
  exact (ch_loop_inl (s0 σ n ht (by omega))).trans ((ch_loop_inl (s1 _ (n + 1) bt_ms1_t (by omega))).trans ((ch_loop_inl (s2 _ (n + 2) bt_ms1_t (by omega))).trans (ch_loop_inl (s3 _ (n + 3) bt_ms1_t (by omega)))))
theorem bt_mq2 {x1 x2 x3 x4 x5 : Int32} {σ : ch_S} {n : Nat} (ht : σ.1 fX3_taped = Int32.ofNat n) (hn : n + 4 ≤ 3000) : ch_loop (fun (s : Int32 × ch_S) => m_X3_feed_18 x1 x2 x3 x4 x5 s.1 s.2) (8, σ) = ch_loop (fun (s : Int32 × ch_S) => m_X3_feed_18 x1 x2 x3 x4 x5 s.1 s.2) (12, bt_ms4 σ n x3) := by
  have s0 : ∀ (τ : ch_S) (p : Nat), τ.1 fX3_taped = Int32.ofNat p → p < 3000 → m_X3_feed_18 x1 x2 x3 x4 x5 8 τ = some (.inl (9, bt_ms1 τ p ((x3 >>> ((24 : Int32) &&& 31)) &&& 255))) := by
    intro τ p h1 h2
    unfold m_X3_feed_18
    rw [if_pos (show (8 : Int32) < 20 by decide), if_neg (show ¬ (8 : Int32) < 4 by decide), if_neg (show ¬ (8 : Int32) < 8 by decide), if_pos (show (8 : Int32) < 12 by decide), bt_m71 h1 h2]
    rfl
  have s1 : ∀ (τ : ch_S) (p : Nat), τ.1 fX3_taped = Int32.ofNat p → p < 3000 → m_X3_feed_18 x1 x2 x3 x4 x5 9 τ = some (.inl (10, bt_ms1 τ p ((x3 >>> ((16 : Int32) &&& 31)) &&& 255))) := by
    intro τ p h1 h2
    unfold m_X3_feed_18
    rw [if_pos (show (9 : Int32) < 20 by decide), if_neg (show ¬ (9 : Int32) < 4 by decide), if_neg (show ¬ (9 : Int32) < 8 by decide), if_pos (show (9 : Int32) < 12 by decide), bt_m71 h1 h2]
    rfl
  have s2 : ∀ (τ : ch_S) (p : Nat), τ.1 fX3_taped = Int32.ofNat p → p < 3000 → m_X3_feed_18 x1 x2 x3 x4 x5 10 τ = some (.inl (11, bt_ms1 τ p ((x3 >>> ((8 : Int32) &&& 31)) &&& 255))) := by
    intro τ p h1 h2
    unfold m_X3_feed_18
    rw [if_pos (show (10 : Int32) < 20 by decide), if_neg (show ¬ (10 : Int32) < 4 by decide), if_neg (show ¬ (10 : Int32) < 8 by decide), if_pos (show (10 : Int32) < 12 by decide), bt_m71 h1 h2]
    rfl
  have s3 : ∀ (τ : ch_S) (p : Nat), τ.1 fX3_taped = Int32.ofNat p → p < 3000 → m_X3_feed_18 x1 x2 x3 x4 x5 11 τ = some (.inl (12, bt_ms1 τ p ((x3 >>> ((0 : Int32) &&& 31)) &&& 255))) := by
    intro τ p h1 h2
    unfold m_X3_feed_18
    rw [if_pos (show (11 : Int32) < 20 by decide), if_neg (show ¬ (11 : Int32) < 4 by decide), if_neg (show ¬ (11 : Int32) < 8 by decide), if_pos (show (11 : Int32) < 12 by decide), bt_m71 h1 h2]
    rfl
  exact (ch_loop_inl (s0 σ n ht (by omega))).trans ((ch_loop_inl (s1 _ (n + 1) bt_ms1_t (by omega))).trans ((ch_loop_inl (s2 _ (n + 2) bt_ms1_t (by omega))).trans (ch_loop_inl (s3 _ (n + 3) bt_ms1_t (by omega)))))
theorem bt_mq3 {x1 x2 x3 x4 x5 : Int32} {σ : ch_S} {n : Nat} (ht : σ.1 fX3_taped = Int32.ofNat n) (hn : n + 4 ≤ 3000) : ch_loop (fun (s : Int32 × ch_S) => m_X3_feed_18 x1 x2 x3 x4 x5 s.1 s.2) (12, σ) = ch_loop (fun (s : Int32 × ch_S) => m_X3_feed_18 x1 x2 x3 x4 x5 s.1 s.2) (16, bt_ms4 σ n x4) := by
  have s0 : ∀ (τ : ch_S) (p : Nat), τ.1 fX3_taped = Int32.ofNat p → p < 3000 → m_X3_feed_18 x1 x2 x3 x4 x5 12 τ = some (.inl (13, bt_ms1 τ p ((x4 >>> ((24 : Int32) &&& 31)) &&& 255))) := by
    intro τ p h1 h2
    unfold m_X3_feed_18
    rw [if_pos (show (12 : Int32) < 20 by decide), if_neg (show ¬ (12 : Int32) < 4 by decide), if_neg (show ¬ (12 : Int32) < 8 by decide), if_neg (show ¬ (12 : Int32) < 12 by decide), if_pos (show (12 : Int32) < 16 by decide), bt_m71 h1 h2]
    rfl
  have s1 : ∀ (τ : ch_S) (p : Nat), τ.1 fX3_taped = Int32.ofNat p → p < 3000 → m_X3_feed_18 x1 x2 x3 x4 x5 13 τ = some (.inl (14, bt_ms1 τ p ((x4 >>> ((16 : Int32) &&& 31)) &&& 255))) := by
    intro τ p h1 h2
    unfold m_X3_feed_18
    rw [if_pos (show (13 : Int32) < 20 by decide), if_neg (show ¬ (13 : Int32) < 4 by decide), if_neg (show ¬ (13 : Int32) < 8 by decide), if_neg (show ¬ (13 : Int32) < 12 by decide), if_pos (show (13 : Int32) < 16 by decide), bt_m71 h1 h2]
    rfl
  have s2 : ∀ (τ : ch_S) (p : Nat), τ.1 fX3_taped = Int32.ofNat p → p < 3000 → m_X3_feed_18 x1 x2 x3 x4 x5 14 τ = some (.inl (15, bt_ms1 τ p ((x4 >>> ((8 : Int32) &&& 31)) &&& 255))) := by
    intro τ p h1 h2
    unfold m_X3_feed_18
    rw [if_pos (show (14 : Int32) < 20 by decide), if_neg (show ¬ (14 : Int32) < 4 by decide), if_neg (show ¬ (14 : Int32) < 8 by decide), if_neg (show ¬ (14 : Int32) < 12 by decide), if_pos (show (14 : Int32) < 16 by decide), bt_m71 h1 h2]
    rfl
  have s3 : ∀ (τ : ch_S) (p : Nat), τ.1 fX3_taped = Int32.ofNat p → p < 3000 → m_X3_feed_18 x1 x2 x3 x4 x5 15 τ = some (.inl (16, bt_ms1 τ p ((x4 >>> ((0 : Int32) &&& 31)) &&& 255))) := by
    intro τ p h1 h2
    unfold m_X3_feed_18
    rw [if_pos (show (15 : Int32) < 20 by decide), if_neg (show ¬ (15 : Int32) < 4 by decide), if_neg (show ¬ (15 : Int32) < 8 by decide), if_neg (show ¬ (15 : Int32) < 12 by decide), if_pos (show (15 : Int32) < 16 by decide), bt_m71 h1 h2]
    rfl
  exact (ch_loop_inl (s0 σ n ht (by omega))).trans ((ch_loop_inl (s1 _ (n + 1) bt_ms1_t (by omega))).trans ((ch_loop_inl (s2 _ (n + 2) bt_ms1_t (by omega))).trans (ch_loop_inl (s3 _ (n + 3) bt_ms1_t (by omega)))))
theorem bt_mq4 {x1 x2 x3 x4 x5 : Int32} {σ : ch_S} {n : Nat} (ht : σ.1 fX3_taped = Int32.ofNat n) (hn : n + 4 ≤ 3000) : ch_loop (fun (s : Int32 × ch_S) => m_X3_feed_18 x1 x2 x3 x4 x5 s.1 s.2) (16, σ) = ch_loop (fun (s : Int32 × ch_S) => m_X3_feed_18 x1 x2 x3 x4 x5 s.1 s.2) (20, bt_ms4 σ n x5) := by
  have s0 : ∀ (τ : ch_S) (p : Nat), τ.1 fX3_taped = Int32.ofNat p → p < 3000 → m_X3_feed_18 x1 x2 x3 x4 x5 16 τ = some (.inl (17, bt_ms1 τ p ((x5 >>> ((24 : Int32) &&& 31)) &&& 255))) := by
    intro τ p h1 h2
    unfold m_X3_feed_18
    rw [if_pos (show (16 : Int32) < 20 by decide), if_neg (show ¬ (16 : Int32) < 4 by decide), if_neg (show ¬ (16 : Int32) < 8 by decide), if_neg (show ¬ (16 : Int32) < 12 by decide), if_neg (show ¬ (16 : Int32) < 16 by decide), bt_m71 h1 h2]
    rfl
  have s1 : ∀ (τ : ch_S) (p : Nat), τ.1 fX3_taped = Int32.ofNat p → p < 3000 → m_X3_feed_18 x1 x2 x3 x4 x5 17 τ = some (.inl (18, bt_ms1 τ p ((x5 >>> ((16 : Int32) &&& 31)) &&& 255))) := by
    intro τ p h1 h2
    unfold m_X3_feed_18
    rw [if_pos (show (17 : Int32) < 20 by decide), if_neg (show ¬ (17 : Int32) < 4 by decide), if_neg (show ¬ (17 : Int32) < 8 by decide), if_neg (show ¬ (17 : Int32) < 12 by decide), if_neg (show ¬ (17 : Int32) < 16 by decide), bt_m71 h1 h2]
    rfl
  have s2 : ∀ (τ : ch_S) (p : Nat), τ.1 fX3_taped = Int32.ofNat p → p < 3000 → m_X3_feed_18 x1 x2 x3 x4 x5 18 τ = some (.inl (19, bt_ms1 τ p ((x5 >>> ((8 : Int32) &&& 31)) &&& 255))) := by
    intro τ p h1 h2
    unfold m_X3_feed_18
    rw [if_pos (show (18 : Int32) < 20 by decide), if_neg (show ¬ (18 : Int32) < 4 by decide), if_neg (show ¬ (18 : Int32) < 8 by decide), if_neg (show ¬ (18 : Int32) < 12 by decide), if_neg (show ¬ (18 : Int32) < 16 by decide), bt_m71 h1 h2]
    rfl
  have s3 : ∀ (τ : ch_S) (p : Nat), τ.1 fX3_taped = Int32.ofNat p → p < 3000 → m_X3_feed_18 x1 x2 x3 x4 x5 19 τ = some (.inl (20, bt_ms1 τ p ((x5 >>> ((0 : Int32) &&& 31)) &&& 255))) := by
    intro τ p h1 h2
    unfold m_X3_feed_18
    rw [if_pos (show (19 : Int32) < 20 by decide), if_neg (show ¬ (19 : Int32) < 4 by decide), if_neg (show ¬ (19 : Int32) < 8 by decide), if_neg (show ¬ (19 : Int32) < 12 by decide), if_neg (show ¬ (19 : Int32) < 16 by decide), bt_m71 h1 h2]
    rfl
  exact (ch_loop_inl (s0 σ n ht (by omega))).trans ((ch_loop_inl (s1 _ (n + 1) bt_ms1_t (by omega))).trans ((ch_loop_inl (s2 _ (n + 2) bt_ms1_t (by omega))).trans (ch_loop_inl (s3 _ (n + 3) bt_ms1_t (by omega)))))
theorem bt_ms4_t {σ : ch_S} {n : Nat} {v : Int32} : (bt_ms4 σ n v).1 fX3_taped = Int32.ofNat (n + 4) := bt_ms1_t
theorem bt_put4_f {G n : Nat} {w : ch_W} {x : Int32} : ch_gi (bt_put4 G w n x) G fX0_fed = Int32.ofNat (n + 4) := bt_put1_fed
theorem bt_L4 {G n : Nat} {w : ch_W} {c : Int32} (h : bt_L G w) : bt_L G (bt_put4 G w n c) := bt_L1 (bt_L1 (bt_L1 (bt_L1 h)))
theorem bt_frW4 {G n : Nat} {w w1 : ch_W} {c : Int32} (h : bt_frW G w w1) : bt_frW G w (bt_put4 G w1 n c) := bt_frW1 (bt_frW1 (bt_frW1 (bt_frW1 h)))
theorem bt_frM4 {n : Nat} {σ σ1 : ch_S} {c : Int32} (h : bt_frM σ σ1) : bt_frM σ (bt_ms4 σ1 n c) := bt_frM1 (bt_frM1 (bt_frM1 (bt_frM1 h)))
/-- FEED -/
theorem bs_feed {G n : Nat} {w : ch_W} {σ : ch_S} (x1 x2 x3 x4 x5 : Int32) (hL : bt_L G w) (h : bt_tape G w σ n) :
    ∃ r w1 σ1 n1, c_X0_feed G x1 x2 x3 x4 x5 w = some (r, w1) ∧ m_X3_feed x1 x2 x3 x4 x5 σ = some (r, σ1) ∧ bt_L G w1 ∧ bt_tape G w1 σ1 n1 ∧ n1 ≤ n + 20 ∧ bt_frW G w w1 ∧ bt_frM σ σ1 := by
  have h0 := id h
  obtain ⟨h1, h2, h3, h4⟩ := h
  unfold c_X0_feed m_X3_feed
  have e : Int32.ofNat n + 20 = Int32.ofNat (n + 20) := bn_add (b := 20)
  have e3 : (3000 : Int32) = Int32.ofNat 3000 := rfl
  rw [d_gI hL.1.1, h1, h2, e, e3]
  by_cases hc : n + 20 ≤ 3000
  · have hq : ¬ Int32.ofNat 3000 < Int32.ofNat (n + 20) := by rw [bn_lt (by decide) (by omega)]; omega
    rw [if_neg hq, if_neg hq, d_rc hL.1.1, bt_cput hL h1 (by omega), Option.bind_some]
    have L1 := bt_L4 (n := n) (c := x1) hL
    rw [d_rc L1.1.1, bt_cput L1 bt_put4_f (by omega), Option.bind_some]
    have L2 := bt_L4 (n := n + 4) (c := x2) L1
    rw [d_rc L2.1.1, bt_cput L2 bt_put4_f (by omega), Option.bind_some]
    have L3 := bt_L4 (n := n + 4 + 4) (c := x3) L2
    rw [d_rc L3.1.1, bt_cput L3 bt_put4_f (by omega), Option.bind_some]
    have L4 := bt_L4 (n := n + 4 + 4 + 4) (c := x4) L3
    rw [d_rc L4.1.1, bt_cput L4 bt_put4_f (by omega), Option.bind_some]
    have L5 := bt_L4 (n := n + 4 + 4 + 4 + 4) (c := x5) L4
    rw [d_gI L5.1.1, bt_put4_f, bt_mq0 h2 (by omega), bt_mq1 bt_ms4_t (by omega), bt_mq2 bt_ms4_t (by omega), bt_mq3 bt_ms4_t (by omega), bt_mq4 bt_ms4_t (by omega)]
    refine ⟨_, _, _, n + 4 + 4 + 4 + 4 + 4, rfl, ?_, L5, bt_step4 (bt_step4 (bt_step4 (bt_step4 (bt_step4 h0 (by omega)) (by omega)) (by omega)) (by omega)) (by omega), by omega, bt_frW4 (bt_frW4 (bt_frW4 (bt_frW4 (bt_frW4 bt_frW0)))), bt_frM4 (bt_frM4 (bt_frM4 (bt_frM4 (bt_frM4 bt_frM0))))⟩
    refine (ch_loop_inr (b := (Int32.ofNat (n + 4 + 4 + 4 + 4 + 4), _)) ?_)
    show m_X3_feed_18 x1 x2 x3 x4 x5 20 _ = _
    unfold m_X3_feed_18
    rw [if_neg (by decide), bt_ms4_t]
  · have hq : Int32.ofNat 3000 < Int32.ofNat (n + 20) := by rw [bn_lt (by decide) (by omega)]; omega
    rw [if_pos hq, if_pos hq]
    exact ⟨_, _, _, n, rfl, rfl, hL, h0, by omega, bt_frW0, bt_frM0⟩
