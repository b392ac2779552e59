/-! LEVEL B2: words of a text, plainly -/
set_option maxRecDepth 100000
def lx_run (P : Nat → Bool) (f : Nat → Nat) (n : Nat) : Nat → Nat → Nat
  | 0, p => p
  | k + 1, p => if p < n ∧ P (f p) = true then lx_run P f n k (p + 1) else p
/-- from p on, as far as P holds and the text goes -/
def lx (P : Nat → Bool) (f : Nat → Nat) (n p : Nat) : Nat := lx_run P f n (n - p) p
theorem lx_stop {P : Nat → Bool} {f : Nat → Nat} {n p : Nat} (h : ¬ (p < n ∧ P (f p) = true)) : lx P f n p = p := by
  unfold lx
  cases hk : n - p with
  | zero => rfl
  | succ k => rw [lx_run, if_neg h]
theorem lx_go {P : Nat → Bool} {f : Nat → Nat} {n p : Nat} (h : p < n ∧ P (f p) = true) : lx P f n p = lx P f n (p + 1) := by
  unfold lx
  have hk : n - p = (n - (p + 1)) + 1 := by omega
  rw [hk, lx_run, if_pos h]
theorem lx_ge {P : Nat → Bool} {f : Nat → Nat} {n : Nat} : ∀ (k p : Nat), n - p ≤ k → p ≤ lx P f n p := by
  intro k
  induction k with
  | zero => intro p h; rw [lx_stop (by omega)]; omega
  | succ k ih =>
    intro p h
    by_cases hc : p < n ∧ P (f p) = true
    · rw [lx_go hc]
      have := ih (p + 1) (by omega)
      omega
    · rw [lx_stop hc]; omega
theorem lx_le {P : Nat → Bool} {f : Nat → Nat} {n : Nat} : ∀ (k p : Nat), n - p ≤ k → p ≤ n → lx P f n p ≤ n := by
  intro k
  induction k with
  | zero => intro p h hp; rw [lx_stop (by omega)]; exact hp
  | succ k ih =>
    intro p h hp
    by_cases hc : p < n ∧ P (f p) = true
    · rw [lx_go hc]; exact ih (p + 1) (by omega) (by omega)
    · rw [lx_stop hc]; exact hp
theorem lx_end {P : Nat → Bool} {f : Nat → Nat} {n : Nat} : ∀ (k p : Nat), n - p ≤ k → ¬ (lx P f n p < n ∧ P (f (lx P f n p)) = true) := by
  intro k
  induction k with
  | zero => intro p h; rw [lx_stop (by omega)]; omega
  | succ k ih =>
    intro p h
    by_cases hc : p < n ∧ P (f p) = true
    · rw [lx_go hc]; exact ih (p + 1) (by omega)
    · rw [lx_stop hc]; exact hc
theorem lx_all {P : Nat → Bool} {f : Nat → Nat} {n : Nat} : ∀ (k p : Nat), n - p ≤ k → ∀ i : Nat, p ≤ i → i < lx P f n p → P (f i) = true := by
  intro k
  induction k with
  | zero => intro p h i h1 h2; rw [lx_stop (by omega)] at h2; omega
  | succ k ih =>
    intro p h i h1 h2
    by_cases hc : p < n ∧ P (f p) = true
    · rw [lx_go hc] at h2
      by_cases hi : i = p
      · subst hi; exact hc.2
      · exact ih (p + 1) (by omega) i (by omega) h2
    · rw [lx_stop hc] at h2; omega
def lx_sp (c : Nat) : Bool := c == 32 || c == 10
def lx_let (c : Nat) : Bool := (decide (97 ≤ c) && decide (c ≤ 122)) || (decide (65 ≤ c) && decide (c ≤ 90))
def lx_dig (c : Nat) : Bool := decide (48 ≤ c) && decide (c ≤ 57)
def lx_aln (c : Nat) : Bool := lx_let c || lx_dig c
/-- writing what is there, writing twice -/
theorem b_same {w : ch_W} {a k : Nat} {v : Int32} (h : ch_gi w a k = v) : ch_si w a k v = w := by
  unfold ch_si
  refine Prod.ext ?_ rfl
  funext b
  by_cases hb : b = a
  · subst hb
    have e : va_up (w.1 b).2.2.1 k v = (w.1 b).2.2.1 := by
      funext j
      by_cases hj : j = k
      · subst hj; simp [va_up]; exact h.symm
      · simp [va_up, hj]
    simp [va_up, e]
  · simp [va_up, hb]
theorem b_twice {w : ch_W} {a k : Nat} {u v : Int32} : ch_si (ch_si w a k u) a k v = ch_si w a k v := by
  unfold ch_si
  refine Prod.ext ?_ rfl
  funext b
  by_cases hb : b = a
  · subst hb
    simp only [va_up, if_true]
    refine congrArg (fun r => ((w.1 b).1, (w.1 b).2.1, r, (w.1 b).2.2.2)) ?_
    funext j
    by_cases hj : j = k
    · simp [va_up, hj]
    · simp [va_up, hj]
  · simp [va_up, hb]
/-- bytes: the component's against a number -/
theorem br_eq {c m : Int32} {x : Nat} (h : br c m) (hx : x < 128) : c = Int32.ofNat x ↔ m = Int32.ofNat x := by
  obtain ⟨n, h1, h2, h3⟩ := h
  rw [h2, bn_eq (by omega) (by omega)]
  constructor
  · intro e
    rw [e, lw_int (by omega)] at h3
    split at h3 <;> omega
  · intro e
    subst e
    rw [if_pos hx] at h3
    exact Int32.toInt_inj.mp (by rw [h3, lw_int (by omega)])
