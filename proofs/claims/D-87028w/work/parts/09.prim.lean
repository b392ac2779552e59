/-! LEVEL C: what the printed functions (tools/dec.py) are made of, and rows for them -/
theorem ch_FT.wf {g : State} {kb : Bool} {M : ch_M} {d pc : Nat} {ls : List (Option Value)} {st : List Value} {w : ch_W} {Q : Outcome → ch_W → Prop} (h : ch_WF w → ch_FT g kb M d pc ls st w Q) : ch_FT g kb M d pc ls st w Q := by
  intro p l e R s m args below meth c H locs cells slots w0 ls' hI hD hL
  exact h hD.1.wf hI hD hL
theorem ch_CT.up {g : State} {kb : Bool} {y : MethodName} {d d' : Nat} {av : List Value} {w : ch_W} {Q : Outcome → ch_W → Prop} (h : ch_CT g kb y d av w Q) (hd : d ≤ d') : ch_CT g kb y d' av w Q := by
  intro p l e R s m below meth c T h1 h2 h3 h4 h5 h6
  exact h h1 h2 h3 ⟨⟨Nat.le_trans hd h4.1.1, Nat.le_trans (Nat.mul_le_mul_left 41 hd) h4.1.2.1, h4.1.2.2⟩, h4.2⟩ h5 h6
/-- where the model need not be kept -/
theorem ch_CT.weak {g : State} {kb : Bool} {y : MethodName} {d : Nat} {av : List Value} {w : ch_W} {Q : Outcome → ch_W → Prop} (h : ch_CT g kb y d av w Q) : ch_CT g false y d av w Q := by
  intro p l e R s m below meth c T h1 h2 h3 h4 h5 h6
  obtain ⟨t, a, o, w1, L, k, n, g1, g2, g3, g4, g5, g6, g7, g8, g9, -⟩ := h h1 h2 h3 h4 h5 h6
  exact ⟨t, a, o, w1, L, k, n, g1, g2, g3, g4, g5, g6, g7, g8, g9, fun q => by cases q⟩
/-- what a call that keeps the model leaves of it -/
theorem ch_CT.kept {g : State} {y : MethodName} {d : Nat} {av : List Value} {w : ch_W} {Q Q' : Outcome → ch_W → Prop} (h : ch_CT g true y d av w Q) (hq : ∀ o w1, (∀ a, ch_mt (ch_tg w a) = true → w1.1 a = w.1 a) → ch_WF w1 → Q o w1 → Q' o w1) : ch_CT g true y d av w Q' := by
  intro p l e R s m below meth c T h1 h2 h3 h4 h5 h6
  obtain ⟨t, a, o, w1, L, k, n, g1, g2, g3, g4, g5, g6, g7, g8, g9, g10⟩ := h h1 h2 h3 h4 h5 h6
  exact ⟨t, a, o, w1, L, k, n, g1, g2, hq o w1 (g10 rfl) g4.wf g3, g4, g5, g6, g7, g8, g9, g10⟩
/-- fewer known locals -/
def ch_lw (ls1 ls2 : List (Option Value)) : Prop := ∀ (i : Nat) (v : Value), ls1[i]? = some (some v) → ls2[i]? = some (some v)
theorem ch_w0 : ch_lw [] [] := fun _ _ h => h
theorem ch_wS {a : Option Value} {l1 l2 : List (Option Value)} (h : ch_lw l1 l2) : ch_lw (a :: l1) (a :: l2) := by
  intro i v hv
  cases i with
  | zero => exact hv
  | succ j => exact h j v hv
theorem ch_wN {a : Option Value} {l1 l2 : List (Option Value)} (h : ch_lw l1 l2) : ch_lw (none :: l1) (a :: l2) := by
  intro i v hv
  cases i with
  | zero => cases hv
  | succ j => exact h j v hv
theorem ch_FT.wk {g : State} {kb : Bool} {M : ch_M} {d pc : Nat} {ls1 ls2 : List (Option Value)} {st : List Value} {w : ch_W} {Q : Outcome → ch_W → Prop} (hl : ch_lw ls1 ls2) (h : ch_FT g kb M d pc ls1 st w Q) : ch_FT g kb M d pc ls2 st w Q := by
  intro p l e R s m args below meth c H locs cells slots w0 ls' hI hD hL
  exact h hI hD ⟨hL.1, hL.2.1, fun i v hv => hL.2.2 i v (hl i v hv)⟩
/-- reading and writing cells -/
def ch_gI (w : ch_W) (r : Option Nat) (t k : Nat) : Option Int32 := r.bind fun a => if ch_tg w a = t then some (ch_gi w a k) else none
def ch_gR (w : ch_W) (r : Option Nat) (t k : Nat) : Option (Option Nat) := r.bind fun a => if ch_tg w a = t then some (ch_gr w a k) else none
def ch_gL (w : ch_W) (r : Option Nat) (t k : Nat) : Option Int64 := r.bind fun a => if ch_tg w a = t then some (ch_gl w a k) else none
def ch_pI (w : ch_W) (r : Option Nat) (t k : Nat) (v : Int32) : Option ch_W := r.bind fun a => if ch_tg w a = t then some (ch_si w a k v) else none
def ch_pR (w : ch_W) (r : Option Nat) (t k : Nat) (v : Option Nat) : Option ch_W := r.bind fun a => if ch_tg w a = t then some (ch_sr w a k v) else none
def ch_pL (w : ch_W) (r : Option Nat) (t k : Nat) (v : Int64) : Option ch_W := r.bind fun a => if ch_tg w a = t then some (ch_sL w a k v) else none
abbrev ch_in (i : Int32) (n : Nat) : Prop := ¬ (i < 0 ∨ n ≤ i.toNatClampNeg)
abbrev ch_ta (w : ch_W) (a t : Nat) : Prop := ch_tg w a = t ∨ ch_tg w a = t + 30
def ch_lI (w : ch_W) (r : Option Nat) (t : Nat) (i : Int32) : Option Int32 := r.bind fun a => if ch_ta w a t ∧ ch_in i (ch_ln w a) then some (ch_gi w a i.toNatClampNeg) else none
def ch_lR (w : ch_W) (r : Option Nat) (t : Nat) (i : Int32) : Option (Option Nat) := r.bind fun a => if ch_ta w a t ∧ ch_in i (ch_ln w a) then some (ch_gr w a i.toNatClampNeg) else none
def ch_lL (w : ch_W) (r : Option Nat) (t : Nat) (i : Int32) : Option Int64 := r.bind fun a => if ch_ta w a t ∧ ch_in i (ch_ln w a) then some (ch_gl w a i.toNatClampNeg) else none
def ch_le (w : ch_W) (r : Option Nat) (t : Nat) : Option Int32 := r.bind fun a => if ch_ta w a t then some (Int32.ofNat (ch_ln w a)) else none
def ch_wI (w : ch_W) (r : Option Nat) (t : Nat) (i v : Int32) : Option ch_W := r.bind fun a => if ch_tg w a = t ∧ ch_in i (ch_ln w a) then some (ch_si w a i.toNatClampNeg v) else none
def ch_wL (w : ch_W) (r : Option Nat) (t : Nat) (i : Int32) (v : Int64) : Option ch_W := r.bind fun a => if ch_tg w a = t ∧ ch_in i (ch_ln w a) then some (ch_sL w a i.toNatClampNeg v) else none
/-- what may stand in an array of references: the class' tag c (0: any of ours) -/
def ch_fitR (w : ch_W) (v : Option Nat) (c : Nat) : Bool := match v with
  | none => true
  | some a => if c = 0 then (ch_tg w a != 0) && decide (ch_tg w a < 31) && (ch_tg w a != 20) else ch_tg w a == c
def ch_wR (w : ch_W) (r : Option Nat) (t c : Nat) (i : Int32) (v : Option Nat) : Option ch_W := r.bind fun a => if (ch_tg w a = t ∧ ch_in i (ch_ln w a)) ∧ ch_fitR w v c = true then some (ch_sr w a i.toNatClampNeg v) else none
def ch_nO (w : ch_W) (t n : Nat) : Option ch_W := if ch_cs w + 1 ≤ 601024 ∧ ch_sl w + n ≤ 7293034 then some (ch_nw w (ch_new t n)) else none
def ch_nA (w : ch_W) (t : Nat) (n : Int32) : Option ch_W := if ¬ n < 0 ∧ ch_cs w + 1 ≤ 601024 ∧ ch_sl w + n.toNatClampNeg ≤ 7293034 then some (ch_nw w (ch_new t n.toNatClampNeg)) else none
def ch_bit (x : Int32) : Option Int32 := if x = 0 ∨ x = 1 then some x else none
def ch_nz (y : Int32) : Option Int32 := if y = 0 then none else some y
/-- a value of a class' tag c, or null -/
def ch_cast (w : ch_W) (v : Option Nat) (c : Nat) : Option Unit := match v with
  | none => some ()
  | some a => if ch_tg w a = c then some () else none
/-- behind a call that may throw -/
def ch_tb {α γ : Type} (x : Option (Except Nat α × ch_W)) (e : Nat → ch_W → γ) (k : α → ch_W → Option γ) : Option γ := x.bind fun p => match p.1 with
  | .ok v => k v p.2
  | .error a => some (e a p.2)
/-- ends, by the kind of answer -/
def ch_eI (Q : Outcome → ch_W → Prop) (p : Int32 × ch_W) : Prop := Q (.returned (some (.int p.1))) p.2
def ch_eL (Q : Outcome → ch_W → Prop) (p : Int64 × ch_W) : Prop := Q (.returned (some (.long p.1))) p.2
def ch_eR (Q : Outcome → ch_W → Prop) (p : Option Nat × ch_W) : Prop := Q (.returned (some (va_rf p.1))) p.2
def ch_eV (Q : Outcome → ch_W → Prop) (p : ch_W) : Prop := Q (.returned none) p
def ch_xI (Q : Outcome → ch_W → Prop) (p : Except Nat Int32 × ch_W) : Prop := match p.1 with
  | .ok v => Q (.returned (some (.int v))) p.2
  | .error a => Q (.threw a) p.2
def ch_xL (Q : Outcome → ch_W → Prop) (p : Except Nat Int64 × ch_W) : Prop := match p.1 with
  | .ok v => Q (.returned (some (.long v))) p.2
  | .error a => Q (.threw a) p.2
def ch_xR (Q : Outcome → ch_W → Prop) (p : Except Nat (Option Nat) × ch_W) : Prop := match p.1 with
  | .ok v => Q (.returned (some (va_rf v))) p.2
  | .error a => Q (.threw a) p.2
def ch_xV (Q : Outcome → ch_W → Prop) (p : Except Nat Unit × ch_W) : Prop := match p.1 with
  | .ok _ => Q (.returned none) p.2
  | .error a => Q (.threw a) p.2
def ch_sm {α β : Type} (K1 : α → Prop) (K2 : β → Prop) : α ⊕ β → Prop
  | .inl a => K1 a
  | .inr b => K2 b
/-- a loop: the body says how it goes on (inl) or what comes of it (inr) -/
def ch_loop {α β : Type} (body : α → Option (α ⊕ β)) (a : α) : Option β := body a >>= fun r => match r with
  | .inl a' => ch_loop body a'
  | .inr b => some b
partial_fixpoint
theorem ch_loop_inl {α β : Type} {body : α → Option (α ⊕ β)} {a a' : α} (h : body a = some (.inl a')) : ch_loop body a = ch_loop body a' := by
  rw [ch_loop, h]; rfl
theorem ch_loop_inr {α β : Type} {body : α → Option (α ⊕ β)} {a : α} {b : β} (h : body a = some (.inr b)) : ch_loop body a = some b := by
  rw [ch_loop, h]; rfl
theorem ch_loop_ind {α β : Type} {body : α → Option (α ⊕ β)} (P : α → β → Prop) (hs : ∀ a a' b, body a = some (.inl a') → P a' b → P a b) (he : ∀ a b, body a = some (.inr b) → P a b) : ∀ a b, ch_loop body a = some b → P a b := by
  refine ch_loop.partial_correctness body P ?_
  intro f hf a b h
  obtain ⟨r, h1, h2⟩ := Option.bind_eq_some_iff.mp (show (body a).bind _ = some b from h)
  cases r with
  | inl a' => exact hs a a' b h1 (hf a' b h2)
  | inr b' => cases h2; exact he a b h1
theorem ch_ifT {β : Type} {c : Prop} {x : Decidable c} {a b : Option β} {r : β} (hc : c) (h : (if c then a else b) = some r) : a = some r := by rw [if_pos hc] at h; exact h
theorem ch_ifF {β : Type} {c : Prop} {x : Decidable c} {a b : Option β} {r : β} (hc : ¬ c) (h : (if c then a else b) = some r) : b = some r := by rw [if_neg hc] at h; exact h
theorem ch_bd {α β : Type} {x : Option α} {f : α → Option β} {r : β} (h : x.bind f = some r) : ∃ v, x = some v ∧ f v = some r := Option.bind_eq_some_iff.mp h
theorem ch_cat (r : Option Nat) : (va_rf r).category = 1 := by cases r <;> rfl
