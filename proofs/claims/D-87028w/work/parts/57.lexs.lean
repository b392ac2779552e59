/-! LEVEL B2: the component's reader: signs -/
set_option maxRecDepth 100000
/-- a sign of two bytes, of one -/
def lx_two (c d : Nat) : Prop := (d = 61 ∧ (c = 61 ∨ c = 33 ∨ c = 60)) ∨ (c = d ∧ (c = 38 ∨ c = 124))
def lx_one (c : Nat) : Prop := c = 123 ∨ c = 125 ∨ c = 40 ∨ c = 41 ∨ c = 91 ∨ c = 93 ∨ c = 59 ∨ c = 44 ∨ c = 46 ∨ c = 58 ∨ c = 61 ∨ c = 60 ∨ c = 43 ∨ c = 45 ∨ c = 42 ∨ c = 47 ∨ c = 37 ∨ c = 33
theorem lc_s46 {g : State} {r : Nat} {w : ch_W} {c : Int32} {x : Nat} {y : Int32} (h : bx c x) : (lx_one x ∧ c_X4_sign_46 g r c y w = c_X4_sign_155 g r y w) ∨ (¬ lx_one x ∧ c_X4_sign_46 g r c y w = c_X4_sign_160 g r y 0 w) := by
  have E : ∀ k : Nat, k < 128 → (c = Int32.ofNat k ↔ x = k) := fun k hk => bx_eq h hk
  have e1 : c = 123 ↔ x = 123 := E 123 (by decide)
  have e2 : c = 125 ↔ x = 125 := E 125 (by decide)
  have e3 : c = 40 ↔ x = 40 := E 40 (by decide)
  have e4 : c = 41 ↔ x = 41 := E 41 (by decide)
  have e5 : c = 91 ↔ x = 91 := E 91 (by decide)
  have e6 : c = 93 ↔ x = 93 := E 93 (by decide)
  have e7 : c = 59 ↔ x = 59 := E 59 (by decide)
  have e8 : c = 44 ↔ x = 44 := E 44 (by decide)
  have e9 : c = 46 ↔ x = 46 := E 46 (by decide)
  have e10 : c = 58 ↔ x = 58 := E 58 (by decide)
  have e11 : c = 61 ↔ x = 61 := E 61 (by decide)
  have e12 : c = 60 ↔ x = 60 := E 60 (by decide)
  have e13 : c = 43 ↔ x = 43 := E 43 (by decide)
  have e14 : c = 45 ↔ x = 45 := E 45 (by decide)
  have e15 : c = 42 ↔ x = 42 := E 42 (by decide)
  have e16 : c = 47 ↔ x = 47 := E 47 (by decide)
  have e17 : c = 37 ↔ x = 37 := E 37 (by decide)
  have e18 : c = 33 ↔ x = 33 := E 33 (by decide)
  unfold c_X4_sign_46
  simp only [e1, e2, e3, e4, e5, e6, e7, e8, e9, e10, e11, e12, e13, e14, e15, e16, e17, e18]
  by_cases h1 : lx_one x
  · refine Or.inl ⟨h1, ?_⟩
    unfold lx_one at h1
    rcases h1 with h1 | h1 | h1 | h1 | h1 | h1 | h1 | h1 | h1 | h1 | h1 | h1 | h1 | h1 | h1 | h1 | h1 | h1 <;> simp [h1]
  · refine Or.inr ⟨h1, ?_⟩
    unfold lx_one at h1
    simp only [not_or] at h1
    simp [h1]
