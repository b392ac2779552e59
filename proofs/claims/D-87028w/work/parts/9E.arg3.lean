/-! LEVEL B2: arguments of both sides: the loop -/
set_option maxRecDepth 100000
section ARG
variable {g : State} {P r L S n C1 C2 : Nat} {f : Nat → Nat} {w0 : ch_W} {σ0 : ch_S} {op fr0 : Nat}
/-- the model's state behind an argument -/
def ma_h (σ : ch_S) (F i : Nat) (v : Int32) : ch_S := md_si (md_sa σ fX3_hold (F + i) v) fX3_held (Int32.ofNat (F + (i + 1)))
theorem ma_fr {σ : ch_S} {F i : Nat} {v : Int32} : md_fr [fX3_held] [fX3_hold] σ (ma_h σ F i v) := (md_fr.refl.sa (by decide)).si (by decide)
theorem ma_eq {β : Type} {σ : ch_S} {F i : Nat} {v : Int32} {K : ch_S → Option β} (h : σ.1 fX3_held = Int32.ofNat (F + i)) (hF : F + i < 3000) : ((ch_mw σ fX3_hold (σ.1 fX3_held) v).bind fun σ3 => (ch_mI σ3 fX3_held ((σ3.1 fX3_held) + 1)).bind K) = K (ma_h σ F i v) := by
  have l1 : ch_ml fX3_hold = 3200 := rfl
  have e1 : Int32.ofNat (F + i) + 1 = Int32.ofNat (F + (i + 1)) := bn_add (b := 1)
  rw [h, m_mw (by rw [l1]; omega) (by rw [l1]; decide), m_mI, md_gi, h, e1]
  rfl
/-- the loops of both sides -/
def aBC (g : State) (r d La : Nat) : ch_W → Option (ch_W ⊕ (Except Nat (Option Nat) × ch_W)) := fun s => c_X4_arguments_14 (cr_PA g d) g r (some La) s
def aBM (e : Nat) (kind x id : Int32) (F : Nat) : Int32 × ch_S → Option ((Int32 × ch_S) ⊕ (Int32 × ch_S)) := fun s => m_X3_called_32 (cr_ME e) kind x id (Int32.ofNat F) s.1 s.2
def aXR (g : State) (r d La : Nat) (w : ch_W) : Option (Except Nat (Option Nat) × ch_W) := ch_tb (cr_PA g d 0 r w) (fun a w => (Except.error a, w)) fun v2 w3 => (ch_rc w3 (some La) 14).bind fun b5 => (c_J5_add g b5 v2 w3).bind fun p6 => ch_loop (aBC g r d La) p6.2
def aKK (e : Nat) (kind x id : Int32) (F : Nat) (σ4 : ch_S) : Option (Int32 × ch_S) := (m_X3_isSign 44 σ4).bind fun v5 => if v5 = 0 then ch_loop (aBM e kind x id F) (v5, σ4) else (m_X3_next σ4).bind fun p7 => ch_loop (aBM e kind x id F) (v5, p7)
def aYR (e : Nat) (kind x id : Int32) (F : Nat) (σ : ch_S) : Option (Int32 × ch_S) := (cr_ME e 0 0 0 0 σ).bind fun p1 => (ch_mw p1.2 fX3_hold (p1.2.1 fX3_held) p1.1).bind fun σ3 => (ch_mI σ3 fX3_held ((σ3.1 fX3_held) + 1)).bind fun σ4 => aKK e kind x id F σ4
theorem aBM0 {e F : Nat} {kind x id : Int32} {σ : ch_S} : ch_loop (aBM e kind x id F) (0, σ) = m_X3_called_91 (cr_ME e) kind x id (Int32.ofNat F) σ := by
  rw [lp_eq]
  show (m_X3_called_32 (cr_ME e) kind x id (Int32.ofNat F) 0 σ).bind _ = _
  have : m_X3_called_32 (cr_ME e) kind x id (Int32.ofNat F) 0 σ = (m_X3_called_91 (cr_ME e) kind x id (Int32.ofNat F) σ).bind fun r => some (.inr r) := by
    unfold m_X3_called_32
    rw [if_pos rfl]
  rw [this]
  cases m_X3_called_91 (cr_ME e) kind x id (Int32.ofNat F) σ <;> rfl
theorem aBM1 {e F : Nat} {kind x id : Int32} {σ : ch_S} (hw : σ.1 fX3_wrong < 0) : ch_loop (aBM e kind x id F) (1, σ) = aYR e kind x id F σ := by
  rw [lp_eq]
  show (m_X3_called_32 (cr_ME e) kind x id (Int32.ofNat F) 1 σ).bind _ = _
  have : m_X3_called_32 (cr_ME e) kind x id (Int32.ofNat F) 1 σ = (cr_ME e 0 0 0 0 σ).bind fun p1 => (ch_mw p1.2 fX3_hold (p1.2.1 fX3_held) p1.1).bind fun σ3 => (ch_mI σ3 fX3_held ((σ3.1 fX3_held) + 1)).bind fun σ4 => (m_X3_isSign 44 σ4).bind fun v5 => if v5 = 0 then (some (.inl (v5, σ4))) else ((m_X3_next σ4).bind fun p7 => some (.inl (v5, p7))) := by
    unfold m_X3_called_32
    rw [if_neg (show ¬ (1 : Int32) = 0 by decide), if_pos hw]
  rw [this]
  unfold aYR aKK
  simp only [Option.bind_assoc, ite_bd, Option.bind_some]
  rfl
theorem aBM1n {e F : Nat} {kind x id : Int32} {σ : ch_S} (hw : ¬ σ.1 fX3_wrong < 0) : ch_loop (aBM e kind x id F) (1, σ) = m_X3_called_91 (cr_ME e) kind x id (Int32.ofNat F) σ := by
  rw [lp_eq]
  show (m_X3_called_32 (cr_ME e) kind x id (Int32.ofNat F) 1 σ).bind _ = _
  have : m_X3_called_32 (cr_ME e) kind x id (Int32.ofNat F) 1 σ = (m_X3_called_91 (cr_ME e) kind x id (Int32.ofNat F) σ).bind fun r => some (.inr r) := by
    unfold m_X3_called_32
    rw [if_neg (show ¬ (1 : Int32) = 0 by decide), if_neg hw]
  rw [this]
  cases m_X3_called_91 (cr_ME e) kind x id (Int32.ofNat F) σ <;> rfl
theorem ax36 {d La : Nat} {w : ch_W} (hr : ch_tg w r = 5) : (c_X4_arguments_36 (cr_PA g d) g r (some La) w).bind (lpc (aBC g r d La)) = aXR g r d La w := by
  unfold c_X4_arguments_36 aXR
  rw [d_rc hr, tb_lp]
  congr 1
  funext v2 w3
  cases ch_rc w3 (some La) 14 with
  | none => rfl
  | some b5 =>
    rw [Option.bind_some, Option.bind_some]
    cases c_J5_add g b5 v2 w3 <;> rfl
/-- stuck within an argument: the rest -/
theorem aYR_stuck {e F i q : Nat} {kind x id : Int32} {σ1 : ch_S} (he : 9 ≤ e) (h1 : md_fr pk pa σ0 σ1) (h2 : dk σ1 q) (h3 : fr0 ≤ q) (h4 : q ≤ n) (h5 : pjN σ1) (h6 : σ1.1 fX3_held = Int32.ofNat (F + i)) (hF : F = nn σ0 fX3_held) (hF2 : σ0.1 fX3_held = Int32.ofNat F) (hFi : F + (i + 1) ≤ 2999) (h7 : (nn σ1 fX3_nodes : Int) + 1 ≤ nn σ0 fX3_nodes + ((q : Int) - fr0) + (if σ1.1 fX3_wrong = -1 then 0 else 1)) (h8 : (nn σ1 fX3_listed : Int) + (i + 1 : Nat) ≤ nn σ0 fX3_listed + ((q : Int) - fr0)) (h9 : (nn σ1 fX3_statements : Int) ≤ nn σ0 fX3_statements + ((q : Int) - fr0) + (if σ1.1 fX3_wrong = -1 then 0 else 1)) (hA : nn σ0 fX3_nodes + (n - fr0) ≤ 1400 ∧ nn σ0 fX3_listed + (n - fr0) ≤ 1400) (hn31 : n < 2 ^ 31) (b : Int32) : ∃ p, ((ch_mw σ1 fX3_hold (σ1.1 fX3_held) b).bind fun σ3 => (ch_mI σ3 fX3_held ((σ3.1 fX3_held) + 1)).bind fun σ4 => aKK e kind x id F σ4) = some p ∧ pd n 0 σ0 fr0 p.2 q := by
  rw [ma_eq h6 (by omega)]
  have hf := ma_fr (σ := σ1) (F := F) (i := i) (v := b)
  have hdk : dk (ma_h σ1 F i b) q := h2
  unfold aKK
  rw [dm_sign hdk (show q < 2 ^ 31 by omega), Option.bind_some, if_pos rfl, aBM0]
  refine ml_stuck (h1.trans (hf.mono (by decide) (by decide))) hdk h3 h4 ?_ rfl hF hF2 (by omega) ?_ ?_ ?_ hA hn31
  · refine ⟨h5.1, h5.2.1, ?_, h5.2.2.2⟩
    show Int32.ofNat (F + (i + 1)) = Int32.ofNat (nn (ma_h σ1 F i b) fX3_held)
    unfold nn ma_h
    rw [md_gs, lw_nat (by omega)]
  · exact h7
  · exact h8
  · exact h9
end ARG
