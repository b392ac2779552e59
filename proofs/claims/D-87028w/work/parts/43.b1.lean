/-! LEVEL B1: the simple calls -/
set_option maxRecDepth 100000
section B3
variable {w : ch_W} {a t n : Nat} {β : Type}
theorem d_wI {i : Nat} {v : Int32} {f : ch_W → Option β} (h : ch_tg w a = t) (hi : i < ch_ln w a) (hn : ch_ln w a ≤ 2 ^ 31) : (ch_wI w (some a) t (Int32.ofNat i) v).bind f = f (ch_si w a i v) := by rw [b_wI h hi hn]; rfl
theorem d_lI {i : Nat} {f : Int32 → Option β} (h : ch_tg w a = t ∨ ch_tg w a = t + 30) (hi : i < ch_ln w a) (hn : ch_ln w a ≤ 2 ^ 31) : (ch_lI w (some a) t (Int32.ofNat i)).bind f = f (ch_gi w a i) := by rw [b_lI h hi hn]; rfl
theorem d_ma {σ : ch_S} {k i : Nat} {f : Int32 → Option β} (hi : i < ch_ml k) (hn : ch_ml k ≤ 2 ^ 31) : (ch_ma σ k (Int32.ofNat i)).bind f = f (σ.2 k i) := by
  unfold ch_ma; rw [if_pos (b_in hi hn), lw_nat (by omega)]; rfl
theorem d_mw {σ : ch_S} {k i : Nat} {v : Int32} {f : ch_S → Option β} (hi : i < ch_ml k) (hn : ch_ml k ≤ 2 ^ 31) : (ch_mw σ k (Int32.ofNat i) v).bind f = f (σ.1, va_up σ.2 k (va_up (σ.2 k) i v)) := by
  unfold ch_mw; rw [if_pos (b_in hi hn), lw_nat (by omega)]; rfl
theorem d_mI {σ : ch_S} {k : Nat} {v : Int32} {f : ch_S → Option β} : (ch_mI σ k v).bind f = f (va_up σ.1 k v, σ.2) := rfl
end B3
/-- a byte on either side -/
def br (c m : Int32) : Prop := ∃ n : Nat, n < 256 ∧ m = Int32.ofNat n ∧ c.toInt = if n < 128 then (n : Int) else (n : Int) - 256
theorem br_of (x : Int32) : br (Int32.toInt8 ((Int32.toInt8 x).toInt32)).toInt32 (x &&& 255) := by
  refine ⟨x.toBitVec.toNat % 256, Nat.mod_lt _ (by decide), ?_, ?_⟩
  · apply Int32.toBitVec_inj.mp
    apply BitVec.eq_of_toNat_eq
    have e1 : (x &&& 255).toBitVec = x.toBitVec &&& 255#32 := rfl
    rw [e1, BitVec.toNat_and]
    have e2 : (Int32.ofNat (x.toBitVec.toNat % 256)).toBitVec = BitVec.ofNat 32 (x.toBitVec.toNat % 256) := rfl
    rw [e2, BitVec.toNat_ofNat, BitVec.toNat_ofNat]
    have e3 : 255 % 2 ^ 32 = 2 ^ 8 - 1 := rfl
    rw [e3, Nat.and_two_pow_sub_one_eq_mod]
    omega
  · rw [Int8.toInt_toInt32, Int32.toInt_toInt8, Int8.toInt_toInt32, Int32.toInt_toInt8]
    have hx : x.toInt = x.toBitVec.toInt := rfl
    rw [hx, BitVec.toInt_eq_toNat_cond]
    have hlt : x.toBitVec.toNat < 2 ^ 32 := x.toBitVec.isLt
    generalize x.toBitVec.toNat = y at hlt ⊢
    rw [Int.bmod_bmod]
    unfold Int.bmod
    by_cases h1 : 2 * y < 2 ^ 32
    · rw [if_pos h1]
      dsimp only
      have e : ((y : Int) % ((2 ^ 8 : Nat) : Int)) = ((y % 256 : Nat) : Int) := by omega
      rw [e]
      by_cases h2 : y % 256 < 128
      · rw [if_pos h2, if_pos (by omega)]
      · rw [if_neg h2, if_neg (by omega)]; omega
    · rw [if_neg h1]
      dsimp only
      have e : (((y : Int) - ((2 ^ 32 : Nat) : Int)) % ((2 ^ 8 : Nat) : Int)) = ((y % 256 : Nat) : Int) := by omega
      rw [e]
      by_cases h2 : y % 256 < 128
      · rw [if_pos h2, if_pos (by omega)]
      · rw [if_neg h2, if_neg (by omega)]; omega

/-- the component's and the model's bytes that were fed, the number of cells to be asked for, the row of inputs -/
def bt_tape (G : Nat) (w : ch_W) (σ : ch_S) (n : Nat) : Prop := ch_gi w G fX0_fed = Int32.ofNat n ∧ σ.1 fX3_taped = Int32.ofNat n ∧ n ≤ 3000 ∧ ∀ i : Nat, i < n → br (ch_gi w (G + 1) i) (σ.2 fX3_tape i)
def bt_put1 (G : Nat) (w : ch_W) (n : Nat) (v : Int32) : ch_W := ch_si (ch_si w (G + 1) n v) G fX0_fed (Int32.ofNat (n + 1))
theorem bt_c3 {G n : Nat} {w : ch_W} {x k : Int32} (hT : bc_tag G w) (hN : bc_len G w) (hR : bc_ref G w) (hf : ch_gi w G fX0_fed = Int32.ofNat n) (hn : n < 3000) (hk : ¬ k < 0) :
    c_X0_put_3 G x k w = some (.inl (k + (-8), bt_put1 G w n (Int32.toInt8 ((Int32.toInt8 (x >>> (k &&& 31))).toInt32)).toInt32)) := by
  unfold c_X0_put_3
  rw [if_neg hk, d_gR hT.1, hR.1, d_gI hT.1, hf, d_wI hT.2.1 (by rw [hN.1]; exact hn) (by rw [hN.1]; decide), d_gI (by rw [b_tI]; exact hT.1), b_II, if_neg (by omega), hf, d_pI (by rw [b_tI]; exact hT.1)]
  have e : Int32.ofNat n + 1 = Int32.ofNat (n + 1) := bn_add (b := 1)
  rw [e]
  rfl
/-- only the tape's cells from n on and fed are other -/
theorem bt_put1_tag {G n : Nat} {w : ch_W} {v : Int32} (h : bc_tag G w) : bc_tag G (bt_put1 G w n v) := by
  unfold bc_tag bt_put1 at *
  simp only [b_tI]
  exact h
theorem bt_put1_len {G n : Nat} {w : ch_W} {v : Int32} (h : bc_len G w) : bc_len G (bt_put1 G w n v) := by
  unfold bc_len bt_put1 at *
  simp only [b_nI]
  exact h
theorem bt_put1_ref {G n : Nat} {w : ch_W} {v : Int32} (h : bc_ref G w) : bc_ref G (bt_put1 G w n v) := by
  unfold bc_ref bt_put1 at *
  simp only [b_RI]
  exact h
theorem bt_put1_fed {G n : Nat} {w : ch_W} {v : Int32} : ch_gi (bt_put1 G w n v) G fX0_fed = Int32.ofNat (n + 1) := by
  unfold bt_put1
  rw [b_II, if_pos ⟨rfl, rfl⟩]
