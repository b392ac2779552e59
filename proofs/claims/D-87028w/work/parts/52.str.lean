/-! LEVEL B2: Strings of the start -/
set_option maxRecDepth 100000
theorem ls_val {w : ch_W} {a : Nat} (h : ch_tg w a = 20) : ch_sV w (some a) = some (ch_gr w a 0) := by
  unfold ch_sV
  show (if ch_tg w a = 20 then _ else _) = _
  rw [if_pos h]
theorem ls_cod {w : ch_W} {a : Nat} (h : ch_tg w a = 20) : ch_sC w (some a) = some 0 := by
  unfold ch_sC
  show (if ch_tg w a = 20 then _ else _) = _
  rw [if_pos h]
theorem ls_len {g : State} {w : ch_W} {a : Nat} {bs : List Int32} (h : ch_Str w a bs) : c_J6_length g a w = some (Int32.ofNat bs.length) := by
  obtain ⟨h1, v, h2, h3, h4, h5⟩ := h
  have e0 : ¬ (1 : Int32) = 0 := by decide
  have e1 : ch_nar .byte 0 = some 0 := rfl
  have e2 : ∀ z : Int32, z >>> ((0 : Int32) &&& 31) = z := by
    intro z
    have : (0 : Int32) &&& 31 = 0 := rfl
    rw [this]
    exact Int32.toBitVec_inj.mp (by simp [Int32.toBitVec_shiftRight])
  unfold c_J6_length c_J6_coder
  rw [ls_val h1, Option.bind_some, h2, b_le (Or.inr (by rw [h3])), Option.bind_some, d_rc h1, if_neg e0, ls_cod h1, Option.bind_some, e1, Option.bind_some, Option.bind_some, e2, h4]
theorem ls_at {g : State} {w : ch_W} {a k x : Nat} {bs : List Int32} (h : ch_Str w a bs) (hl : bs.length < 100) (hk : k < bs.length) (hv : bs.getD k 0 = Int32.ofNat x) (hx : x < 128) : c_J6_charAt g a (Int32.ofNat k) w = some (Int32.ofNat x) := by
  obtain ⟨h1, v, h2, h3, h4, h5⟩ := h
  have e0 : ¬ (1 : Int32) = 0 := by decide
  have e3 : (ch_gi w v k) = Int32.ofNat x := by rw [h5 k hk, hv]
  have e4 : ∀ x : Nat, x < 128 → ch_nar .char (Int32.toUInt32 (Int32.ofNat x &&& 255) % 65536).toInt32 = some (Int32.ofNat x) ∧ ch_nar .char (Int32.ofNat x) = some (Int32.ofNat x) := by decide +kernel
  obtain ⟨e5, e6⟩ := e4 x hx
  unfold c_J6_charAt c_J6_isLatin1 c_J7_charAt c_J6_checkIndex c_J8_checkIndex
  rw [d_rc h1, if_neg e0, ls_cod h1, Option.bind_some, if_pos rfl, Option.bind_some, if_neg e0, ls_val h1, Option.bind_some, h2, b_le (Or.inr (by rw [h3])), Option.bind_some, h4, if_neg (by
    intro q
    have := (bn_lt (a := k) (b := 0) (by omega) (by decide)).mp q
    omega), if_pos (by rw [bn_lt (by omega) (by omega)]; exact hk), Option.bind_some, Option.bind_some, b_lI (Or.inr (by rw [h3])) (by rw [h4]; exact hk) (by rw [h4]; omega), Option.bind_some, e3, e5, Option.bind_some, Option.bind_some, e6, Option.bind_some]
