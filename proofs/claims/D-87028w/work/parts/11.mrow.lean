/-! LEVEL M: the model's object and arrays as a state; rows over it (the tables by tools/mkmrow.py) -/
/-- ints by field, arrays by field -/
abbrev ch_S : Type := (Nat → Int32) × (Nat → Nat → Int32)
/-- the model's arrays as they are made: field, tag, length -/
def ch_mf : List (Nat × Nat × Nat) := [(0, 31, 3000), (2, 31, 3100), (12, 31, 1600), (13, 31, 1600), (14, 31, 40), (16, 31, 3200), (17, 31, 3200), (18, 31, 3200), (19, 31, 3200), (20, 31, 3200), (22, 31, 3200), (24, 31, 3200), (26, 31, 1600), (27, 31, 1600), (28, 31, 1600), (29, 31, 1600), (30, 31, 1600), (31, 31, 1600), (32, 31, 1600), (33, 31, 1600), (34, 31, 1600), (35, 31, 1600), (36, 31, 1600), (38, 31, 350), (39, 31, 350), (40, 31, 350), (41, 31, 350), (42, 31, 350), (43, 31, 351), (45, 31, 800), (46, 31, 800), (47, 31, 800), (48, 33, 800), (49, 31, 801), (50, 31, 800), (51, 31, 800), (52, 31, 800), (54, 31, 900), (55, 31, 900), (63, 31, 1000), (64, 31, 1000), (65, 33, 1000), (67, 33, 100000), (68, 31, 3200), (79, 31, 500), (81, 31, 300), (83, 31, 5200), (84, 31, 5200), (85, 31, 5200), (86, 33, 5200), (87, 31, 5200), (88, 31, 5200), (91, 31, 12000), (92, 33, 12000), (94, 31, 101), (95, 31, 101), (96, 31, 101), (97, 31, 101), (98, 31, 90000), (99, 33, 90000), (101, 31, 200000), (102, 33, 200000), (104, 31, 400000), (105, 31, 400000), (107, 31, 6000), (108, 31, 6000)]
def ch_mp (k : Nat) : Option Nat := match k with
  | 0 => some 0
  | 2 => some 1
  | 12 => some 2
  | 13 => some 3
  | 14 => some 4
  | 16 => some 5
  | 17 => some 6
  | 18 => some 7
  | 19 => some 8
  | 20 => some 9
  | 22 => some 10
  | 24 => some 11
  | 26 => some 12
  | 27 => some 13
  | 28 => some 14
  | 29 => some 15
  | 30 => some 16
  | 31 => some 17
  | 32 => some 18
  | 33 => some 19
  | 34 => some 20
  | 35 => some 21
  | 36 => some 22
  | 38 => some 23
  | 39 => some 24
  | 40 => some 25
  | 41 => some 26
  | 42 => some 27
  | 43 => some 28
  | 45 => some 29
  | 46 => some 30
  | 47 => some 31
  | 48 => some 32
  | 49 => some 33
  | 50 => some 34
  | 51 => some 35
  | 52 => some 36
  | 54 => some 37
  | 55 => some 38
  | 63 => some 39
  | 64 => some 40
  | 65 => some 41
  | 67 => some 42
  | 68 => some 43
  | 79 => some 44
  | 81 => some 45
  | 83 => some 46
  | 84 => some 47
  | 85 => some 48
  | 86 => some 49
  | 87 => some 50
  | 88 => some 51
  | 91 => some 52
  | 92 => some 53
  | 94 => some 54
  | 95 => some 55
  | 96 => some 56
  | 97 => some 57
  | 98 => some 58
  | 99 => some 59
  | 101 => some 60
  | 102 => some 61
  | 104 => some 62
  | 105 => some 63
  | 107 => some 64
  | 108 => some 65
  | _ => none
def ch_ml (k : Nat) : Nat := match k with
  | 0 => 3000
  | 2 => 3100
  | 12 => 1600
  | 13 => 1600
  | 14 => 40
  | 16 => 3200
  | 17 => 3200
  | 18 => 3200
  | 19 => 3200
  | 20 => 3200
  | 22 => 3200
  | 24 => 3200
  | 26 => 1600
  | 27 => 1600
  | 28 => 1600
  | 29 => 1600
  | 30 => 1600
  | 31 => 1600
  | 32 => 1600
  | 33 => 1600
  | 34 => 1600
  | 35 => 1600
  | 36 => 1600
  | 38 => 350
  | 39 => 350
  | 40 => 350
  | 41 => 350
  | 42 => 350
  | 43 => 351
  | 45 => 800
  | 46 => 800
  | 47 => 800
  | 48 => 800
  | 49 => 801
  | 50 => 800
  | 51 => 800
  | 52 => 800
  | 54 => 900
  | 55 => 900
  | 63 => 1000
  | 64 => 1000
  | 65 => 1000
  | 67 => 100000
  | 68 => 3200
  | 79 => 500
  | 81 => 300
  | 83 => 5200
  | 84 => 5200
  | 85 => 5200
  | 86 => 5200
  | 87 => 5200
  | 88 => 5200
  | 91 => 12000
  | 92 => 12000
  | 94 => 101
  | 95 => 101
  | 96 => 101
  | 97 => 101
  | 98 => 90000
  | 99 => 90000
  | 101 => 200000
  | 102 => 200000
  | 104 => 400000
  | 105 => 400000
  | 107 => 6000
  | 108 => 6000
  | _ => 0
def ch_mok (k j t n : Nat) : Prop := ch_mp k = some j ∧ ch_mf[j]? = some (k, t, n) ∧ ch_ml k = n
theorem mk_0 : ch_mok 0 0 31 3000 := ⟨rfl, rfl, rfl⟩
theorem mk_2 : ch_mok 2 1 31 3100 := ⟨rfl, rfl, rfl⟩
theorem mk_12 : ch_mok 12 2 31 1600 := ⟨rfl, rfl, rfl⟩
theorem mk_13 : ch_mok 13 3 31 1600 := ⟨rfl, rfl, rfl⟩
theorem mk_14 : ch_mok 14 4 31 40 := ⟨rfl, rfl, rfl⟩
theorem mk_16 : ch_mok 16 5 31 3200 := ⟨rfl, rfl, rfl⟩
theorem mk_17 : ch_mok 17 6 31 3200 := ⟨rfl, rfl, rfl⟩
theorem mk_18 : ch_mok 18 7 31 3200 := ⟨rfl, rfl, rfl⟩
theorem mk_19 : ch_mok 19 8 31 3200 := ⟨rfl, rfl, rfl⟩
theorem mk_20 : ch_mok 20 9 31 3200 := ⟨rfl, rfl, rfl⟩
theorem mk_22 : ch_mok 22 10 31 3200 := ⟨rfl, rfl, rfl⟩
theorem mk_24 : ch_mok 24 11 31 3200 := ⟨rfl, rfl, rfl⟩
theorem mk_26 : ch_mok 26 12 31 1600 := ⟨rfl, rfl, rfl⟩
theorem mk_27 : ch_mok 27 13 31 1600 := ⟨rfl, rfl, rfl⟩
theorem mk_28 : ch_mok 28 14 31 1600 := ⟨rfl, rfl, rfl⟩
theorem mk_29 : ch_mok 29 15 31 1600 := ⟨rfl, rfl, rfl⟩
theorem mk_30 : ch_mok 30 16 31 1600 := ⟨rfl, rfl, rfl⟩
theorem mk_31 : ch_mok 31 17 31 1600 := ⟨rfl, rfl, rfl⟩
theorem mk_32 : ch_mok 32 18 31 1600 := ⟨rfl, rfl, rfl⟩
theorem mk_33 : ch_mok 33 19 31 1600 := ⟨rfl, rfl, rfl⟩
theorem mk_34 : ch_mok 34 20 31 1600 := ⟨rfl, rfl, rfl⟩
theorem mk_35 : ch_mok 35 21 31 1600 := ⟨rfl, rfl, rfl⟩
theorem mk_36 : ch_mok 36 22 31 1600 := ⟨rfl, rfl, rfl⟩
theorem mk_38 : ch_mok 38 23 31 350 := ⟨rfl, rfl, rfl⟩
theorem mk_39 : ch_mok 39 24 31 350 := ⟨rfl, rfl, rfl⟩
theorem mk_40 : ch_mok 40 25 31 350 := ⟨rfl, rfl, rfl⟩
theorem mk_41 : ch_mok 41 26 31 350 := ⟨rfl, rfl, rfl⟩
theorem mk_42 : ch_mok 42 27 31 350 := ⟨rfl, rfl, rfl⟩
theorem mk_43 : ch_mok 43 28 31 351 := ⟨rfl, rfl, rfl⟩
theorem mk_45 : ch_mok 45 29 31 800 := ⟨rfl, rfl, rfl⟩
theorem mk_46 : ch_mok 46 30 31 800 := ⟨rfl, rfl, rfl⟩
theorem mk_47 : ch_mok 47 31 31 800 := ⟨rfl, rfl, rfl⟩
theorem mk_48 : ch_mok 48 32 33 800 := ⟨rfl, rfl, rfl⟩
theorem mk_49 : ch_mok 49 33 31 801 := ⟨rfl, rfl, rfl⟩
theorem mk_50 : ch_mok 50 34 31 800 := ⟨rfl, rfl, rfl⟩
theorem mk_51 : ch_mok 51 35 31 800 := ⟨rfl, rfl, rfl⟩
theorem mk_52 : ch_mok 52 36 31 800 := ⟨rfl, rfl, rfl⟩
theorem mk_54 : ch_mok 54 37 31 900 := ⟨rfl, rfl, rfl⟩
theorem mk_55 : ch_mok 55 38 31 900 := ⟨rfl, rfl, rfl⟩
theorem mk_63 : ch_mok 63 39 31 1000 := ⟨rfl, rfl, rfl⟩
theorem mk_64 : ch_mok 64 40 31 1000 := ⟨rfl, rfl, rfl⟩
theorem mk_65 : ch_mok 65 41 33 1000 := ⟨rfl, rfl, rfl⟩
theorem mk_67 : ch_mok 67 42 33 100000 := ⟨rfl, rfl, rfl⟩
theorem mk_68 : ch_mok 68 43 31 3200 := ⟨rfl, rfl, rfl⟩
theorem mk_79 : ch_mok 79 44 31 500 := ⟨rfl, rfl, rfl⟩
theorem mk_81 : ch_mok 81 45 31 300 := ⟨rfl, rfl, rfl⟩
theorem mk_83 : ch_mok 83 46 31 5200 := ⟨rfl, rfl, rfl⟩
theorem mk_84 : ch_mok 84 47 31 5200 := ⟨rfl, rfl, rfl⟩
theorem mk_85 : ch_mok 85 48 31 5200 := ⟨rfl, rfl, rfl⟩
theorem mk_86 : ch_mok 86 49 33 5200 := ⟨rfl, rfl, rfl⟩
theorem mk_87 : ch_mok 87 50 31 5200 := ⟨rfl, rfl, rfl⟩
theorem mk_88 : ch_mok 88 51 31 5200 := ⟨rfl, rfl, rfl⟩
theorem mk_91 : ch_mok 91 52 31 12000 := ⟨rfl, rfl, rfl⟩
theorem mk_92 : ch_mok 92 53 33 12000 := ⟨rfl, rfl, rfl⟩
theorem mk_94 : ch_mok 94 54 31 101 := ⟨rfl, rfl, rfl⟩
theorem mk_95 : ch_mok 95 55 31 101 := ⟨rfl, rfl, rfl⟩
theorem mk_96 : ch_mok 96 56 31 101 := ⟨rfl, rfl, rfl⟩
theorem mk_97 : ch_mok 97 57 31 101 := ⟨rfl, rfl, rfl⟩
theorem mk_98 : ch_mok 98 58 31 90000 := ⟨rfl, rfl, rfl⟩
theorem mk_99 : ch_mok 99 59 33 90000 := ⟨rfl, rfl, rfl⟩
theorem mk_101 : ch_mok 101 60 31 200000 := ⟨rfl, rfl, rfl⟩
theorem mk_102 : ch_mok 102 61 33 200000 := ⟨rfl, rfl, rfl⟩
theorem mk_104 : ch_mok 104 62 31 400000 := ⟨rfl, rfl, rfl⟩
theorem mk_105 : ch_mok 105 63 31 400000 := ⟨rfl, rfl, rfl⟩
theorem mk_107 : ch_mok 107 64 31 6000 := ⟨rfl, rfl, rfl⟩
theorem mk_108 : ch_mok 108 65 31 6000 := ⟨rfl, rfl, rfl⟩
theorem ch_mfj : ∀ j, j < 66 → (match ch_mf[j]? with | some q => decide (ch_mp q.1 = some j) | none => true) = true := by decide +kernel
theorem ch_mpj {j k t n : Nat} (h : ch_mf[j]? = some (k, t, n)) : ch_mp k = some j := by
  have hj : j < 66 := (List.getElem?_eq_some_iff.mp h).1
  have := ch_mfj j hj
  rw [h] at this
  exact of_decide_eq_true this
def ch_mr (m k : Nat) : Option Nat := (ch_mp k).map (fun j => m + 1 + j)
def ch_put (m : Nat) (w : ch_W) (σ : ch_S) : ch_W := (fun a => if a = m then (4, 109, σ.1, fun k => ch_mr m k, fun _ => 0) else if a < m then w.1 a else match ch_mf[a - m - 1]? with
  | some q => (q.2.1, q.2.2, σ.2 q.1, fun _ => none, fun _ => 0)
  | none => w.1 a, w.2)
theorem ch_put_m {m : Nat} {w : ch_W} {σ : ch_S} : (ch_put m w σ).1 m = (4, 109, σ.1, fun k => ch_mr m k, fun _ => 0) := by simp [ch_put]
theorem ch_put_a {m j k t n : Nat} {w : ch_W} {σ : ch_S} (h : ch_mf[j]? = some (k, t, n)) : (ch_put m w σ).1 (m + 1 + j) = (t, n, σ.2 k, fun _ => none, fun _ => 0) := by
  have h1 : m + 1 + j ≠ m := by omega
  have h2 : ¬ m + 1 + j < m := by omega
  have h3 : m + 1 + j - m - 1 = j := by omega
  simp only [ch_put, if_neg h1, if_neg h2, h3, h]
/-- reads and writes -/
def ch_ma (σ : ch_S) (k : Nat) (i : Int32) : Option Int32 := if ch_in i (ch_ml k) then some (σ.2 k i.toNatClampNeg) else none
def ch_mw (σ : ch_S) (k : Nat) (i v : Int32) : Option ch_S := if ch_in i (ch_ml k) then some (σ.1, va_up σ.2 k (va_up (σ.2 k) i.toNatClampNeg v)) else none
def ch_mI (σ : ch_S) (k : Nat) (v : Int32) : Option ch_S := some (va_up σ.1 k v, σ.2)
theorem ch_put_si {m k : Nat} {w : ch_W} {σ : ch_S} {v : Int32} : ch_si (ch_put m w σ) m k v = ch_put m w (va_up σ.1 k v, σ.2) := by
  refine Prod.ext (funext fun a => ?_) rfl
  by_cases h : a = m
  · subst h; simp [ch_si, va_up, ch_put]
  · simp [ch_si, va_up, ch_put, h]
theorem ch_put_sa {m j k t n i : Nat} {w : ch_W} {σ : ch_S} {v : Int32} (hj : ch_mf[j]? = some (k, t, n)) : ch_si (ch_put m w σ) (m + 1 + j) i v = ch_put m w (σ.1, va_up σ.2 k (va_up (σ.2 k) i v)) := by
  refine Prod.ext (funext fun a => ?_) rfl
  by_cases h : a = m + 1 + j
  · subst h
    rw [ch_put_a hj]
    have e : (ch_si (ch_put m w σ) (m + 1 + j) i v).1 (m + 1 + j) = (((ch_put m w σ).1 (m + 1 + j)).1, ((ch_put m w σ).1 (m + 1 + j)).2.1, va_up ((ch_put m w σ).1 (m + 1 + j)).2.2.1 i v, ((ch_put m w σ).1 (m + 1 + j)).2.2.2) := by simp [ch_si, va_up]
    rw [e, ch_put_a hj]
    simp [va_up]
  · have e : (ch_si (ch_put m w σ) (m + 1 + j) i v).1 a = (ch_put m w σ).1 a := by simp [ch_si, va_up, h]
    rw [e]
    by_cases h1 : a = m
    · subst h1; simp [ch_put]
    · by_cases h2 : a < m
      · simp [ch_put, h1, h2]
      · simp only [ch_put, if_neg h1, if_neg h2]
        cases hq : ch_mf[a - m - 1]? with
        | none => rfl
        | some q =>
          obtain ⟨k', t', n'⟩ := q
          have hne : k' ≠ k := by
            intro hk
            subst hk
            have e1 := ch_mpj hq
            have e2 := ch_mpj hj
            rw [e1] at e2
            have := Option.some.inj e2
            omega
          simp [va_up, hne]
section MROW
variable {g : State} {kb : Bool} {M : ch_M} {d pc : Nat} {ls : List (Option Value)} {st : List Value} {w : ch_W} {Q : Outcome → ch_W → Prop} {m : Nat} {σ : ch_S}
theorem mp_gI (k : Nat) {idx : Nat} (hd : decode M.2.1 pc = .ok (.getfield idx, 3)) (hf : ch_fl M.1.cls idx 3 k) (hi : ch_isI (ch_ft 3 k) = true) (kk : ch_FT g kb M d (pc + 3) ls (.int (σ.1 k) :: st) (ch_put m w σ) Q) : ch_FT g kb M d pc ls (va_rf (some m) :: st) (ch_put m w σ) Q :=
  ch_get (some m) _ rfl hd hf (by rw [ch_val_I hi, ch_put_m]) (by rw [ch_tg, ch_put_m]) kk
theorem mp_gA (k : Nat) {idx : Nat} (hd : decode M.2.1 pc = .ok (.getfield idx, 3)) (hf : ch_fl M.1.cls idx 3 k) (hi : ch_isR (ch_ft 3 k) = true) (kk : ch_FT g kb M d (pc + 3) ls (va_rf (ch_mr m k) :: st) (ch_put m w σ) Q) : ch_FT g kb M d pc ls (va_rf (some m) :: st) (ch_put m w σ) Q :=
  ch_get (some m) _ rfl hd hf (by rw [ch_val_R hi, ch_put_m]) (by rw [ch_tg, ch_put_m]) kk
theorem mp_pI {β : Type} {res : β} {f : ch_S → Option β} {x : Int32} {k idx : Nat} (hd : decode M.2.1 pc = .ok (.putfield idx, 3)) (hf : ch_fl M.1.cls idx 3 k) (hfin : ch_fin M 3 k = true) (hi : ch_ft 3 k = .int) (hkb : kb = false) (h : (ch_mI σ k x).bind f = some res) (kk : ∀ v, f v = some res → ch_FT g kb M d (pc + 3) ls st (ch_put m w v) Q) : ch_FT g kb M d pc ls (.int x :: va_rf (some m) :: st) (ch_put m w σ) Q := by
  subst hkb
  refine ch_putI (some m) _ rfl hd hf hfin (by rw [hi]; rfl) (by rw [ch_tg, ch_put_m]) (by rw [hi]; rfl) (by rw [hi]; rfl) rfl ?_
  rw [ch_put_si]
  exact kk _ h
theorem mp_pZ {β : Type} {res : β} {f : ch_S → Option β} {x : Int32} {k idx : Nat} (hd : decode M.2.1 pc = .ok (.putfield idx, 3)) (hf : ch_fl M.1.cls idx 3 k) (hfin : ch_fin M 3 k = true) (hi : ch_ft 3 k = .boolean) (hkb : kb = false) (h : (ch_bit x).bind (fun _ => (ch_mI σ k x).bind f) = some res) (kk : ∀ v, f v = some res → ch_FT g kb M d (pc + 3) ls st (ch_put m w v) Q) : ch_FT g kb M d pc ls (.int x :: va_rf (some m) :: st) (ch_put m w σ) Q := by
  subst hkb
  obtain ⟨b, hb, h⟩ := ch_bd h
  unfold ch_bit at hb
  split at hb
  case isFalse => cases hb
  case isTrue hb0 =>
    refine ch_putI (some m) _ rfl hd hf hfin (by rw [hi]; rfl) (by rw [ch_tg, ch_put_m]) (by rw [hi]; exact ch_nb hb0) (by rw [hi]; rcases hb0 with rfl | rfl <;> rfl) rfl ?_
    rw [ch_put_si]
    exact kk _ h
theorem ch_minA {k j t n : Nat} (hk : ch_mok k j t n) : ch_mr m k = some (m + 1 + j) ∧ ch_tg (ch_put m w σ) (m + 1 + j) = t ∧ ch_ln (ch_put m w σ) (m + 1 + j) = ch_ml k ∧ ∀ i, ch_gi (ch_put m w σ) (m + 1 + j) i = σ.2 k i := by
  obtain ⟨h1, h2, h3⟩ := hk
  refine ⟨by rw [ch_mr, h1]; rfl, by rw [ch_tg, ch_put_a h2], by rw [ch_ln, ch_put_a h2, h3], fun i => by rw [ch_gi, ch_put_a h2]⟩
theorem mp_iald {β : Type} {res : β} {f : Int32 → Option β} {i : Int32} {k j n : Nat} (hd : decode M.2.1 pc = .ok (.iaload, 1)) (hk : ch_mok k j 31 n) (h : (ch_ma σ k i).bind f = some res) (kk : ∀ v, f v = some res → ch_FT g kb M d (pc + 1) ls (.int v :: st) (ch_put m w σ) Q) : ch_FT g kb M d pc ls (.int i :: va_rf (ch_mr m k) :: st) (ch_put m w σ) Q := by
  obtain ⟨v, h1, h2⟩ := ch_bd h
  unfold ch_ma at h1
  split at h1
  case isFalse => cases h1
  case isTrue hc =>
    cases h1
    obtain ⟨e1, e2, e3, e4⟩ := ch_minA (m := m) (w := w) (σ := σ) hk
    refine ch_iald _ i e1 hd (by rw [e2]; rfl) (by rw [e3]; exact hc) ?_
    rw [e4]
    exact kk _ h2
theorem mp_zald {β : Type} {res : β} {f : Int32 → Option β} {i : Int32} {k j n : Nat} (hd : decode M.2.1 pc = .ok (.baload, 1)) (hk : ch_mok k j 33 n) (h : (ch_ma σ k i).bind f = some res) (kk : ∀ v, f v = some res → ch_FT g kb M d (pc + 1) ls (.int v :: st) (ch_put m w σ) Q) : ch_FT g kb M d pc ls (.int i :: va_rf (ch_mr m k) :: st) (ch_put m w σ) Q := by
  obtain ⟨v, h1, h2⟩ := ch_bd h
  unfold ch_ma at h1
  split at h1
  case isFalse => cases h1
  case isTrue hc =>
    cases h1
    obtain ⟨e1, e2, e3, e4⟩ := ch_minA (m := m) (w := w) (σ := σ) hk
    refine ch_zald _ i e1 hd (by rw [e2]; rfl) (by rw [e3]; exact hc) ?_
    rw [e4]
    exact kk _ h2
theorem mp_iast {β : Type} {res : β} {f : ch_S → Option β} {i x : Int32} {k j n : Nat} (hd : decode M.2.1 pc = .ok (.iastore, 1)) (hk : ch_mok k j 31 n) (hkb : kb = false) (h : (ch_mw σ k i x).bind f = some res) (kk : ∀ v, f v = some res → ch_FT g kb M d (pc + 1) ls st (ch_put m w v) Q) : ch_FT g kb M d pc ls (.int x :: .int i :: va_rf (ch_mr m k) :: st) (ch_put m w σ) Q := by
  subst hkb
  obtain ⟨v, h1, h2⟩ := ch_bd h
  unfold ch_mw at h1
  split at h1
  case isFalse => cases h1
  case isTrue hc =>
    cases h1
    obtain ⟨e1, e2, e3, e4⟩ := ch_minA (m := m) (w := w) (σ := σ) hk
    refine ch_iast _ i x e1 hd (by rw [e2]; rfl) (by rw [e2]; decide) (by rw [e3]; exact hc) rfl ?_
    rw [ch_put_sa hk.2.1]
    exact kk _ h2
theorem mp_zast {β : Type} {res : β} {f : ch_S → Option β} {i x : Int32} {k j n : Nat} (hd : decode M.2.1 pc = .ok (.bastore, 1)) (hk : ch_mok k j 33 n) (hkb : kb = false) (h : (ch_bit x).bind (fun _ => (ch_mw σ k i x).bind f) = some res) (kk : ∀ v, f v = some res → ch_FT g kb M d (pc + 1) ls st (ch_put m w v) Q) : ch_FT g kb M d pc ls (.int x :: .int i :: va_rf (ch_mr m k) :: st) (ch_put m w σ) Q := by
  subst hkb
  obtain ⟨b, hb, h⟩ := ch_bd h
  unfold ch_bit at hb
  split at hb
  case isFalse => cases hb
  case isTrue hb0 =>
    obtain ⟨v, h1, h2⟩ := ch_bd h
    unfold ch_mw at h1
    split at h1
    case isFalse => cases h1
    case isTrue hc =>
      cases h1
      obtain ⟨e1, e2, e3, e4⟩ := ch_minA (m := m) (w := w) (σ := σ) hk
      have e : vp_nar .boolean x = x := by
        unfold vp_nar
        rw [ch_nb hb0]
      refine ch_zast _ i x e1 hd (by rw [e2]; rfl) (by rw [e2]; decide) (by rw [e3]; exact hc) rfl ?_
      rw [e, ch_put_sa hk.2.1]
      exact kk _ h2
end MROW
