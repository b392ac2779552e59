/-! LEVEL B2: both readers at a word -/
set_option maxRecDepth 100000
def nn (σ : ch_S) (k : Nat) : Nat := (σ.1 k).toNatClampNeg
/-- cells that reading on leaves alone -/
def ow (r L P : Nat) (w : ch_W) (a : Nat) : Prop := a < P ∨ (a < ch_nx w ∧ a ≠ r ∧ a ≠ L ∧ ch_gr w L fJ5_elementData ≠ some a)
/-- name i is the text t: the component's, the model's -/
def cn (g : State) (w : ch_W) (L i : Nat) (t : List Nat) : Prop := ∃ A k cap E T, rd_N g w L A k cap E T ∧ i < k ∧ T i = t
def mn (σ : ch_S) (j : Nat) (t : List Nat) : Prop := ∃ k T, md_N σ k T ∧ k ≤ 1600 ∧ j < k ∧ T j = t
def pf (g : State) (r L P : Nat) (w w' : ch_W) : Prop := ch_nx w ≤ ch_nx w' ∧ (∀ a : Nat, ow r L P w a → w'.1 a = w.1 a ∧ ow r L P w' a) ∧ ∀ (i : Nat) (t : List Nat), cn g w L i t → cn g w' L i t
theorem pf.refl {g : State} {r L P : Nat} {w : ch_W} : pf g r L P w w := ⟨Nat.le_refl _, fun _ h => ⟨rfl, h⟩, fun _ _ h => h⟩
theorem pf.trans {g : State} {r L P : Nat} {w w1 w2 : ch_W} (h : pf g r L P w w1) (h2 : pf g r L P w1 w2) : pf g r L P w w2 := ⟨Nat.le_trans h.1 h2.1, fun a ha => ⟨((h2.2.1 a (h.2.1 a ha).2).1).trans (h.2.1 a ha).1, (h2.2.1 a (h.2.1 a ha).2).2⟩, fun i t q => h2.2.2 i t (h.2.2 i t q)⟩
def pk : List Nat := [fX3_at, fX3_word, fX3_wordFrom, fX3_wordLong, fX3_wordValue, fX3_names, fX3_wrong, fX3_deep, fX3_nodes, fX3_listed, fX3_held]
def pna : List Nat := [fX3_is, fX3_one, fX3_two, fX3_of, fX3_typeOf]
def psa : List Nat := [fX3_statementIs, fX3_place, fX3_nodesFrom, fX3_value, fX3_target, fX3_toldType, fX3_toldName, fX3_inner, fX3_other, fX3_nextOf]
def pa : List Nat := [fX3_nameFrom, fX3_nameLong, fX3_list, fX3_hold] ++ pna
def mf (σ σ' : ch_S) : Prop := md_fr pk pa σ σ' ∧ nn σ fX3_nodes ≤ nn σ' fX3_nodes ∧ nn σ fX3_listed ≤ nn σ' fX3_listed ∧ nn σ fX3_statements ≤ nn σ' fX3_statements ∧ σ'.1 fX3_held = σ.1 fX3_held ∧
  (∀ a ∈ pna, ∀ k : Nat, k < nn σ fX3_nodes → σ'.2 a k = σ.2 a k) ∧ (∀ k : Nat, k < nn σ fX3_listed → σ'.2 fX3_list k = σ.2 fX3_list k) ∧ (∀ k : Nat, k < nn σ fX3_held → σ'.2 fX3_hold k = σ.2 fX3_hold k) ∧ (∀ a ∈ psa, ∀ k : Nat, k < nn σ fX3_statements → σ'.2 a k = σ.2 a k) ∧ ∀ (j : Nat) (t : List Nat), mn σ j t → mn σ' j t
theorem mf.refl {σ : ch_S} : mf σ σ := ⟨md_fr.refl, Nat.le_refl _, Nat.le_refl _, Nat.le_refl _, rfl, fun _ _ _ _ => rfl, fun _ _ => rfl, fun _ _ => rfl, fun _ _ _ _ => rfl, fun _ _ h => h⟩
theorem mf.trans {σ σ1 σ2 : ch_S} (h : mf σ σ1) (h2 : mf σ1 σ2) : mf σ σ2 := by
  obtain ⟨a1, a2, a3, a4, a5, a6, a7, a8, a9, a10⟩ := h
  obtain ⟨b1, b2, b3, b4, b5, b6, b7, b8, b9, b10⟩ := h2
  have hh : nn σ1 fX3_held = nn σ fX3_held := by unfold nn; rw [a5]
  exact ⟨a1.trans b1, by omega, by omega, by omega, b5.trans a5, fun a ha k hk => (b6 a ha k (by omega)).trans (a6 a ha k hk), fun k hk => (b7 k (by omega)).trans (a7 k hk), fun k hk => (b8 k (by omega)).trans (a8 k hk), fun a ha k hk => (b9 a ha k (by omega)).trans (a9 a ha k hk), fun j t q => b10 j t (a10 j t q)⟩
/-- the room of the row behind the names -/
def cpN (w : ch_W) (L : Nat) : Nat := match ch_gr w L fJ5_elementData with
  | some A => ch_ln w A
  | none => 0
/-- the lists of names and of classes -/
def rdK (w : ch_W) (r L : Nat) : Prop := ch_gr w r fX4_names = some L ∧ ch_gr w r fX4_kinds = some (L + 1)
theorem rdK.keep {w w' : ch_W} {r L : Nat} (h : rdK w r L) (hr : ∀ k : Nat, ch_gr w' r k = ch_gr w r k) : rdK w' r L := ⟨by rw [hr]; exact h.1, by rw [hr]; exact h.2⟩
def pjC (g : State) (P r L S n : Nat) (f : Nat → Nat) (w : ch_W) (tc fr tt op ps : Nat) : Prop := bb g w ∧ g.heap.size ≤ P ∧ P ≤ r ∧ P ≤ L ∧ S < P ∧ (∀ b, ch_tg w b ≠ 0 → b < ch_nx w) ∧ rd_at w r S n f tc fr tt ∧ ch_gi w r fX4_open = Int32.ofNat op ∧ op ≤ 30 ∧ rdK w r L ∧ ∃ A k cap E T, rd_N g w L A k cap E T ∧ k ≤ ps + 10 ∧ (P ≤ A ∨ ch_tg w A = 55)
def pjN (σ : ch_S) : Prop := σ.1 fX3_nodes = Int32.ofNat (nn σ fX3_nodes) ∧ σ.1 fX3_listed = Int32.ofNat (nn σ fX3_listed) ∧ σ.1 fX3_held = Int32.ofNat (nn σ fX3_held) ∧ σ.1 fX3_statements = Int32.ofNat (nn σ fX3_statements)
def pjM (n : Nat) (f : Nat → Nat) (σ : ch_S) (tc fr tt op : Nat) : Prop := md_S σ n f ∧ md_wd σ f tc fr tt ∧ σ.1 fX3_wrong = -1 ∧ σ.1 fX3_deep = Int32.ofNat op ∧ n ≤ 1280 ∧ (∃ k T, md_N σ k T ∧ k ≤ fr + 10 ∧ (tc = 1 → ∃ j : Nat, j < k ∧ σ.1 fX3_wordValue = Int32.ofNat j ∧ T j = lx_tx f fr tt)) ∧ pjN σ
def pjA (L n C1 C2 : Nat) (w : ch_W) (σ : ch_S) (fr : Nat) : Prop := C1 ≤ 601000 ∧ C2 ≤ 7250000 ∧ ch_cs w + 128 * (n - fr) ≤ C1 ∧ ch_sl w + 1024 * (n - fr) ≤ C2 + 4 * cpN w L ∧ nn σ fX3_nodes + (n - fr) ≤ 1400 ∧ nn σ fX3_listed + (n - fr) ≤ 1400 ∧ nn σ fX3_held ≤ fr ∧ nn σ fX3_statements + (n - fr) ≤ 1400
/-- BOTH READERS -/
def pj (g : State) (P r L S n : Nat) (f : Nat → Nat) (C1 C2 : Nat) (w : ch_W) (σ : ch_S) (tc fr tt op om ps : Nat) : Prop := pjC g P r L S n f w tc fr tt op ps ∧ pjM n f σ tc fr tt om ∧ pjA L n C1 C2 w σ ps
/-- what was used: u (of the component's room), s (of the model's rows) are left -/
def bd (L : Nat) (u s : Int) (w : ch_W) (σ : ch_S) (fr : Nat) (w' : ch_W) (σ' : ch_S) (fr' : Nat) : Prop := fr ≤ fr' ∧ (ch_cs w' : Int) + 32 * u ≤ ch_cs w + 128 * ((fr' : Int) - fr) ∧ (ch_sl w' : Int) + 4 * cpN w L + 256 * u ≤ ch_sl w + 1024 * ((fr' : Int) - fr) + 4 * cpN w' L ∧ (nn σ' fX3_nodes : Int) + s ≤ nn σ fX3_nodes + ((fr' : Int) - fr) ∧ (nn σ' fX3_listed : Int) + s ≤ nn σ fX3_listed + ((fr' : Int) - fr) ∧ (nn σ' fX3_statements : Int) + s ≤ nn σ fX3_statements + ((fr' : Int) - fr)
theorem bd.trans {L : Nat} {u s u2 s2 : Int} {w w1 w2 : ch_W} {σ σ1 σ2 : ch_S} {a b c : Nat} (h : bd L u s w σ a w1 σ1 b) (h2 : bd L u2 s2 w1 σ1 b w2 σ2 c) : bd L (u + u2) (s + s2) w σ a w2 σ2 c := by
  unfold bd at *
  omega
theorem bd.refl {L : Nat} {w : ch_W} {σ : ch_S} {a : Nat} : bd L 0 0 w σ a w σ a := by
  unfold bd
  omega
theorem bd.weak {L : Nat} {u s u' s' : Int} {w w1 : ch_W} {σ σ1 : ch_S} {a b : Nat} (h : bd L u s w σ a w1 σ1 b) (hu : u' ≤ u) (hs : s' ≤ s) : bd L u' s' w σ a w1 σ1 b := by
  unfold bd at *
  omega
theorem pjA.step {L n C1 C2 : Nat} {u s : Int} {w w' : ch_W} {σ σ' : ch_S} {fr fr' : Nat} (h : pjA L n C1 C2 w σ fr) (hb : bd L u s w σ fr w' σ' fr') (hu : 0 ≤ u) (hs : 0 ≤ s) (hn : fr' ≤ n) (hh : σ'.1 fX3_held = σ.1 fX3_held) : pjA L n C1 C2 w' σ' fr' := by
  have e : nn σ' fX3_held = nn σ fX3_held := by unfold nn; rw [hh]
  unfold bd at hb
  unfold pjA at *
  omega
def pr (g : State) (P r L : Nat) (u s : Int) (w : ch_W) (σ : ch_S) (fr : Nat) (w' : ch_W) (σ' : ch_S) (fr' : Nat) : Prop := pf g r L P w w' ∧ mf σ σ' ∧ bd L u s w σ fr w' σ' fr'
theorem pr.trans {g : State} {P r L : Nat} {u s u2 s2 : Int} {w w1 w2 : ch_W} {σ σ1 σ2 : ch_S} {a b c : Nat} (h : pr g P r L u s w σ a w1 σ1 b) (h2 : pr g P r L u2 s2 w1 σ1 b w2 σ2 c) : pr g P r L (u + u2) (s + s2) w σ a w2 σ2 c := ⟨h.1.trans h2.1, h.2.1.trans h2.2.1, h.2.2.trans h2.2.2⟩
theorem pr.weak {g : State} {P r L : Nat} {u s u' s' : Int} {w w1 : ch_W} {σ σ1 : ch_S} {a b : Nat} (h : pr g P r L u s w σ a w1 σ1 b) (hu : u' ≤ u) (hs : s' ≤ s) : pr g P r L u' s' w σ a w1 σ1 b := ⟨h.1, h.2.1, h.2.2.weak hu hs⟩
theorem pr.refl {g : State} {P r L : Nat} {w : ch_W} {σ : ch_S} {a : Nat} : pr g P r L 0 0 w σ a w σ a := ⟨pf.refl, mf.refl, bd.refl⟩
/-- the component has refused the text at q -/
def pe (P C1 C2 : Nat) (w w' : ch_W) (e q : Nat) : Prop := ch_tg w' e = 6 ∧ ch_gi w' e fX5_answer = (-1) - Int32.ofNat q ∧ (∀ a : Nat, a < P → w'.1 a = w.1 a) ∧ ch_nx w ≤ ch_nx w' ∧ ch_cs w' ≤ C1 + 1 ∧ ch_sl w' ≤ C2 + 30000 ∧ ∀ b, ch_tg w' b ≠ 0 → b < ch_nx w'
/-- the model is stuck at q -/
def dk (σ : ch_S) (q : Nat) : Prop := σ.1 fX3_wrong = Int32.ofNat q ∨ (σ.1 fX3_wrong = -1 ∧ σ.1 fX3_word = 1 ∧ σ.1 fX3_wordFrom = Int32.ofNat q)
def pd (n : Nat) (sd : Int) (σ : ch_S) (fr : Nat) (σ' : ch_S) (q : Nat) : Prop := md_fr pk pa σ σ' ∧ dk σ' q ∧ fr ≤ q ∧ q ≤ n ∧ pjN σ' ∧ σ'.1 fX3_held = σ.1 fX3_held ∧ (nn σ' fX3_nodes : Int) + sd ≤ nn σ fX3_nodes + ((q : Int) - fr) + (if σ'.1 fX3_wrong = -1 then 0 else 1) ∧ (nn σ' fX3_listed : Int) + sd ≤ nn σ fX3_listed + ((q : Int) - fr) ∧ (nn σ' fX3_statements : Int) + sd ≤ nn σ fX3_statements + ((q : Int) - fr) + (if σ'.1 fX3_wrong = -1 then 0 else 1)
/-- both go on, or both are stuck -/
def po {α : Type} (P n C1 C2 : Nat) (sd : Int) (w : ch_W) (σ : ch_S) (fr : Nat) (x : Option (Except Nat α × ch_W)) (y : Option (Int32 × ch_S)) (Q : α → ch_W → Int32 → ch_S → Prop) : Prop :=
  (∃ a w' b σ', x = some (.ok a, w') ∧ y = some (b, σ') ∧ Q a w' b σ') ∨ (∃ e w' b σ' q, x = some (.error e, w') ∧ y = some (b, σ') ∧ pe P C1 C2 w w' e q ∧ pd n sd σ fr σ' q)
