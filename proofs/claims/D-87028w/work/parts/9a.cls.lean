/-! LEVEL B2: classes: what stays, members -/
set_option maxRecDepth 100000
/-- cells that are done -/
def ow2 (r L K P : Nat) (w : ch_W) (x : Nat) : Prop := ow r L P w x ∧ P ≤ x ∧ x ≠ K ∧ ch_gr w K fJ5_elementData ≠ some x
/-- what stays when classes are read: cells below hA that are done; all of trees -/
def cf (g : State) (r L K P hA : Nat) (w w' : ch_W) : Prop := ch_nx w ≤ ch_nx w' ∧ (∀ x : Nat, ow2 r L K P w x → x < hA → w'.1 x = w.1 x ∧ ow2 r L K P w' x) ∧ (∀ x : Nat, ow r L P w x → (ch_tg w x = 11 ∨ ch_tg w x = 27 ∨ ch_tg w x = 28 ∨ ch_tg w x = 10) → w'.1 x = w.1 x ∧ ow r L P w' x) ∧ (∀ (i : Nat) (t : List Nat), cn g w L i t → cn g w' L i t) ∧ (∀ x : Nat, x < P → w'.1 x = w.1 x) ∧ (ow r L P w K → w'.1 K = w.1 K ∧ ow r L P w' K) ∧ ∀ x : Nat, ow r L P w x → x < hA → w'.1 x = w.1 x ∧ ow r L P w' x
def cmA : List Nat := [fX3_memberId, fX3_memberAt, fX3_memberType, fX3_isMethod, fX3_body, fX3_closeAt]
def cpA : List Nat := [fX3_parameterType, fX3_parameterId]
/-- what stays of the model -/
def mfk (hs M Q : Nat) (σ σ' : ch_S) : Prop := mg σ σ' ∧ (∀ arr ∈ psa, ∀ k : Nat, k < hs → σ'.2 arr k = σ.2 arr k) ∧ (∀ arr ∈ cmA, ∀ k : Nat, k < M → σ'.2 arr k = σ.2 arr k) ∧ (∀ k : Nat, k ≤ M → σ'.2 fX3_parameterFrom k = σ.2 fX3_parameterFrom k) ∧ ∀ arr ∈ cpA, ∀ k : Nat, k < Q → σ'.2 arr k = σ.2 arr k
section CF
variable {g : State} {r L K P hA hs M Q : Nat} {w w1 w' : ch_W} {σ σ1 σ' : ch_S}
theorem cf.refl : cf g r L K P hA w w := ⟨Nat.le_refl _, fun _ h _ => ⟨rfl, h⟩, fun _ h _ => ⟨rfl, h⟩, fun _ _ h => h, fun _ _ => rfl, fun z => ⟨rfl, z⟩, fun _ z _ => ⟨rfl, z⟩⟩
theorem cf.trans (h : cf g r L K P hA w w1) (h2 : cf g r L K P hA w1 w') : cf g r L K P hA w w' := by
  refine ⟨Nat.le_trans h.1 h2.1, fun x hx hl => ?_, fun x hx ht => ?_, fun i t q => h2.2.2.2.1 i t (h.2.2.2.1 i t q), fun x hx => (h2.2.2.2.2.1 x hx).trans (h.2.2.2.2.1 x hx), fun z => ⟨(h2.2.2.2.2.2.1 (h.2.2.2.2.2.1 z).2).1.trans (h.2.2.2.2.2.1 z).1, (h2.2.2.2.2.2.1 (h.2.2.2.2.2.1 z).2).2⟩, fun x z hl => ⟨(h2.2.2.2.2.2.2 x (h.2.2.2.2.2.2 x z hl).2 hl).1.trans (h.2.2.2.2.2.2 x z hl).1, (h2.2.2.2.2.2.2 x (h.2.2.2.2.2.2 x z hl).2 hl).2⟩⟩
  · obtain ⟨a1, a2⟩ := h.2.1 x hx hl
    obtain ⟨b1, b2⟩ := h2.2.1 x a2 hl
    exact ⟨b1.trans a1, b2⟩
  · obtain ⟨a1, a2⟩ := h.2.2.1 x hx ht
    obtain ⟨b1, b2⟩ := h2.2.2.1 x a2 (by rw [(b_cell a1).1]; exact ht)
    exact ⟨b1.trans a1, b2⟩
theorem cf.weak {hA' : Nat} (h : cf g r L K P hA w w1) (hh : hA' ≤ hA) : cf g r L K P hA' w w1 := ⟨h.1, fun x hx hl => h.2.1 x hx (by omega), h.2.2.1, h.2.2.2.1, h.2.2.2.2.1, h.2.2.2.2.2.1, fun x z hl => h.2.2.2.2.2.2 x z (by omega)⟩
theorem pf.cf (h : pf g r L P w w') (hK : ow r L P w K) : cf g r L K P hA w w' := by
  refine ⟨h.1, fun x hx _ => ?_, fun x hx _ => h.2.1 x hx, h.2.2, fun x hx => (h.2.1 x (Or.inl hx)).1, fun z => h.2.1 K z, fun x z _ => h.2.1 x z⟩
  obtain ⟨a1, a2⟩ := h.2.1 x hx.1
  refine ⟨a1, a2, hx.2.1, hx.2.2.1, ?_⟩
  rw [(b_cell (h.2.1 K hK).1).2.2.2.1]
  exact hx.2.2.2
theorem pe.cf {C1 C2 e q : Nat} {w0 : ch_W} (h : pe P C1 C2 w w' e q) (hc : cf g r L K P hA w0 w) : pe P C1 C2 w0 w' e q := by
  obtain ⟨h1, h2, h3, h4, h5⟩ := h
  exact ⟨h1, h2, fun a ha => (h3 a ha).trans (hc.2.2.2.2.1 a ha), Nat.le_trans hc.1 h4, h5⟩
theorem mg.refl : mg σ σ := mf.refl.mg
theorem mg.trans (h : mg σ σ1) (h2 : mg σ1 σ') : mg σ σ' := by
  obtain ⟨a1, a2, a3, a4, a5⟩ := h
  obtain ⟨b1, b2, b3, b4, b5⟩ := h2
  exact ⟨by omega, by omega, fun a ha k hk => (b3 a ha k (by omega)).trans (a3 a ha k hk), fun k hk => (b4 k (by omega)).trans (a4 k hk), fun j t q => b5 j t (a5 j t q)⟩
theorem mfk.trans (h : mfk hs M Q σ σ1) (h2 : mfk hs M Q σ1 σ') : mfk hs M Q σ σ' := ⟨h.1.trans h2.1, fun a ha k hk => (h2.2.1 a ha k hk).trans (h.2.1 a ha k hk), fun a ha k hk => (h2.2.2.1 a ha k hk).trans (h.2.2.1 a ha k hk), fun k hk => (h2.2.2.2.1 k hk).trans (h.2.2.2.1 k hk), fun a ha k hk => (h2.2.2.2.2 a ha k hk).trans (h.2.2.2.2 a ha k hk)⟩
theorem mfk.refl : mfk hs M Q σ σ := ⟨mg.refl, fun _ _ _ _ => rfl, fun _ _ _ _ => rfl, fun _ _ => rfl, fun _ _ _ _ => rfl⟩
theorem mfk.weak {hs' M' Q' : Nat} (h : mfk hs M Q σ σ') (h1 : hs' ≤ hs) (h2 : M' ≤ M) (h3 : Q' ≤ Q) : mfk hs' M' Q' σ σ' := ⟨h.1, fun a ha k hk => h.2.1 a ha k (by omega), fun a ha k hk => h.2.2.1 a ha k (by omega), fun k hk => h.2.2.2.1 k (by omega), fun a ha k hk => h.2.2.2.2 a ha k (by omega)⟩
theorem mfs.k (h : mfs σ σ') (hh : hs ≤ nn σ fX3_statements) : mfk hs M Q σ σ' := by
  have e : ∀ a : Nat, a ∈ cla → σ'.2 a = σ.2 a := fun a ha => h.1.2 a (by revert a; decide)
  refine ⟨h.mg, fun a ha k hk => h.2.2.2.2.2.2.2.2.1 a ha k (by omega), fun a ha k _ => ?_, fun k _ => ?_, fun a ha k _ => ?_⟩
  · rw [e a (by revert a; decide)]
  · rw [e _ (by decide)]
  · rw [e a (by revert a; decide)]
/-- a write into rows of members behind those that are done -/
theorem mfk_sa {a i : Nat} {v : Int32} (ha : a ∈ cla) (h : (a ∈ cmA ∧ M ≤ i) ∨ (a = fX3_parameterFrom ∧ M < i) ∨ (a ∈ cpA ∧ Q ≤ i) ∨ a = fX3_classId ∨ a = fX3_classAt ∨ a = fX3_parentId ∨ a = fX3_memberFrom) : mfk hs M Q σ (md_sa σ a i v) := by
  have dj1 : ∀ b : Nat, b ∈ pas → b ∈ cla → False := by decide
  have dj2 : ∀ b : Nat, b ∈ cmA → b ∈ cpA → False := by decide
  have e : ∀ b : Nat, b ∈ pas → (md_sa σ a i v).2 b = σ.2 b := fun b hb => md_an (fun z => by subst z; exact dj1 _ hb ha)
  have e0 : ∀ b k : Nat, (b = a → k ≠ i) → (md_sa σ a i v).2 b k = σ.2 b k := fun b k hb => by rw [md_ga, if_neg (fun z => hb z.1 z.2)]
  refine ⟨⟨Nat.le_refl _, Nat.le_refl _, fun b hb k _ => by rw [e b (by revert b; decide)], fun k _ => by rw [e _ (by decide)], fun j t q => ?_⟩, fun b hb k _ => by rw [e b (by revert b; decide)], fun b hb k hk => e0 b k (fun z => ?_), fun k hk => e0 _ k (fun z => ?_), fun b hb k hk => e0 b k (fun z => ?_)⟩
  · obtain ⟨k, T, q1, q2, q3⟩ := q
    exact ⟨k, T, q1.fr (md_fr.refl.sa (As := cla) ha) (Ks := []) (by decide) (by decide) (by decide) (by decide), q2, q3⟩
  · subst z
    rcases h with h | h | h | h | h | h | h
    · omega
    · exfalso; rw [h.1] at hb; revert hb; decide
    · exact (dj2 _ hb h.1).elim
    · exfalso; rw [h] at hb; revert hb; decide
    · exfalso; rw [h] at hb; revert hb; decide
    · exfalso; rw [h] at hb; revert hb; decide
    · exfalso; rw [h] at hb; revert hb; decide
  · subst z
    rcases h with h | h | h | h | h | h | h
    · exfalso; have := h.1; revert this; decide
    · omega
    · exfalso; have := h.1; revert this; decide
    · exfalso; revert h; decide
    · exfalso; revert h; decide
    · exfalso; revert h; decide
    · exfalso; revert h; decide
  · subst z
    rcases h with h | h | h | h | h | h | h
    · exact (dj2 _ h.1 hb).elim
    · exfalso; rw [h.1] at hb; revert hb; decide
    · omega
    · exfalso; rw [h] at hb; revert hb; decide
    · exfalso; rw [h] at hb; revert hb; decide
    · exfalso; rw [h] at hb; revert hb; decide
    · exfalso; rw [h] at hb; revert hb; decide
theorem mfk_si {a : Nat} {v : Int32} (ha : a ∈ clk) : mfk hs M Q σ (md_si σ a v) := by
  have e : ∀ k : Nat, k ∉ clk → (md_si σ a v).1 k = σ.1 k := fun k hk => by rw [md_get, if_neg (fun z => hk (by rw [z]; exact ha))]
  have en : ∀ k : Nat, k ∉ clk → nn (md_si σ a v) k = nn σ k := fun k hk => by unfold nn; rw [e k hk]
  refine ⟨⟨Nat.le_of_eq (en _ (by decide)).symm, Nat.le_of_eq (en _ (by decide)).symm, fun _ _ _ _ => rfl, fun _ _ => rfl, fun j t q => ?_⟩, fun _ _ _ _ => rfl, fun _ _ _ _ => rfl, fun _ _ => rfl, fun _ _ _ _ => rfl⟩
  obtain ⟨k, T, q1, q2, q3⟩ := q
  exact ⟨k, T, q1.fr (md_fr.refl.si (Ks := clk) ha) (As := []) (by decide) (by decide) (by decide) (by decide), q2, q3⟩
end CF
/-- a Row that is done: q numbers -/
def rwF (r L K P : Nat) (w : ch_W) (hA : Nat) (x : Option Nat) (q : Nat) (F : Nat → Int32) : Prop := ∃ R A cap, x = some R ∧ ow2 r L K P w R ∧ R < hA ∧ ow2 r L K P w A ∧ A < hA ∧ rwA w R A q cap F
/-- THE SAME MEMBER: the component's at b, the model's m -/
def mem (g : State) (r L K P : Nat) (w : ch_W) (σ : ch_S) (hA hs M Q b m : Nat) : Prop :=
  ow2 r L K P w b ∧ b < hA ∧ m < M ∧ ch_tg w b = 8 ∧ ch_gr w b fX7_code = none ∧ ch_gi w b fX7_slots = 0 ∧ ch_gi w b fX7_place = σ.2 fX3_memberAt m ∧ (∃ p, σ.2 fX3_memberAt m = Int32.ofNat p ∧ p ≤ 3000) ∧ iota g w L σ (ch_gi w b fX7_name) (σ.2 fX3_memberId m) ∧ ((ch_gi w b fX7_type = -4 ∧ σ.2 fX3_memberType m = 3) ∨ tyR g w L σ (ch_gi w b fX7_type) (σ.2 fX3_memberType m)) ∧
  (∃ pf q Ft Fn, σ.2 fX3_parameterFrom m = Int32.ofNat pf ∧ σ.2 fX3_parameterFrom (m + 1) = Int32.ofNat (pf + q) ∧ pf + q ≤ Q ∧ rwF r L K P w hA (ch_gr w b fX7_types) q Ft ∧ rwF r L K P w hA (ch_gr w b fX7_names) q Fn ∧ rwF r L K P w hA (ch_gr w b fX7_catches) 0 (fun _ => 0) ∧ (∀ k : Nat, k < q → tyR g w L σ (Ft k) (σ.2 fX3_parameterType (pf + k)) ∧ iota g w L σ (Fn k) (σ.2 fX3_parameterId (pf + k))) ∧
   ((ch_gi w b fX7_isMethod = 0 ∧ σ.2 fX3_isMethod m = 0 ∧ q = 0 ∧ tyR g w L σ (ch_gi w b fX7_type) (σ.2 fX3_memberType m)) ∨
    (ch_gi w b fX7_isMethod = 1 ∧ σ.2 fX3_isMethod m = 1 ∧ (∃ bl mm Z, ch_gr w b fX7_block = some bl ∧ s_row r L P w σ hs bl (σ.2 fX3_body m) 0 mm Z ∧ ∀ i : Nat, i < mm → ∃ a', ch_gr w bl i = some a' ∧ sth g r L P w σ hs a' (Z i)) ∧ ∃ cl, cl ≤ 3000 ∧ ch_gi w b fX7_closing = Int32.ofNat cl ∧ σ.2 fX3_closeAt m = Int32.ofNat cl)))
/-- as cf, whatever becomes of the list of classes -/
def cf0 (g : State) (r L K P hA : Nat) (w w' : ch_W) : Prop := ch_nx w ≤ ch_nx w' ∧ (∀ x : Nat, ow2 r L K P w x → x < hA → (ch_tg w x = 8 ∨ ch_tg w x = 9 ∨ ch_tg w x = 21) → w'.1 x = w.1 x ∧ ow2 r L K P w' x) ∧ (∀ x : Nat, ow r L P w x → (ch_tg w x = 11 ∨ ch_tg w x = 27 ∨ ch_tg w x = 28 ∨ ch_tg w x = 10) → w'.1 x = w.1 x ∧ ow r L P w' x) ∧ (∀ (i : Nat) (t : List Nat), cn g w L i t → cn g w' L i t) ∧ ∀ x : Nat, x < P → w'.1 x = w.1 x
theorem cf.c0 {g : State} {r L K P hA : Nat} {w w' : ch_W} (h : cf g r L K P hA w w') : cf0 g r L K P hA w w' := ⟨h.1, fun x h1 h2 _ => h.2.1 x h1 h2, h.2.2.1, h.2.2.2.1, h.2.2.2.2.1⟩
section MK
variable {g : State} {r L K P hA hs M Q hA' hs' M' Q' : Nat} {w w' : ch_W} {σ σ' : ch_S}
theorem rwF.keep {x : Option Nat} {q : Nat} {F : Nat → Int32} (h : rwF r L K P w hA x q F) (hc : cf0 g r L K P hA w w') (hh : hA ≤ hA') : rwF r L K P w' hA' x q F := by
  obtain ⟨R, A, cap, h1, h2, h3, h4, h5, h6⟩ := h
  obtain ⟨a1, a2⟩ := hc.2.1 R h2 h3 (Or.inr (Or.inl h6.1))
  obtain ⟨b1, b2⟩ := hc.2.1 A h4 h5 (Or.inr (Or.inr h6.2.2.2.1))
  exact ⟨R, A, cap, h1, a2, by omega, b2, by omega, h6.keep a1 b1⟩
theorem s_row.keepc {b lb m : Nat} {h : Int32} {Z : Nat → Nat} (hr : s_row r L P w σ hs b h lb m Z) (hk : ∀ x : Nat, ow r L P w x → (ch_tg w x = 11 ∨ ch_tg w x = 27 ∨ ch_tg w x = 28 ∨ ch_tg w x = 10) → w'.1 x = w.1 x ∧ ow r L P w' x) (hn : ∀ k : Nat, k < hs → σ'.2 fX3_nextOf k = σ.2 fX3_nextOf k) (hh : hs ≤ hs') : s_row r L P w' σ' hs' b h lb m Z := by
  obtain ⟨p1, p2, p3, p4, p5, p6, p7⟩ := hr
  obtain ⟨y1, y2⟩ := hk b p1 (Or.inr (Or.inr (Or.inl p3)))
  obtain ⟨t1, t2, t3, t4, -⟩ := b_cell y1
  refine ⟨y2, p2, by rw [t1]; exact p3, by rw [t2]; exact p4, p5, p6, fun i hi => ?_⟩
  obtain ⟨k1, k2, k3, k4⟩ := p7 i hi
  exact ⟨k1, by omega, k3, by rw [hn _ k2]; exact k4⟩
/-- A MEMBER STAYS -/
theorem mem.keep {b m : Nat} (h : mem g r L K P w σ hA hs M Q b m) (hc : cf0 g r L K P hA w w') (hm : mfk hs M Q σ σ') (hn1 : nn σ' fX3_nodes ≤ 1500) (hl1 : nn σ' fX3_listed ≤ 1500) (h1 : hA ≤ hA') (h2 : hs ≤ hs') (h3 : M ≤ M') (h4 : Q ≤ Q') (h5 : hs' ≤ 1500) : mem g r L K P w' σ' hA' hs' M' Q' b m := by
  obtain ⟨a1, a2, a3, a4, a5, a6, a7, a8, a9, a10, pf, q, Ft, Fn, b1, b2, b3, b4, b5, b6, b7, b8⟩ := h
  obtain ⟨c1, c2⟩ := hc.2.1 b a1 a2 (Or.inl a4)
  obtain ⟨e1, e2, e3, e4, -⟩ := b_cell c1
  have kA : ∀ arr ∈ cmA, σ'.2 arr m = σ.2 arr m := fun arr ha => hm.2.2.1 arr ha m a3
  have kAt := kA fX3_memberAt (by decide)
  have kId := kA fX3_memberId (by decide)
  have kTy := kA fX3_memberType (by decide)
  have kIs := kA fX3_isMethod (by decide)
  have kBo := kA fX3_body (by decide)
  have kCl := kA fX3_closeAt (by decide)
  have kP := hm.2.2.2.1 m (by omega)
  have kP1 := hm.2.2.2.1 (m + 1) (by omega)
  have kT : ∀ x y : Int32, tyR g w L σ x y → tyR g w' L σ' x y := fun x y z => z.keep (r := r) (P := P) hc.2.2.2.1 hm.1
  have kI : ∀ x y : Int32, iota g w L σ x y → iota g w' L σ' x y := fun x y z => z.keep0 hc.2.2.2.1 hm.1
  refine ⟨c2, by omega, by omega, by rw [e1]; exact a4, by rw [e4]; exact a5, by rw [e3]; exact a6, by rw [e3, kAt]; exact a7, by rw [kAt]; exact a8, by rw [e3, kId]; exact kI _ _ a9, ?_, pf, q, Ft, Fn, by rw [kP]; exact b1, by rw [kP1]; exact b2, by omega, by rw [e4]; exact b4.keep hc h1, by rw [e4]; exact b5.keep hc h1, by rw [e4]; exact b6.keep hc h1, fun k hk => ?_, ?_⟩
  · rw [e3, kTy]
    rcases a10 with z | z
    · exact Or.inl z
    · exact Or.inr (kT _ _ z)
  · obtain ⟨z1, z2⟩ := b7 k hk
    rw [hm.2.2.2.2 fX3_parameterType (by decide) _ (by omega), hm.2.2.2.2 fX3_parameterId (by decide) _ (by omega)]
    exact ⟨kT _ _ z1, kI _ _ z2⟩
  · rw [e3, e3, e3, e4, kIs, kTy, kBo, kCl]
    rcases b8 with ⟨z1, z2, z3, z4⟩ | ⟨z1, z2, ⟨bl, mm, Z, z3, z4, z5⟩, z6⟩
    · exact Or.inl ⟨z1, z2, z3, kT _ _ z4⟩
    · refine Or.inr ⟨z1, z2, ⟨bl, mm, Z, z3, z4.keepc hc.2.2.1 (fun k hk => hm.2.1 fX3_nextOf (by decide) k hk) h2, fun i hi => ?_⟩, z6⟩
      obtain ⟨a', y1, y2⟩ := z5 i hi
      have hbl := (hc.2.2.1 bl z4.1 (Or.inr (Or.inr (Or.inl z4.2.2.1)))).1
      refine ⟨a', by rw [(b_cell hbl).2.2.2.1]; exact y1, ?_⟩
      exact sth.keep0 (a0 := 0) (s1 := 0) (fun x hx ht => hc.2.2.1 x hx (by
        rcases ht with t | t | t | t
        · exact Or.inl t
        · exact Or.inr (Or.inl t)
        · exact Or.inr (Or.inr (Or.inl t))
        · exact Or.inr (Or.inr (Or.inr t.1)))) hc.2.2.2.1 hm.1 hn1 hl1 h2 h5 (fun arr q1 _ k _ hk => hm.2.1 arr q1 k hk) (fun k _ hk => hm.2.1 fX3_nextOf (by decide) k hk) 1600 a' (Z i) (by omega) (by omega) (by omega) y2
end MK
