/-! the law from its entry; the claim out of what level B owes (lw_P, lw_Q, lw_Z, lw_walk, lw_pre_spec, lw_comes, lw_limb began as the kit's SKELETON) -/
set_option maxRecDepth 100000
def R_law : String := "ClassHouseLaw"
/-- both objects made: the relation holds -/
def ch_Init (g : State) (t0 m : Nat) (Rel : Nat → ch_W → ch_S → Prop) : Prop :=
  ∃ (w1 w2 w3 w4 : ch_W) (σ0 : ch_S), ch_nO (cs_w g) 1 7 = some w1 ∧ t0 = ch_nx (cs_w g) ∧ c_X0_init g t0 w1 = some w2 ∧ m = ch_nx w2 ∧ ch_nO w2 4 109 = some w3 ∧ c_X3_init m w3 = some (ch_put m w4 σ0) ∧ g.heap.size ≤ m ∧ ch_Base g (ch_put m w4 σ0) ∧ Rel 0 (ch_put m w4 σ0) σ0
/-- WHAT LEVEL B OWES -/
def ch_Owed : Prop := ∀ (g : State) (b L : Nat) (xs : Nat → Int32), L ≤ 384 → ch_W0 g b L xs (cs_w g) → ∃ (t0 m : Nat) (Rel : Nat → ch_W → ch_S → Prop), ch_Sim g t0 m Rel ∧ ch_Init g t0 m Rel
theorem lw_start {g : State} {b L : Nat} {xs : Nat → Int32} {Q : Outcome → ch_W → Prop} (hO : ch_Owed) (h0 : ch_W0 g b L xs (cs_w g)) (hL : L ≤ 384) (hQ : ∀ w, Q (.returned (some (.int 1))) w) : ch_FT g false mL 2048 0 [some (va_rf (some b)), none, none, none] [] (cs_w g) Q := by
  obtain ⟨t0, m, Rel, hS, w1, w2, w3, w4, σ0, h1, h2, h3, h4, h5, h6, h7, h8, h9⟩ := hO g b L xs hL h0
  refine cp_new (ci := 0) (n := 7) (q := (RX0, TX0, 7)) (f := some) (res := w1) dL_0 rfl q228 q229 q200 (by rw [h1]; rfl) (fun v hv => ?_)
  cases hv
  rw [← h2]
  refine ch_dup dL_3 (ch_cat _) (ch_ii yX0_init prog_1_method_6_code 1 (b := t0) (d' := 8) (av := []) (rest := [va_rf (some t0)]) rfl dL_4 rfl q230 q231 q232 can_X0_init (Nat.le_of_ble_eq_true rfl) (ch_hw (Nat.le_of_ble_eq_true rfl)) (cp_kV (w1 := w2) (fun Q' hq => ch_CT.weak (s_X0_init h3 hq)) ?_))
  refine ch_astore_n 1 (some t0) (ls1 := [some (va_rf (some b)), some (va_rf (some t0)), none, none]) dL_7 (Nat.le_of_ble_eq_true rfl) rfl ?_
  refine cp_new (ci := 3) (n := 109) (q := (RX3, TX3, 109)) (f := some) (res := w3) dL_8 rfl q1534 q1535 q206 (by rw [h5]; rfl) (fun v hv => ?_)
  cases hv
  rw [← h4]
  refine ch_dup dL_11 (ch_cat _) (ch_ii yX3_init prog_14_method_1_code 1 (b := m) (d' := 3) (av := []) (rest := [va_rf (some m)]) rfl dL_12 rfl q1536 q1537 q1538 can_X3_init (Nat.le_of_ble_eq_true rfl) (ch_hw (Nat.le_of_ble_eq_true rfl)) (cp_kV (w1 := ch_put m w4 σ0) (fun Q' hq => s_X3_init h6 hq) ?_))
  refine ch_astore_n 2 (some m) (ls1 := [some (va_rf (some b)), some (va_rf (some t0)), some (va_rf (some m)), none]) dL_15 (Nat.le_of_ble_eq_true rfl) rfl ?_
  refine ch_iconst _ 0 dL_16 rfl (ch_istore_n 3 0 (ls1 := lw_ls b t0 m (Int32.ofNat (6 * 0))) dL_17 (Nat.le_of_ble_eq_true rfl) rfl ?_)
  exact lw_loop hS h0 h7 hL hQ 64 0 _ σ0 (by omega) (by omega) ⟨h8, (lw_putput _ _ _ _).symm, h9⟩
def lw_P (b : Addr) (xs : List Int32) (args : Array Value) (s : State) : Prop := args = #[.ref b] ∧ s.IntsAt b xs ∧ xs.length ≤ 384 ∧ (Jvm.Cond.and given_1 narrow_1).before args s = true
def lw_Kp (_ : Program) (e : Env) (_ : List Frame) (s : State) (_ : Array Value) : Prop := e.platform.stackTraces = false ∧ heapFits s = true
def lw_Q (_ : Array Value) (s : State) (o : Outcome) (t : State) : Prop := o = .returned (some (.int 1)) ∧ Framed s o t [] 601024 7293034
theorem lw_dropL {s s' : State} {L : List Loc} {k n : Nat} (h : s.sameButNew s' L k n) (hJ : ∀ q ∈ L, s.heap.size ≤ q.base) (hk : k ≤ 601024) (hn : n ≤ 7293034) : s.sameButNew s' [] 601024 7293034 := by
  obtain ⟨h1, h2, h3, h4, h5, h6⟩ := h
  refine ⟨h1, h2, by omega, h4, by omega, fun a c hc => ?_⟩
  obtain ⟨c', g1, g2, g3, g4⟩ := h6 a c hc
  refine ⟨c', g1, g2, g3, fun i _ => g4 i (fun hi => ?_)⟩
  have := hJ _ hi
  have ha := (Array.getElem?_eq_some_iff.mp hc).1
  exact absurd ha (Nat.not_lt.mpr this)
set_option maxHeartbeats 4000000 in
theorem lw_walk (hO : ch_Owed) (l : Launch) (b : Addr) (xs : List Int32) : MetFree l x (headSpec (Jvm.Cond.code x code maxLocals ret :: tables_1) room_1) (lw_P b xs) lw_Kp lw_Q := by
  refine MetFree.of_bodyS (code := code) (maxLocals := maxLocals) (ret := ret) (by decide) ?_ ?_
  · intro args s m h hn
    obtain ⟨meth, c, h1, h2, h3, h4, h5, h6, -, -⟩ := Cond.code_spec hn (atoms_spec (ws := Jvm.Cond.code x code maxLocals ret :: tables_1) h _ List.mem_cons_self)
    exact ⟨meth, c, h1, h2, h3, h4, h5, h6⟩
  · intro p e s m args below meth c s₁ B hml0 hP hKp
    obtain ⟨htr, hfit⟩ := hKp
    obtain ⟨rfl, hx, hbd, hgv⟩ := hP
    obtain ⟨scr, harrAt, hlist, hof, hsmall⟩ := hx
    obtain ⟨hcb, hkn, -, -⟩ := State.arrayAt?_spec harrAt
    have hown : s.vm.findClass R_law = some m.cls := findClass_of_methodNamed B.named
    have hts0 : ∀ c ∈ (Jvm.Cond.code x code maxLocals ret :: tables_1), c.before #[Value.ref b] s = true := atoms_spec (ws := Jvm.Cond.code x code maxLocals ret :: tables_1) B.pre
    have hts : ∀ w ∈ lw_tbl, w.before #[Value.ref b] s = true := k2_hts_sels lw_privs (fun w hw => hts0 w (List.mem_cons_of_mem _ hw)) lw_privs_ok
    have hml : c.maxLocals = 4 := B.maxLocals_eq (hts0 _ List.mem_cons_self)
    have X₀ : Stand p l e room_1 s m #[Value.ref b] below meth c s₁ [] 0 0 := Stand.of_body B
    have hh0 : s₁.heap = s.heap := by rw [B.state]; rfl
    have hsz : scr.slots.size = xs.length := by rw [← Array.length_toList, hlist, List.length_map]
    have hval : ∀ j : Nat, j < xs.length → scr.slots[j]? = some (.int (xs.getD j 0)) := fun j hj => by
      rw [← Array.getElem?_toList, hlist]
      simp [hj]
    have hbl : b < s.heap.size := (Array.getElem?_eq_some_iff.mp hcb).1
    have hX : va_X b xs.length (fun j => xs.getD j 0) s s.heap := ⟨scr, hcb, hof, hkn, hsz, hval⟩
    have hW0 := ch_start2 hts hgv hfit hX hbl hbd
    have hok := ch_start1 hts hgv
    obtain ⟨meth', c', k1, k2, k3, k4, k5, k6, k7, -⟩ := Cond.code_spec B.named (hts0 _ List.mem_cons_self)
    cases X₀.method.symm.trans k1
    cases X₀.code.symm.trans k2
    have hex : c.exceptionTable.toList.map (fun h => (h.startPc, h.endPc, h.handlerPc, h.catchType)) = [] := by
      have h9 := Array.isEmpty_iff.mp k7
      rw [h9]
      rfl
    have hI : ch_In s mL 2048 p e room_1 s m meth c (cs_w s) := ⟨B.exec, B.bytes, hml, B.returns, B.notSynchronized, (name_of_methodNamed B.named X₀.method).1, hex, hown, hok, ⟨Nat.le_refl _, (by show 41 * 2048 ≤ 84000; omega), (by show 601024 ≤ 0 + 601024; omega), (by show 7293034 ≤ 0 + 7293034; omega)⟩, fun q _ => rfl, htr⟩
    have hD : ch_Dy s false (cs_w s) (cs_w s) s.heap [] 0 0 := ⟨cs_w_rep s, rfl, rfl, fun q h => (by cases h), fun _ _ _ => rfl⟩
    have K := lw_start (Q := fun o w => o = .returned (some (.int 1))) hO hW0 hbd (fun _ => rfl) (l := l) (args := #[Value.ref b]) (below := below) hI hD (ch_en_L [.ref b] (n := 4) (Nat.le_of_ble_eq_true rfl))
    rw [← hh0] at K
    obtain ⟨t, a1, o, w, LL, k, n, b1, b2, b3, b4, b5, b6, b7, b8, b9, -⟩ := K s₁ rfl X₀
    refine ⟨t, o, ?_, b1, b2, b3, ⟨_, b3⟩, b5, ?_⟩
    · have e0 := lg_entry_eq m [Value.ref b] 4
      show Steps p.tables e below (s₁.setTop (entryFrame m ([Value.ref b] : List Value).toArray 4)) t
      rw [e0]
      exact a1
    · obtain ⟨-, -, -, -, c1, c2⟩ := b4
      have e1 : (cs_w s).2.2.1 = 0 := rfl
      have e2 : (cs_w s).2.2.2 = 0 := rfl
      exact lw_dropL b6 b9 (by omega) (by omega)
theorem lw_pre_spec {args : Array Value} {s : State} (h : (Jvm.Cond.and given_1 narrow_1).before args s = true) (hr : rest_1_c.before args s = true) : ∃ (b : Addr) (xs : List Int32), lw_P b xs args s := by
  have hs := flat_of_before _ h
  have hq := flat_of_before _ hr
  have hc : (Cond.count 1).before args s = true := hs _ (by decide +kernel)
  have harr : (Cond.arrayOf (.arg 0) .int).before args s = true := hs _ (by decide +kernel)
  have hle : (Cond.le (.length (.arg 0)) (.int 384)).before args s = true := hs _ (by decide +kernel)
  have hlen : (Cond.isInt (.length (.arg 0))).before args s = true := hq _ (by decide +kernel)
  have hall : (Cond.all (.arg 0) (.isInt (.elem (.arg 0) (.index 0)))).before args s = true := hq _ (by decide +kernel)
  obtain ⟨b, xs, hb, hx⟩ := State.ints_of_pre rfl harr hlen hall
  have hsm : xs.length < 2 ^ 31 := hx.choose_spec.2.2.2
  have hev : (Term.length (.arg 0)).eval args s none [] s = some (.int xs.length.toInt32) := hx.length_eval hb
  have hv := Cond.le_ints hev (show (Term.int 384).eval args s none [] s = some (.int 384) from rfl)
  have hd : xs.length.toInt32 ≤ 384 := by
    simpa [Cond.before, Cond.holds, hv] using hle
  have hN : xs.length ≤ 384 := (Int32.ofNat_le_ofNat hsm (by decide)).mp (show Int32.ofNat xs.length ≤ Int32.ofNat 384 from hd)
  exact ⟨b, xs, Cond.one_arg hc (show args[0]? = some (.ref b) from hb), hx, hN, h⟩
theorem lw_comes (hO : ch_Owed) (l : Launch) (hfl : l.flags = flags0) : Comes l x (Jvm.Cond.code x code maxLocals ret :: tables_1) room_1 (fun tb e args s => Calls_1 tb e args s ∧ rest_1 tb e args s ∧ Pre_1 tb e args s)
    (fun _ _ args s o t => lw_Q args s o t) := by
  intro p e ha hc hk s m args below hf hfit hheap happ hpre
  obtain ⟨b, xs, hP⟩ := lw_pre_spec hpre.2.2 hpre.2.1
  obtain ⟨k, o, h1, h2, h3, hQ⟩ := lw_walk hO l b xs p e ha hc hk s m args below hf ((Spec.applies_iff_loose hf).mp happ).1 hP ⟨Launch.traces_off (by rw [hfl, flags0]) ha, hheap⟩
  exact ⟨k, o, h1, h2, h3, hQ⟩
theorem lw_limb (hO : ch_Owed) (L : Cond) (hL : ∀ (args : Array Value) (s t : State), L.after args s (.returned (some (.int 1))) t = true) :
    ArmFor flags0 classFile x code maxLocals ret World_1 tables_1 room_1 Calls_1 rest_1 Pre_1
      (fun tb e a s o t => postC L tb e a s o t ∧ Framed s o t (fieldLocs frame_1_writes a s ++ arrayLocs frame_1_arrays a s ++ staticLocs frame_1_statics s) 601024 7293034) := by
  intro l hfl _ _ p e ha hc hk s m args below hf hfit hheap happ hpre
  obtain ⟨k, o, h1, h2, h3, rfl, hF⟩ := lw_comes hO l hfl p e ha hc hk s m args below hf hfit hheap happ hpre
  exact ⟨k, _, h1, h2, h3, hL args s _, hF⟩
/-- THE CLAIM, out of what level B owes -/
theorem lw_claim (hO : ch_Owed) : Claimed_1_1 ∧ Claimed_1_2 := ⟨lw_limb hO limb_1_1 (fun args s t => by simp [limb_1_1, Cond.after, Cond.holds, Cond.value]), lw_limb hO limb_1_2 (fun args s t => Cond.after_iff.mpr (by
  first | (rw [show limb_1_2 = Cond.eq .result (.int 1) from rfl, Cond.eq_ints (x := 1) (y := 1) rfl rfl]; simp; done) | (simp [limb_1_2, Cond.value, Term.eval]; done)))⟩
