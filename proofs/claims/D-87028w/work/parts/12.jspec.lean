/-! LEVEL C: Strings, statics, class objects: rows of the JDK's own -/
def ch_sV (w : ch_W) (r : Option Nat) : Option (Option Nat) := r.bind fun a => if ch_tg w a = 20 then some (ch_gr w a 0) else none
def ch_sC (w : ch_W) (r : Option Nat) : Option Int32 := r.bind fun a => if ch_tg w a = 20 then some 0 else none
section JSPEC
variable {g : State} {kb : Bool} {M : ch_M} {d pc : Nat} {ls : List (Option Value)} {st : List Value} {w : ch_W} {Q : Outcome → ch_W → Prop}
theorem ch_gets {C n dd : String} {v : Value} {idx : Nat} (hZ : ch_st g → ch_Z g C n dd v) (hd : decode M.2.1 pc = .ok (.getstatic idx, 3)) (hlink : Cond.fieldLink M.1.cls idx C n dd ∈ lw_all) (kk : ch_FT g kb M d (pc + 3) ls (v :: st) w Q) : ch_FT g kb M d pc ls st w Q := by
  intro p l e R s m args below meth c H locs cells slots w0 ls' hI hD hL
  have hok := hI.2.2.2.2.2.2.2.2.1
  have hown := hI.2.2.2.2.2.2.2.1
  obtain ⟨cf, kf, fi, f, a, cell, h1, h2, h3, h4, h5, h6, h7, h8⟩ := va_Z.moved hok.1 (hZ hok.2.2.2.2.2.2.1)
  exact W.gets hI.1 hI.2.1 hown (hok.use hlink) h1 h2 h3 h4 (by rw [hD.1.2.2.2.1 a (Nat.not_le.mp h8)]; exact h5) (fun e => by rw [e] at h6; cases h6) h7 rfl hd (kk hI hD hL)
theorem ch_getsD {idx : Nat} (hd : decode M.2.1 pc = .ok (.getstatic idx, 3)) (hlink : Cond.fieldLink M.1.cls idx "java/util/ArrayList" "DEFAULTCAPACITY_EMPTY_ELEMENTDATA" "[Ljava/lang/Object;" ∈ lw_all) (kk : ch_FT g kb M d (pc + 3) ls (va_rf (ch_stE g) :: st) w Q) : ch_FT g kb M d pc ls st w Q := ch_gets (fun h => h.2.1) hd hlink kk
theorem ch_getsS {idx : Nat} (hd : decode M.2.1 pc = .ok (.getstatic idx, 3)) (hlink : Cond.fieldLink M.1.cls idx "jdk/internal/util/Preconditions" "SIOOBE_FORMATTER" "Ljava/util/function/BiFunction;" ∈ lw_all) (kk : ch_FT g kb M d (pc + 3) ls (va_rf (ch_stF g) :: st) w Q) : ch_FT g kb M d pc ls st w Q := ch_gets (fun h => h.2.2.1) hd hlink kk
theorem ch_getsC {idx : Nat} (hd : decode M.2.1 pc = .ok (.getstatic idx, 3)) (hlink : Cond.fieldLink M.1.cls idx "java/lang/String" "COMPACT_STRINGS" "Z" ∈ lw_all) (kk : ch_FT g kb M d (pc + 3) ls (.int 1 :: st) w Q) : ch_FT g kb M d pc ls st w Q := ch_gets (fun h => h.2.2.2.2.2.1) hd hlink kk
theorem ch_getsW {idx : Nat} {host : String} (hd : decode M.2.1 pc = .ok (.getstatic idx, 3)) (hlink : Cond.fieldLinkNest M.1.cls idx "ClassHouse" "WORDS" "[Ljava/lang/String;" host ∈ lw_tbl) (kk : ch_FT g kb M d (pc + 3) ls (va_rf (ch_stW g) :: st) w Q) : ch_FT g kb M d pc ls st w Q := by
  intro p l e R s m args below meth c H locs cells slots w0 ls' hI hD hL
  have hok := hI.2.2.2.2.2.2.2.2.1
  have hown := hI.2.2.2.2.2.2.2.1
  obtain ⟨cf, kf, fi, f, a, cell, h1, h2, h3, h4, h5, h6, h7, h8⟩ := va_Z.moved hok.1 hok.2.2.2.2.2.2.1.1
  exact va_WgetsN hI.1 hI.2.1 hown (hok.nest hlink rfl rfl) h1 h2 h3 h4 (by rw [hD.1.2.2.2.1 a (Nat.not_le.mp h8)]; exact h5) (fun e => by rw [e] at h6; cases h6) h7 rfl hd (kk hI hD hL)
theorem cp_sV {β : Type} {res : β} {f : Option Nat → Option β} {r : Option Nat} {idx : Nat} (hd : decode M.2.1 pc = .ok (.getfield idx, 3)) (hlink : Cond.fieldLink M.1.cls idx "java/lang/String" "value" "[B" ∈ lw_all) (h : (ch_sV w r).bind f = some res) (kk : ∀ v, f v = some res → ch_FT g kb M d (pc + 3) ls (va_rf v :: st) w Q) : ch_FT g kb M d pc ls (va_rf r :: st) w Q := by
  obtain ⟨v, h1, h2⟩ := ch_bd h
  unfold ch_sV at h1
  obtain ⟨a, rfl, h0⟩ := ch_bd h1
  split at h0
  case isFalse => cases h0
  case isTrue ht =>
    cases h0
    intro p l e R s m args below meth c H locs cells slots w0 ls' hI hD hL
    have hok := hI.2.2.2.2.2.2.2.2.1
    have hown := hI.2.2.2.2.2.2.2.1
    obtain ⟨⟨-, -, h3⟩, h4⟩ := ch_strO hD.1 ht
    obtain ⟨cf, k, fi, f, cell, q1, q2, q3, q4, q5, -⟩ := va_OF.moved hok.1 h3
    exact W.getf hI.1 hI.2.1 hown (hok.use hlink) q1 q2 (by rw [h4]; exact q3) q4 q5 rfl rfl hd (kk _ h2 hI hD hL)
theorem cp_sC {β : Type} {res : β} {f : Int32 → Option β} {r : Option Nat} {idx : Nat} (hd : decode M.2.1 pc = .ok (.getfield idx, 3)) (hlink : Cond.fieldLink M.1.cls idx "java/lang/String" "coder" "B" ∈ lw_all) (h : (ch_sC w r).bind f = some res) (kk : ∀ v, f v = some res → ch_FT g kb M d (pc + 3) ls (.int v :: st) w Q) : ch_FT g kb M d pc ls (va_rf r :: st) w Q := by
  obtain ⟨v, h1, h2⟩ := ch_bd h
  unfold ch_sC at h1
  obtain ⟨a, rfl, h0⟩ := ch_bd h1
  split at h0
  case isFalse => cases h0
  case isTrue ht =>
    cases h0
    intro p l e R s m args below meth c H locs cells slots w0 ls' hI hD hL
    have hok := hI.2.2.2.2.2.2.2.2.1
    have hown := hI.2.2.2.2.2.2.2.1
    obtain ⟨⟨-, h3, -⟩, h4⟩ := ch_strO hD.1 ht
    obtain ⟨cf, k, fi, f, cell, q1, q2, q3, q4, q5, -⟩ := va_OF.moved hok.1 h3
    exact W.getf hI.1 hI.2.1 hown (hok.use hlink) q1 q2 (by rw [h4]; exact q3) q4 q5 rfl rfl hd (kk _ h2 hI hD hL)
theorem ch_ldcS {idx : Nat} {tx : String} (hs : Cond.stringRef M.1.cls idx tx ∈ lw_tbl) (hd : decode M.2.1 pc = .ok (.ldc idx, 2)) (kk : ch_FT g kb M d (pc + 2) ls (va_rf (some (ch_sa g M.1.cls idx)) :: st) w Q) : ch_FT g kb M d pc ls st w Q := by
  intro p l e R s m args below meth c H locs cells slots w0 ls' hI hD hL
  have hok := hI.2.2.2.2.2.2.2.2.1
  have hown := hI.2.2.2.2.2.2.2.1
  exact va_ldcS hI.1 hI.2.1 hown (hok.2.2.2.2.2.1 _ _ _ hs) hd (kk hI hD hL)
theorem ch_ldcSw {idx : Nat} {tx : String} (hs : Cond.stringRef M.1.cls idx tx ∈ lw_tbl) (hd : decode M.2.1 pc = .ok (.ldc_w idx, 3)) (kk : ch_FT g kb M d (pc + 3) ls (va_rf (some (ch_sa g M.1.cls idx)) :: st) w Q) : ch_FT g kb M d pc ls st w Q := by
  intro p l e R s m args below meth c H locs cells slots w0 ls' hI hD hL T hT X
  have hok := hI.2.2.2.2.2.2.2.2.1
  have hown := hI.2.2.2.2.2.2.2.1
  obtain ⟨t, a1, b1⟩ := kk hI hD hL T hT X
  have hZ := hok.2.2.2.2.2.1 _ _ _ hs
  exact ⟨t, X.ldcStringW hI.1 hown (text := tx) (a := ch_sa g M.1.cls idx) hZ.1 hZ.2 (g := F0 m pc ls' st) rfl (by rw [hI.2.1]; exact hd) t a1, b1⟩
theorem ch_ldcM {idx : Nat} (hlink : Cond.classLink M.1.cls idx "[Ljava/lang/Object;" ∈ lw_all) (hd : decode M.2.1 pc = .ok (.ldc idx, 2)) (kk : ch_FT g kb M d (pc + 2) ls (va_rf (some (ch_mi g)) :: st) w Q) : ch_FT g kb M d pc ls st w Q := by
  intro p l e R s m args below meth c H locs cells slots w0 ls' hI hD hL
  have hok := hI.2.2.2.2.2.2.2.2.1
  have hown := hI.2.2.2.2.2.2.2.1
  exact va_ldcM hI.1 hI.2.1 hown (hok.use hlink) hok.2.2.2.2.2.2.2 hd (kk hI hD hL)
theorem ch_getC {β : Type} {res : β} {f : Nat → Option β} {r : Option Nat} {idx : Nat} (hlink : Cond.methodLink M.1.cls idx ⟨"java/lang/Object", "getClass", "()Ljava/lang/Class;"⟩ ∈ lw_all) (hd : decode M.2.1 pc = .ok (.invokevirtual idx, 3)) (hd1 : 1 ≤ d) (hw : 2 * st.length + 14 ≤ 41) (h : (ch_rc w r 25).bind f = some res) (kk : ∀ v, f v = some res → ch_FT g kb M d (pc + 3) ls (va_rf (some (ch_mi g)) :: st) w Q) : ch_FT g kb M d pc ls (va_rf r :: st) w Q := by
  obtain ⟨b, h1, h2⟩ := ch_bd h
  obtain ⟨rfl, ht⟩ := ch_rcb h1
  intro p l e R s m args below meth c H locs cells slots w0 ls' hI hD hL
  obtain ⟨hx, hb, hml, -, -, -, -, hown, hok, ⟨hr1, hr2, -⟩, -⟩ := id hI
  obtain ⟨e0, -⟩ := ch_arrM hD.1 (ty := .object "java/lang/Object") (by rw [ht]; rfl) (by rw [ht]; decide)
  have hfind : s.vm.findClass "[Ljava/lang/Object;" = some (ch_aC g (.object "java/lang/Object")) := va_nmO (s := s) ((hok.2.1.2 (.object "java/lang/Object") (by decide)).2.moved hok.1) (by decide)
  have h9 := ch_hwA st
  exact va_getC hx hb (by rw [hml]; exact hL.1.symm) hown (hok.use hlink) (hok.nest q2347 rfl rfl) (hok.use q2346) (hok.use q660) (hok.use q676) hok.2.2.2.2.2.2.2 ⟨_, e0, rfl, hfind⟩ (by omega) (by omega) hd (kk _ h2 hI hD hL)
/-- invokevirtual of a method of String -/
theorem ch_ivS (y : MethodName) (bytes : ByteArray) (mL : Nat) (ret : Option FieldType) {idx d' b : Nat} {av rest : List Value} {st : List Value} (hst : st = av.reverse ++ .ref b :: rest) (hdg : decode M.2.1 pc = .ok (.invokevirtual idx, 3))
    (hlink : Cond.methodLink M.1.cls idx y ∈ lw_all) (hinst : Cond.instanceMethod y ∈ lw_all) (hsel : Cond.selects "java/lang/String" y y ∈ lw_all) (hcode : Cond.code y bytes mL ret ∈ lw_all) (hcan : ch_can y av.length = true)
    (hd' : d' + 1 ≤ d) (hw : (rest.map fun v => v.category).sum + (mL + 11) ≤ 41) (ht : ch_tg w b = 20) (hK : ch_CT g kb y d' (.ref b :: av) w (ch_K g kb M d pc ls rest Q)) : ch_FT g kb M d pc ls st w Q := by
  intro p l e R s m args below meth c H locs cells slots w0 ls' hI hD hL T hT X
  subst hT
  obtain ⟨hx, hb, hml, -, -, -, -, hown, hok, -⟩ := id hI
  obtain ⟨mk, methM, hnamed, hmethM, hstM, habM⟩ := Cond.instanceMethod_spec (hok.use hinst (args := args))
  obtain ⟨methM', cM, hmethM', hcM, -, hlM, -, hlkM, -, hsigM⟩ := Cond.code_spec hnamed (hok.use hcode (args := args))
  cases hmethM.symm.trans hmethM'
  obtain ⟨c2, r2, m2, q1, q2, q3, q4, kP, hkP, hkPi⟩ := Cond.selects_spec (hok.use hsel (args := args))
  obtain ⟨⟨h1, -⟩, h2⟩ := ch_strO hD.1 ht
  obtain ⟨cell, g1, g2, hcls, -⟩ := va_O.moved hok.1 h1
  have hcell : T.heap[b]? = some cell := by rw [h2]; exact g1
  cases hcls.symm.trans q1
  cases (State.methodFound?_of_named hnamed (ch_can.ne hcan)).symm.trans q2
  cases hnamed.symm.trans q3
  have hselP : selectMethod e.platform s.vm cell.cls mk = .method mk := by rw [Launch.admits_selectMethod X.admits]; exact q4
  obtain ⟨vm₁, X₁, hstep₁⟩ := X.invokevirtual hx hown (hok.use hlink) hnamed hmethM hstM hkP hkPi (ch_can.ne hcan) (a := b) (cell := cell) hcell
    (fun z h => by rw [h] at g2; cases g2) hselP hmethM habM hkP hkPi (g := F0 m pc ls' st) rfl (argsL := av) (rest := rest) ((ch_can.ln hcan) _ hsigM) hst (by rw [hb]; exact hdg)
  exact ch_callK hI hD hL X₁ hnamed hmethM hcM hlkM (ch_can.pl hcan) (by rw [hb]; exact hdg) hd' (by rw [hlM]; exact hw) hK hstep₁
end JSPEC
