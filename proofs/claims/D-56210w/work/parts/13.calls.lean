set_option maxRecDepth 100000
/-! CALLS -/
/-- the arguments off the stack -/
def pb_take : Nat → List pb_V → List pb_V → Option (List pb_V × List pb_V)
  | 0, st, acc => some (acc, st)
  | _ + 1, [], _ => none
  | n + 1, v :: st, acc => pb_take n st (v :: acc)
theorem pb_take_ok : ∀ {n : Nat} {st acc a rest : List pb_V}, pb_take n st acc = some (a, rest) → ∃ b, a = b ++ acc ∧ st = b.reverse ++ rest ∧ b.length = n
  | 0, st, acc, a, rest, h => by cases h; exact ⟨[], rfl, rfl, rfl⟩
  | n + 1, [], _, _, _, h => by cases h
  | n + 1, v :: st, acc, a, rest, h => by
    obtain ⟨b, h1, h2, h3⟩ := pb_take_ok (n := n) h
    exact ⟨b ++ [v], by rw [h1]; simp, by rw [h2]; simp, by simp [h3]⟩
def pb_sm (st : List pb_V) : Bool := Nat.ble ((st.map fun v => if pb_c1 v then 1 else 2).sum) 8
theorem pb_sm_ok {st : List pb_V} (h : pb_sm st = true) : ((st.map pb_cv).map fun v => v.category).sum ≤ 8 := by
  have h := Nat.le_of_ble_eq_true h
  rw [List.map_map]
  have e : (fun v => v.category) ∘ pb_cv = fun v => if pb_c1 v then 1 else 2 := by
    funext v
    cases hv : pb_c1 v with
    | true => simp [pb_c1_cat hv]
    | false => simp [pb_c2_cat hv, hv]
  rw [e]
  exact h
/-- what the tables say of a method (its own words): no handlers -/
def pb_MOK (M : pb_M) (np : Nat) : Prop := M.2.2.2.2.2.1 = none ∧ (M.2.1.cls ≠ "java/lang/invoke/MethodHandle" ∧ M.2.1.cls ≠ "java/lang/invoke/VarHandle") ∧ (parseMethodDescriptor M.2.1.desc).map (fun d => d.parameters.length) = some np ∧ M.2.2.2.1 ≤ 21 ∧ Cond.code M.2.1 M.2.2.1 M.2.2.2.1 M.2.2.2.2.1 ∈ lw_all ∧ Cond.initialized M.2.1.cls ∈ lw_all
/-- the same of a method with handlers -/
def pb_MOKW (M : pb_M) (np : Nat) (hh : List (Nat × Nat × Nat × Nat)) : Prop := M.2.2.2.2.2.1 = some hh ∧ (M.2.1.cls ≠ "java/lang/invoke/MethodHandle" ∧ M.2.1.cls ≠ "java/lang/invoke/VarHandle") ∧ (parseMethodDescriptor M.2.1.desc).map (fun d => d.parameters.length) = some np ∧ M.2.2.2.1 ≤ 21 ∧ Cond.codeWith M.2.1 M.2.2.1 M.2.2.2.1 M.2.2.2.2.1 hh ∈ lw_all ∧ Cond.initialized M.2.1.cls ∈ lw_all
section ROWS
variable {G : pb_G} {M M2 : pb_M} {n C S n2 C2 S2 : Nat} {Q Q2 : pb_O → pb_H → Prop} {k u pc : Nat} {L : List (Option pb_V)} {st a rest : List pb_V} {h : pb_H}
/-- what a call gives, and how it goes on -/
theorem pb_cont {p : Program} {e : Env} {R : Room} {s : State} {m : MethodId} {args : Array Value} {below : List Frame} {meth : Method} {c : Code} (X : pb_Cx G M n C S p R s m args meth c) {H : Heap} {locs : List Loc} {ls : Array Slot} (hL : ∀ z ∈ locs, pb_b G ≤ z.base) (hl : pb_LR (pb_ml M) L ls) (hn : L.length ≤ pb_ml M) {st0 : List Value} {av : Array Value}
    (hr : vx_Run p G.1 e R s m args below meth c H locs k u C2 S2 (F0 m pc ls st0) (rest.map pb_cv) (pb_Qc G Q2 av) (pb_XC G Q2) (fun q => pb_b G ≤ q))
    (kk : ∀ (v : Option pb_V) (h' : pb_H), Q2 (.inl v) h' → pb_Ex G M n C S Q (k + C2) (u + S2) (pc + 3) L (v.toList ++ rest) h')
    (kx : ∀ (E : String) (q : Nat) (h' : pb_H), Q2 (.inr (E, q)) h' → pb_Xx G M n C S Q (k + C2) (u + S2) pc L E q h') :
    W p G.1 e R s m args below meth c H locs k u (vx_MQ below (pb_Qc G Q) (pb_XC G Q) args s C S (fun q => pb_b G ≤ q)) (F0 m pc ls st0) := by
  intro T hT Xs
  rcases hr T hT Xs with ⟨v, st₀, t, T', L9, h0, X', hL9, e1, e2, ⟨v9, h', hv, hq, hR, hO⟩, stp⟩ | ⟨q, st₀, t, T', L9, E, ce, h0, X', hL9, e1, e2, ⟨h', hq, hR, hO⟩, hce, hcv, hcl, stp⟩
  · cases hv
    have hL' : ∀ z ∈ locs ++ L9, pb_b G ≤ z.base := fun z hz => by
      rcases List.mem_append.mp hz with h9 | h9
      · exact hL z h9
      · exact hL9 z h9
    obtain ⟨t2, a1, b1⟩ := kk v9 h' hq p e R s m args below meth c X T'.heap (locs ++ L9) ls (by rw [e1]; exact hR) (by rw [e1]; exact hO) hL' hl hn T' rfl X'
    refine ⟨t2, stp t2 ?_, b1⟩
    have e3 : ((v9.toList ++ rest).map pb_cv) = (v9.map pb_cv).toList ++ rest.map pb_cv := by cases v9 <;> rfl
    rw [e3] at a1
    exact a1
  · have hL' : ∀ z ∈ locs ++ L9, pb_b G ≤ z.base := fun z hz => by
      rcases List.mem_append.mp hz with h9 | h9
      · exact hL z h9
      · exact hL9 z h9
    obtain ⟨t2, a1, b1⟩ := kx E q h' hq p e R s m args below meth c X T'.heap (locs ++ L9) ls ce (rest.map pb_cv) (by rw [e1]; exact hR) (by rw [e1]; exact hO) hL' hl hn (by rw [e1]; exact hce) hcv hcl T' rfl X'
    exact ⟨t2, stp.trans a1, b1⟩
theorem pb_fix {p : Program} {R : Room} {s : State} {m : MethodId} {args : Array Value} {meth : Method} {c : Code} (X : pb_Cx G M n C S p R s m args meth c) : CallFix p m c (pb_cd M) (pb_ml M) s args lw_all (pb_cn M.1) := by
  obtain ⟨hx, hb, hml, hrt, hlk, hnm, hown, hts, hHT, hSF, hAl, hRm, hT, hsz⟩ := X
  exact ⟨hx, hb, hml, hown, hts⟩
theorem pb_callB {p : Program} {R : Room} {s : State} {m : MethodId} {args : Array Value} {meth : Method} {c : Code} (X : pb_Cx G M n C S p R s m args meth c) {idx np : Nat} (hM : pb_MOK M2 np) (hl : Cond.methodLink (pb_cn M.1) idx M2.2.1 ∈ lw_all) (hn2 : n2 < n) : CallB R s args (pb_cn M.1) idx M2.2.1 M2.2.2.1 M2.2.2.2.1 M2.2.2.2.2.1 (pb_ws M2) (pb_room n2 C2 S2) C2 S2 np := by
  obtain ⟨hx, hb, hml, hrt, hlk, hnm, hown, hts, hHT, hSF, hAl, hRm, hT, hsz⟩ := X
  obtain ⟨hh, hy, hp, hL9, hc, hi⟩ := hM
  have hw : pb_ws M2 = Cond.code M2.2.1 M2.2.2.1 M2.2.2.2.1 M2.2.2.2.2.1 :: lw_all := by unfold pb_ws; rw [hh]
  refine callB_of np hts ?_ hw rfl rfl (hts _ hi) (hts _ hl) ⟨hy.1, hy.2, hp⟩ ⟨?_, ?_⟩
  · rw [hw]; exact lw_meth hc
  · show n2 + 1 ≤ R.frames
    omega
  · show 8 + (M2.2.2.2.1 + 11) + 40 * n2 ≤ R.locals
    omega
theorem pb_preS {s : State} {H : Heap} (hSF : pb_SF G) (hAl : G.2.1.vm.Alike s.vm) (hR : pb_Rep G h H) (hO : pb_Old G H) (hWm : G.2.1.WarmedH s.vm) : PreS s H (pb_Pc G a h) (a.map pb_cv) := by
  refine ⟨pb_blind, fun U hU hW => ⟨rfl, hSF, hAl.trans hW.alike, ?_, ?_, State.WarmedH.trans hWm hW⟩⟩
  · rw [hU]; exact hR
  · rw [hU]; exact hO
/-- a static call -/
theorem pb_Ex.callS {nx tg idx np : Nat} (hi : pb_ig (pb_tb M) pc = some (.invokestatic idx, nx, tg)) (hl : Cond.methodLink (pb_cn M.1) idx M2.2.1 ∈ lw_all) (hs : Cond.static M2.2.1 ∈ lw_all) (hM : pb_MOK M2 np) (hst : pb_take np st [] = some (a, rest)) (hsm : pb_sm rest = true) (hc : pb_Ctr G M2 n2 C2 S2 a h Q2) (hr : n2 < n ∧ k + C2 ≤ C ∧ u + S2 ≤ S)
    (kk : ∀ (v : Option pb_V) (h' : pb_H), Q2 (.inl v) h' → pb_Ex G M n C S Q (k + C2) (u + S2) nx L (v.toList ++ rest) h')
    (kx : ∀ (E : String) (q : Nat) (h' : pb_H), Q2 (.inr (E, q)) h' → pb_Xx G M n C S Q (k + C2) (u + S2) pc L E q h') : pb_Ex G M n C S Q k u pc L st h := by
  intro p e R s m args below meth c X H locs ls hR hO hL hl9 hn
  have X' := X
  obtain ⟨hx, hb, hml, hrt, hlk, hnm, hown, hts, hHT, hSF, hAl, hRm, hT, hsz⟩ := X
  obtain ⟨hd, rfl, hj⟩ := pb_ig_ok hT hi rfl
  obtain ⟨b, e1, e2, e3⟩ := pb_take_ok hst
  rw [List.append_nil] at e1
  subst e1 e2
  refine pb_cont X' hL hl9 hn (vx_runS (As := a.map pb_cv) (pb_fix X') hc ⟨pb_callB X' hM hl hr.1, hts _ hs⟩ (pb_preS hSF hAl hR hO hsz.2) rfl (by rw [List.length_map]; exact e3) hl9.1 (by show _ = _; rw [List.map_append, List.map_reverse]) (lv_room (pb_sm_ok hsm)) hd ⟨Nat.le_trans hr.2.1 hRm.2.2.1, Nat.le_trans hr.2.2 hRm.2.2.2⟩) kk kx
/-- the receiver, an object of the list of classes -/
theorem pb_recv {s : State} {H : Heap} (hSF : pb_SF G) (hAl : G.2.1.vm.Alike s.vm) (hR : pb_Rep G h H) {b ci : Nat} {fs : List pb_V} (hb : h.2 b = some (pb_ob ci fs)) {r : vw_C} (hc : pb_cl[ci]? = some r) : ∃ cell : Cell, H[b]? = some cell ∧ cell.vm.isStatics = false ∧ s.vm.findClass r.1 = some cell.cls := by
  obtain ⟨⟨r', h1, h2, cell, q1, q2, q3, -⟩, -⟩ := hR.2.2 b _ hb
  cases Option.some.inj (h1.symm.trans hc)
  exact ⟨cell, q1, by rw [q3]; rfl, by rw [q2]; exact ((va_K.moved hAl hSF.1).1 ci _ hc).2.1⟩
/-- a call through an object -/
theorem pb_Ex.callV {nx tg idx np b ci : Nat} {fs As : List pb_V} (hi : pb_ig (pb_tb M) pc = some (.invokevirtual idx, nx, tg)) (hl : Cond.methodLink (pb_cn M.1) idx M2.2.1 ∈ lw_all) (hs : Cond.instanceMethod M2.2.1 ∈ lw_all) (hse : Cond.selects M2.2.1.cls M2.2.1 M2.2.1 ∈ lw_all) (hM : pb_MOK M2 np) (hst : pb_take (np + 1) st [] = some (pb_r b :: As, rest)) (hsm : pb_sm rest = true) (hb9 : h.2 b = some (pb_ob ci fs)) (hci : ∀ r, pb_cl[ci]? = some r → r.1 = M2.2.1.cls) (hc : pb_Ctr G M2 n2 C2 S2 (pb_r b :: As) h Q2) (hr : n2 < n ∧ k + C2 ≤ C ∧ u + S2 ≤ S)
    (kk : ∀ (v : Option pb_V) (h' : pb_H), Q2 (.inl v) h' → pb_Ex G M n C S Q (k + C2) (u + S2) nx L (v.toList ++ rest) h')
    (kx : ∀ (E : String) (q : Nat) (h' : pb_H), Q2 (.inr (E, q)) h' → pb_Xx G M n C S Q (k + C2) (u + S2) pc L E q h') : pb_Ex G M n C S Q k u pc L st h := by
  intro p e R s m args below meth c X H locs ls hR hO hL hl9 hn
  have X' := X
  obtain ⟨hx, hb, hml, hrt, hlk, hnm, hown, hts, hHT, hSF, hAl, hRm, hT, hsz⟩ := X
  obtain ⟨hd, rfl, hj⟩ := pb_ig_ok hT hi rfl
  obtain ⟨b1, e1, e2, e3⟩ := pb_take_ok hst
  rw [List.append_nil] at e1
  subst e1 e2
  obtain ⟨r, hcr⟩ : ∃ r, pb_cl[ci]? = some r := by
    obtain ⟨⟨r, h1, -⟩, -⟩ := hR.2.2 b _ hb9
    exact ⟨r, h1⟩
  · have hci := hci r hcr
    have hrc := pb_recv (s := s) hSF hAl hR hb9 hcr
    rw [hci] at hrc
    have hp := pb_preS (a := pb_r b :: As) (s := s) hSF hAl hR hO hsz.2
    refine pb_cont X' hL hl9 hn (vx_runV (As := As.map pb_cv) (b := b) (pb_fix X') hc ⟨pb_callB X' hM hl hr.1, hts _ hs, hts _ hse⟩ ⟨hp.1, hrc, hp.2⟩ rfl (by rw [List.length_map]; simpa using e3) hl9.1 (by show _ = _; simp [va_rf, pb_cv]) (lv_room (pb_sm_ok hsm)) hd ⟨Nat.le_trans hr.2.1 hRm.2.2.1, Nat.le_trans hr.2.2 hRm.2.2.2⟩) kk kx
/-- a constructor's call -/
theorem pb_Ex.callI {nx tg idx np b : Nat} {As : List pb_V} (hi : pb_ig (pb_tb M) pc = some (.invokespecial idx, nx, tg)) (hl : Cond.methodLink (pb_cn M.1) idx M2.2.1 ∈ lw_all) (hs : Cond.instanceMethod M2.2.1 ∈ lw_all) (hin : M2.2.1.name = "<init>") (hrt9 : M2.2.2.2.2.1 = none) (hM : pb_MOK M2 np) (hst : pb_take (np + 1) st [] = some (pb_r b :: As, rest)) (hsm : pb_sm rest = true) (hc : pb_Ctr G M2 n2 C2 S2 (pb_r b :: As) h Q2) (hr : n2 < n ∧ k + C2 ≤ C ∧ u + S2 ≤ S)
    (kk : ∀ (v : Option pb_V) (h' : pb_H), Q2 (.inl v) h' → pb_Ex G M n C S Q (k + C2) (u + S2) nx L (v.toList ++ rest) h')
    (kx : ∀ (E : String) (q : Nat) (h' : pb_H), Q2 (.inr (E, q)) h' → pb_Xx G M n C S Q (k + C2) (u + S2) pc L E q h') : pb_Ex G M n C S Q k u pc L st h := by
  intro p e R s m args below meth c X H locs ls hR hO hL hl9 hn
  have X' := X
  obtain ⟨hx, hb, hml, hrt, hlk, hnm, hown, hts, hHT, hSF, hAl, hRm, hT, hsz⟩ := X
  obtain ⟨hd, rfl, hj⟩ := pb_ig_ok hT hi rfl
  obtain ⟨b1, e1, e2, e3⟩ := pb_take_ok hst
  rw [List.append_nil] at e1
  subst e1 e2
  have hp := pb_preS (a := pb_r b :: As) (s := s) hSF hAl hR hO hsz.2
  have hB := pb_callB (R := R) (C2 := C2) (S2 := S2) X' hM hl hr.1
  rw [hrt9] at hB
  refine pb_cont X' hL hl9 hn (vx_runI (As := As.map pb_cv) (b := b) (pb_fix X') hc ⟨hB, hin, hts _ hs⟩ hp rfl (by rw [List.length_map]; simpa using e3) hl9.1 (by show _ = _; simp [va_rf, pb_cv]) (lv_room (pb_sm_ok hsm)) hd ⟨Nat.le_trans hr.2.1 hRm.2.2.1, Nat.le_trans hr.2.2 hRm.2.2.2⟩) kk kx
/-- calls of methods with handlers -/
theorem pb_wsW {p : Program} {R : Room} {s : State} {m : MethodId} {args : Array Value} {meth : Method} {c : Code} (X : pb_Cx G M n C S p R s m args meth c) {np : Nat} {hh : List (Nat × Nat × Nat × Nat)} (hM : pb_MOKW M2 np hh) (hn2 : n2 < n) : ((pb_room n2 C2 S2).cells = C2 ∧ (pb_room n2 C2 S2).slots = S2 ∧ (pb_room n2 C2 S2).frames + 1 ≤ R.frames ∧ 8 + (M2.2.2.2.1 + 11) + (pb_room n2 C2 S2).locals ≤ R.locals ∧ (∀ w ∈ pb_ws M2, ∀ (a' : Array Value) (U : State), s.WarmedH U.vm → w.before a' U = true) ∧ Cond.codeWith M2.2.1 M2.2.2.1 M2.2.2.2.1 M2.2.2.2.2.1 hh ∈ pb_ws M2) := by
  obtain ⟨hx, hb, hml, hrt, hlk, hnm, hown, hts, hHT, hSF, hAl, hRm, hT, hsz⟩ := X
  obtain ⟨hhh, hy, hp, hL9, hc, hi⟩ := hM
  have hw : pb_ws M2 = Cond.codeWith M2.2.1 M2.2.2.1 M2.2.2.2.1 M2.2.2.2.2.1 hh :: lw_all := by unfold pb_ws; rw [hhh]
  refine ⟨rfl, rfl, ?_, ?_, ?_, ?_⟩
  · show n2 + 1 ≤ R.frames
    omega
  · show 8 + (M2.2.2.2.1 + 11) + 40 * n2 ≤ R.locals
    omega
  · rw [hw]; exact pay_in hts (lw_methW hc)
  · rw [hw]; exact List.mem_cons_self
theorem pb_np {M2 : pb_M} {np : Nat} (hp : (parseMethodDescriptor M2.2.1.desc).map (fun d => d.parameters.length) = some np) : ∀ sig, parseMethodDescriptor M2.2.1.desc = some sig → np = sig.parameters.length := fun sig h9 => by
  rw [h9] at hp
  exact (Option.some.inj hp).symm
theorem pb_Ex.callSW {nx tg idx np : Nat} {hh : List (Nat × Nat × Nat × Nat)} (hi : pb_ig (pb_tb M) pc = some (.invokestatic idx, nx, tg)) (hl : Cond.methodLink (pb_cn M.1) idx M2.2.1 ∈ lw_all) (hs : Cond.static M2.2.1 ∈ lw_all) (hM : pb_MOKW M2 np hh) (hst : pb_take np st [] = some (a, rest)) (hsm : pb_sm rest = true) (hc : pb_Ctr G M2 n2 C2 S2 a h Q2) (hr : n2 < n ∧ k + C2 ≤ C ∧ u + S2 ≤ S)
    (kk : ∀ (v : Option pb_V) (h' : pb_H), Q2 (.inl v) h' → pb_Ex G M n C S Q (k + C2) (u + S2) nx L (v.toList ++ rest) h')
    (kx : ∀ (E : String) (q : Nat) (h' : pb_H), Q2 (.inr (E, q)) h' → pb_Xx G M n C S Q (k + C2) (u + S2) pc L E q h') : pb_Ex G M n C S Q k u pc L st h := by
  intro p e R s m args below meth c X H locs ls hR hO hL hl9 hn
  have X' := X
  obtain ⟨hx, hb, hml, hrt, hlk, hnm, hown, hts, hHT, hSF, hAl, hRm, hT, hsz⟩ := X
  obtain ⟨hd, rfl, hj⟩ := pb_ig_ok hT hi rfl
  obtain ⟨b, e1, e2, e3⟩ := pb_take_ok hst
  rw [List.append_nil] at e1
  subst e1 e2
  have hM' := hM
  obtain ⟨hhh, hy, hp, hL9, hcd, hini⟩ := hM
  refine pb_cont X' hL hl9 hn (vx_runSX (As := a.map pb_cv) (pb_fix X') hc ⟨pb_wsW X' hM' hr.1, hts _ hcd, hts _ hini, hy, pb_np hp, hts _ hl, hts _ hs⟩ (pb_preS hSF hAl hR hO hsz.2) rfl (by rw [List.length_map]; exact e3) hl9.1 (by show _ = _; rw [List.map_append, List.map_reverse]) (lv_room (pb_sm_ok hsm)) hd ⟨Nat.le_trans hr.2.1 hRm.2.2.1, Nat.le_trans hr.2.2 hRm.2.2.2⟩) kk kx
theorem pb_Ex.callVW {nx tg idx np b ci : Nat} {fs As : List pb_V} {hh : List (Nat × Nat × Nat × Nat)} (hi : pb_ig (pb_tb M) pc = some (.invokevirtual idx, nx, tg)) (hl : Cond.methodLink (pb_cn M.1) idx M2.2.1 ∈ lw_all) (hs : Cond.instanceMethod M2.2.1 ∈ lw_all) (hse : Cond.selects M2.2.1.cls M2.2.1 M2.2.1 ∈ lw_all) (hM : pb_MOKW M2 np hh) (hst : pb_take (np + 1) st [] = some (pb_r b :: As, rest)) (hsm : pb_sm rest = true) (hb9 : h.2 b = some (pb_ob ci fs)) (hci : ∀ r, pb_cl[ci]? = some r → r.1 = M2.2.1.cls) (hc : pb_Ctr G M2 n2 C2 S2 (pb_r b :: As) h Q2) (hr : n2 < n ∧ k + C2 ≤ C ∧ u + S2 ≤ S)
    (kk : ∀ (v : Option pb_V) (h' : pb_H), Q2 (.inl v) h' → pb_Ex G M n C S Q (k + C2) (u + S2) nx L (v.toList ++ rest) h')
    (kx : ∀ (E : String) (q : Nat) (h' : pb_H), Q2 (.inr (E, q)) h' → pb_Xx G M n C S Q (k + C2) (u + S2) pc L E q h') : pb_Ex G M n C S Q k u pc L st h := by
  intro p e R s m args below meth c X H locs ls hR hO hL hl9 hn
  have X' := X
  obtain ⟨hx, hb, hml, hrt, hlk, hnm, hown, hts, hHT, hSF, hAl, hRm, hT, hsz⟩ := X
  obtain ⟨hd, rfl, hj⟩ := pb_ig_ok hT hi rfl
  obtain ⟨b1, e1, e2, e3⟩ := pb_take_ok hst
  rw [List.append_nil] at e1
  subst e1 e2
  obtain ⟨r, hcr⟩ : ∃ r, pb_cl[ci]? = some r := by
    obtain ⟨⟨r, h1, -⟩, -⟩ := hR.2.2 b _ hb9
    exact ⟨r, h1⟩
  · have hci := hci r hcr
    have hrc := pb_recv (s := s) hSF hAl hR hb9 hcr
    rw [hci] at hrc
    have hp := pb_preS (a := pb_r b :: As) (s := s) hSF hAl hR hO hsz.2
    have hM' := hM
    obtain ⟨hhh, hy, hp9, hL9, hcd, hini⟩ := hM
    refine pb_cont X' hL hl9 hn (vx_runVX (As := As.map pb_cv) (b := b) (pb_fix X') hc ⟨pb_wsW X' hM' hr.1, hts _ hcd, hts _ hini, hy, pb_np hp9, hts _ hl, hts _ hs, hts _ hse⟩ ⟨hp.1, hrc, hp.2⟩ rfl (by rw [List.length_map]; simpa using e3) hl9.1 (by show _ = _; simp [va_rf, pb_cv]) (lv_room (pb_sm_ok hsm)) hd ⟨Nat.le_trans hr.2.1 hRm.2.2.1, Nat.le_trans hr.2.2 hRm.2.2.2⟩) kk kx
/-! A METHOD'S START -/
def pb_pad {α : Type} : Nat → (List (Option pb_V) → Option α) → Option α
  | 0, K => K []
  | n + 1, K => pb_pad n (fun r => K (none :: r))
/-- the locals at a method's entry -/
def pb_ent {α : Type} : List pb_V → Nat → (List (Option pb_V) → Option α) → Option α
  | [], n, K => pb_pad n K
  | v :: r, n, K => match pb_c1 v with
    | true => match n with
      | 0 => none
      | n + 1 => pb_ent r n (fun t => K (some v :: t))
    | false => match n with
      | n + 2 => pb_ent r n (fun t => K (some v :: none :: t))
      | _ => none
def pb_enL : List pb_V → Nat → Option (List (Option pb_V))
  | [], n => some (List.replicate n none)
  | v :: r, n => match pb_c1 v with
    | true => match n with
      | 0 => none
      | n + 1 => (pb_enL r n).map (fun t => some v :: t)
    | false => match n with
      | n + 2 => (pb_enL r n).map (fun t => some v :: none :: t)
      | _ => none
theorem pb_pad_eq {α : Type} : ∀ (n : Nat) (K : List (Option pb_V) → Option α), pb_pad n K = K (List.replicate n none)
  | 0, _ => rfl
  | n + 1, K => by rw [pb_pad, pb_pad_eq]; rfl
theorem pb_ent_eq {α : Type} : ∀ (a : List pb_V) (n : Nat) (K : List (Option pb_V) → Option α), pb_ent a n K = (pb_enL a n).bind K
  | [], n, K => by rw [pb_ent, pb_pad_eq]; rfl
  | v :: r, n, K => by
    unfold pb_ent pb_enL
    cases hv : pb_c1 v with
    | true =>
      cases n with
      | zero => rfl
      | succ n =>
        show pb_ent r n _ = ((pb_enL r n).map (fun t => some v :: t)).bind K
        rw [pb_ent_eq]
        cases pb_enL r n <;> rfl
    | false =>
      match n with
      | 0 => rfl
      | 1 => rfl
      | n + 2 =>
        show pb_ent r n _ = ((pb_enL r n).map (fun t => some v :: none :: t)).bind K
        rw [pb_ent_eq]
        cases pb_enL r n <;> rfl
theorem pb_gt_rep : ∀ (n k : Nat), pb_gt (List.replicate n none) k = none
  | 0, _ => rfl
  | _ + 1, 0 => rfl
  | n + 1, k + 1 => pb_gt_rep n k
theorem pb_enL_ok : ∀ (a : List pb_V) (n i : Nat) (L0 : List (Option pb_V)), pb_enL a n = some L0 → L0.length = n ∧ (lg_sl (a.map pb_cv)).length ≤ n ∧ ∀ (k : Nat) (v : pb_V), pb_gt L0 k = some v → (i + k, pb_cv v) ∈ lv_args i (a.map pb_cv)
  | [], n, i, L0, h => by
    cases h
    refine ⟨List.length_replicate, Nat.zero_le _, fun k v hk => ?_⟩
    rw [pb_gt_rep] at hk
    cases hk
  | w :: r, n, i, L0, h => by
    unfold pb_enL at h
    cases hv : pb_c1 w with
    | true =>
      rw [hv] at h
      cases n with
      | zero => cases h
      | succ n =>
        cases he : pb_enL r n with
        | none => simp [he] at h
        | some t =>
          have h : some (some w :: t) = some L0 := by simpa [he] using h
          cases h
          obtain ⟨h1, h2, h3⟩ := pb_enL_ok r n (i + 1) t he
          have hc := pb_c1_cat hv
          refine ⟨by simp [h1], ?_, fun k v hk => ?_⟩
          · have e : lg_sl ((w :: r).map pb_cv) = [.val (pb_cv w)] ++ lg_sl (r.map pb_cv) := by
              show (if (pb_cv w).category = 2 then _ else _ : List Slot) ++ _ = _
              rw [if_neg (by omega)]
              rfl
            rw [e, List.length_append]
            show 1 + _ ≤ _
            omega
          · simp only [List.map_cons, lv_args, hc]
            cases k with
            | zero => cases hk; exact List.mem_cons_self
            | succ k =>
              refine List.mem_cons_of_mem _ ?_
              have := h3 k v hk
              rw [show i + (k + 1) = i + 1 + k by omega]
              simpa using this
    | false =>
      rw [hv] at h
      match n, h with
      | n + 2, h =>
        cases he : pb_enL r n with
        | none => simp [he] at h
        | some t =>
          have h : some (some w :: none :: t) = some L0 := by simpa [he] using h
          cases h
          obtain ⟨h1, h2, h3⟩ := pb_enL_ok r n (i + 2) t he
          have hc := pb_c2_cat hv
          refine ⟨by simp [h1], ?_, fun k v hk => ?_⟩
          · have e : lg_sl ((w :: r).map pb_cv) = [.val (pb_cv w), .second] ++ lg_sl (r.map pb_cv) := by
              show (if (pb_cv w).category = 2 then _ else _ : List Slot) ++ _ = _
              rw [if_pos hc]
              rfl
            rw [e, List.length_append]
            show 2 + _ ≤ _
            omega
          · simp only [List.map_cons, lv_args, hc]
            match k, hk with
            | 0, hk => cases hk; exact List.mem_cons_self
            | 1, hk => cases hk
            | k + 2, hk =>
              refine List.mem_cons_of_mem _ ?_
              have := h3 k v hk
              rw [show i + (k + 2) = i + 2 + k by omega]
              simpa using this
theorem pb_entry {a : List pb_V} {nL : Nat} {L0 : List (Option pb_V)} (h : pb_ent a nL some = some L0) : L0.length = nL ∧ pb_LR nL L0 ((lg_sl (a.map pb_cv) ++ List.replicate (nL - (lg_sl (a.map pb_cv)).length) Slot.unset).toArray) := by
  rw [pb_ent_eq] at h
  have h : pb_enL a nL = some L0 := by
    cases he : pb_enL a nL with
    | none => rw [he] at h; cases h
    | some t => rw [he] at h; exact h
  obtain ⟨h1, h2, h3⟩ := pb_enL_ok a nL 0 L0 h
  obtain ⟨e1, e2, e3⟩ := lv_entry (a.map pb_cv) (n := nL) h2
  refine ⟨h1, e1, e2, fun k v hk => ?_⟩
  have h4 := h3 k v hk
  rw [Nat.zero_add] at h4
  exact e3 (k, pb_cv v) h4
/-- A CONTRACT OUT OF A WALK: a method without handlers -/
theorem pb_Ctr.of {L0 : List (Option pb_V)} (hp : plainName M.2.1.cls = true) (hcls : M.2.1.cls = pb_cn M.1) (hh : M.2.2.2.2.2.1 = none) (hT : pb_Tok (pb_cd M) (pb_tb M)) (hL0 : pb_ent a (pb_ml M) some = some L0) (kk : pb_Ex G M n C S Q 0 0 0 L0 [] h) : pb_Ctr G M n C S a h Q := by
  have hw : pb_ws M = Cond.code M.2.1 M.2.2.1 M.2.2.2.1 M.2.2.2.2.1 :: lw_all := by unfold pb_ws; rw [hh]
  refine vx_ofW (cc := M.2.2.1) (maxL := M.2.2.2.1) (ret := M.2.2.2.2.1) hp hw ?_
  intro p e s m args below meth c s₁ B hml ht hP
  obtain ⟨rfl, hSF, hAl, hR, hO, hWm⟩ := hP
  have hts := atoms_spec (ws := pb_ws M) B.pre
  rw [hw] at hts
  have hts : ∀ w ∈ lw_all, w.before _ s = true := fun w h => hts w (List.mem_cons_of_mem _ h)
  have hown : s.vm.findClass (pb_cn M.1) = some m.cls := by rw [← hcls]; exact findClass_of_methodNamed B.named
  have hin : meth.name = M.2.1.name := (name_of_methodNamed B.named B.method).1
  obtain ⟨h1, h2⟩ := pb_entry hL0
  have hx : pb_Cx G M n C S p (pb_room n C S) s m (a.map pb_cv).toArray meth c := ⟨B.exec, B.bytes, hml, B.returns, B.notSynchronized, hin, hown, hts, by unfold pb_HT; rw [hh]; exact ht, hSF, hAl, ⟨Nat.le_refl _, Nat.le_refl _, Nat.le_refl _, Nat.le_refl _⟩, hT, by rw [hR.1]; exact hR.2.1, hWm⟩
  have := kk p e (pb_room n C S) s m (a.map pb_cv).toArray below meth c hx s.heap [] _ hR hO (fun _ h => by cases h) h2 (Nat.le_of_eq h1)
  rw [lg_entry_eq]
  exact this
/-- the same of a method with handlers -/
theorem pb_Ctr.ofW {L0 : List (Option pb_V)} {hh : List (Nat × Nat × Nat × Nat)} (hp : plainName M.2.1.cls = true) (hcls : M.2.1.cls = pb_cn M.1) (hhh : M.2.2.2.2.2.1 = some hh) (hT : pb_Tok (pb_cd M) (pb_tb M)) (hL0 : pb_ent a (pb_ml M) some = some L0) (kk : pb_Ex G M n C S Q 0 0 0 L0 [] h) : pb_Ctr G M n C S a h Q := by
  have hw : pb_ws M = Cond.codeWith M.2.1 M.2.2.1 M.2.2.2.1 M.2.2.2.2.1 hh :: lw_all := by unfold pb_ws; rw [hhh]
  refine vx_ofWH (cc := M.2.2.1) (maxL := M.2.2.2.1) (ret := M.2.2.2.2.1) hp hw ?_
  intro p e s m args below meth c s₁ B hml hP
  obtain ⟨rfl, hSF, hAl, hR, hO, hWm⟩ := hP
  have hts := atoms_spec (ws := pb_ws M) B.pre
  rw [hw] at hts
  have hcw : (Cond.codeWith M.2.1 M.2.2.1 M.2.2.2.1 M.2.2.2.2.1 hh).before _ s = true := hts _ List.mem_cons_self
  have hts : ∀ w ∈ lw_all, w.before _ s = true := fun w h => hts w (List.mem_cons_of_mem _ h)
  have hown : s.vm.findClass (pb_cn M.1) = some m.cls := by rw [← hcls]; exact findClass_of_methodNamed B.named
  have hin : meth.name = M.2.1.name := (name_of_methodNamed B.named B.method).1
  obtain ⟨h1, h2⟩ := pb_entry hL0
  have hx : pb_Cx G M n C S p (pb_room n C S) s m (a.map pb_cv).toArray meth c := ⟨B.exec, B.bytes, hml, B.returns, B.notSynchronized, hin, hown, hts, by unfold pb_HT; rw [hhh]; exact vx_table (x := M.2.1) B hcw, hSF, hAl, ⟨Nat.le_refl _, Nat.le_refl _, Nat.le_refl _, Nat.le_refl _⟩, hT, by rw [hR.1]; exact hR.2.1, hWm⟩
  have := kk p e (pb_room n C S) s m (a.map pb_cv).toArray below meth c hx s.heap [] _ hR hO (fun _ h => by cases h) h2 (Nat.le_of_eq h1)
  rw [lg_entry_eq]
  exact this
end ROWS
