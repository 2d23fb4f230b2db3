set_option maxRecDepth 100000
/-! CALLS THROUGH THE RECEIVER'S CLASS, OF A CLASS ABOVE, OF A NEST MATE -/
theorem pb_prv {G : pb_G} {s : State} {args : Array Value} (hSF : pb_SF G) (hAl : G.2.1.vm.Alike s.vm) {x : MethodName} (hw : Cond.privateMethod x ∈ lw_tbl) : (Cond.privateMethod x).before args s = true := by
  obtain ⟨A, h1⟩ := pb_tbl (s := s) hSF hw
  have h2 : (Cond.privateMethod x).before args (G.2.1.setVm s.vm) = true := by
    rw [Cond.privateMethod_setVm hAl]
    exact va_tabs rfl rfl h1
  exact va_tabs rfl (rfl : (G.2.1.setVm s.vm).vm = s.vm) h2
theorem pb_nst {G : pb_G} {s : State} {args : Array Value} (hSF : pb_SF G) (hWm : G.2.1.WarmedH s.vm) {own host : String} {i : Nat} {x : MethodName} (hw : Cond.methodLinkNest own i x host ∈ lw_tbl) : (Cond.methodLinkNest own i x host).before args s = true := by
  obtain ⟨A, h1⟩ := pb_tbl (s := s) hSF hw
  exact va_Nw.use rfl (va_Nw.warmM hWm (va_Nw.of rfl h1))
/-- an object of class C, asked for x, runs y -/
def pb_sl (C : String) (x y : MethodName) : Prop := Cond.selects C x y ∈ lw_all ∨ (x = y ∧ (y.cls ≠ "java/lang/invoke/MethodHandle" ∧ y.cls ≠ "java/lang/invoke/VarHandle") ∧ Cond.privateMethod y ∈ lw_tbl ∧ Cond.instanceMethod y ∈ lw_all ∧ ∃ y' : MethodName, Cond.selects C y' y' ∈ lw_all ∧ y'.cls = y.cls)
theorem pb_sl_at {G : pb_G} {s : State} {args : Array Value} (hSF : pb_SF G) (hAl : G.2.1.vm.Alike s.vm) (hts : ∀ w ∈ lw_all, w.before args s = true) {C : String} {x y : MethodName} (h : pb_sl C x y) : (Cond.selects C x y).before args s = true := by
  rcases h with h | ⟨rfl, hy, hp, hin, y', h', hc⟩
  · exact hts _ h
  · obtain ⟨c2, r2, m2, q1, q2, q3, q4, kP, hkP, hkPi⟩ := Cond.selects_spec (hts _ h')
    obtain ⟨mk, methM, hnamed, hmethM, -, -⟩ := Cond.instanceMethod_spec (hts _ hin)
    have hfound : s.methodFound? x.cls x.name x.desc = some mk := State.methodFound?_of_named hnamed hy
    have hcls : mk.cls = m2.cls := by
      have h1 := findClass_of_methodNamed hnamed
      have h2 := findClass_of_methodNamed q3
      rw [hc] at h2
      exact Option.some.inj (h1.symm.trans h2)
    have hsel : selectMethod {} s.vm c2 mk = .method mk := selectMethod_private hmethM (Cond.privateMethod_at (pb_prv (args := args) hSF hAl hp) mk methM hnamed hmethM)
    simp only [Cond.before, Cond.holds, Cond.value, q1, hfound, hnamed, hsel, hcls, hkP]
    simp [hkPi]
/-- an instance method, abstract or not -/
def pb_dcl (x : MethodName) : Prop := Cond.declares x ∈ lw_tbl ∨ ∃ (b : ByteArray) (m : Nat) (r : Option FieldType), Cond.code x b m r ∈ lw_all ∧ Cond.instanceMethod x ∈ lw_all
theorem pb_dcl_at {G : pb_G} {s : State} {args : Array Value} (hSF : pb_SF G) (hAl : G.2.1.vm.Alike s.vm) (hts : ∀ w ∈ lw_all, w.before args s = true) {x : MethodName} (h : pb_dcl x) : va_Decl s x := by
  rcases h with h | ⟨b, m, r, h1, h2⟩
  · exact va_Decl.abs (va_Nw.of rfl (pb_decl (args := args) hSF hAl h))
  · exact va_Decl.of (hts _ h2) (hts _ h1)
/-- who is asked: an object of class C -/
def pb_rc (G : pb_G) (h : pb_H) (C : String) (b : Nat) : Prop := ∀ (s : State) (H : Heap), pb_SF G → G.2.1.vm.Alike s.vm → pb_Rep G h H → pb_Old G H → ∃ cell : Cell, H[b]? = some cell ∧ cell.vm.isStatics = false ∧ s.vm.findClass C = some cell.cls
theorem pb_rc.of {G : pb_G} {h : pb_H} {C : String} {b ci : Nat} {fs : List pb_V} (hb : h.2 b = some (pb_ob ci fs)) (hc : ∀ r, pb_cl[ci]? = some r → r.1 = C) : pb_rc G h C b := by
  intro s H hSF hAl hR hO
  obtain ⟨r, hcr⟩ : ∃ r, pb_cl[ci]? = some r := by
    obtain ⟨⟨r, h1, -⟩, -⟩ := hR.2.2 b _ hb
    exact ⟨r, h1⟩
  have := pb_recv (s := s) hSF hAl hR hb hcr
  rw [hc r hcr] at this
  exact this
section ROWS55
variable {G : pb_G} {M M2 : pb_M} {n C S n2 C2 S2 : Nat} {Q Q2 : pb_O → pb_H → Prop} {k u pc : Nat} {L : List (Option pb_V)} {st a rest : List pb_V} {h : pb_H}
theorem pb_wsN {p : Program} {R : Room} {s : State} {m : MethodId} {args : Array Value} {meth : Method} {c : Code} (X : pb_Cx G M n C S p R s m args meth c) {np : Nat} (hM : pb_MOK M2 np) (hn2 : n2 < n) : ((pb_room n2 C2 S2).cells = C2 ∧ (pb_room n2 C2 S2).slots = S2 ∧ (pb_room n2 C2 S2).frames + 1 ≤ R.frames ∧ 8 + (M2.2.2.2.1 + 11) + (pb_room n2 C2 S2).locals ≤ R.locals ∧ (∀ w ∈ pb_ws M2, ∀ (a' : Array Value) (U : State), s.WarmedH U.vm → w.before a' U = true) ∧ Cond.code M2.2.1 M2.2.2.1 M2.2.2.2.1 M2.2.2.2.2.1 ∈ pb_ws M2) := by
  obtain ⟨hx, hb, hml, hrt, hlk, hnm, hown, hts, hHT, hSF, hAl, hRm, hT, hsz⟩ := X
  obtain ⟨hhh, hy, hp, hL9, hc, hi⟩ := hM
  have hw : pb_ws M2 = Cond.code M2.2.1 M2.2.2.1 M2.2.2.2.1 M2.2.2.2.2.1 :: lw_all := by unfold pb_ws; rw [hhh]
  refine ⟨rfl, rfl, ?_, ?_, ?_, ?_⟩
  · show n2 + 1 ≤ R.frames
    omega
  · show 8 + (M2.2.2.2.1 + 11) + 40 * n2 ≤ R.locals
    omega
  · rw [hw]; exact pay_in hts (lw_meth hc)
  · rw [hw]; exact List.mem_cons_self
/-- a call whose method stands in a class above the receiver's -/
theorem pb_Ex.callVC {nx tg idx np b : Nat} {As : List pb_V} (Cn : String) (hi : pb_ig (pb_tb M) pc = some (.invokevirtual idx, nx, tg)) (hl : Cond.methodLink (pb_cn M.1) idx M2.2.1 ∈ lw_all) (hs : Cond.instanceMethod M2.2.1 ∈ lw_all) (hse : pb_sl Cn M2.2.1 M2.2.1) (hM : pb_MOK M2 np) (hst : pb_take (np + 1) st [] = some (pb_r b :: As, rest)) (hsm : pb_sm rest = true) (hrc : pb_rc G h Cn b) (hc : pb_Ctr G M2 n2 C2 S2 (pb_r b :: As) h Q2) (hr : n2 < n ∧ k + C2 ≤ C ∧ u + S2 ≤ S)
    (kk : ∀ (v : Option pb_V) (h' : pb_H), Q2 (.inl v) h' → pb_Ex G M n C S Q (k + C2) (u + S2) nx L (v.toList ++ rest) h')
    (kx : ∀ (E : String) (q : Nat) (h' : pb_H), Q2 (.inr (E, q)) h' → pb_Xx G M n C S Q (k + C2) (u + S2) pc L E q h') : pb_Ex G M n C S Q k u pc L st h := by
  intro p e R s m args below meth c X H locs ls hR hO hL hl9 hn
  have X' := X
  obtain ⟨hx, hb, hml, hrt, hlk, hnm, hown, hts, hHT, hSF, hAl, hRm, hT, hsz⟩ := X
  obtain ⟨hd, rfl, hj⟩ := pb_ig_ok hT hi rfl
  obtain ⟨b1, e1, e2, e3⟩ := pb_take_ok hst
  rw [List.append_nil] at e1
  subst e1 e2
  have hp := pb_preS (a := pb_r b :: As) (s := s) hSF hAl hR hO hsz.2
  refine pb_cont X' hL hl9 hn (vx_runV (C := Cn) (As := As.map pb_cv) (b := b) (pb_fix X') hc ⟨pb_callB X' hM hl hr.1, hts _ hs, pb_sl_at hSF hAl hts hse⟩ ⟨hp.1, hrc s H hSF hAl hR hO, hp.2⟩ rfl (by rw [List.length_map]; simpa using e3) hl9.1 (by show _ = _; simp [va_rf, pb_cv]) (lv_room (pb_sm_ok hsm)) hd ⟨Nat.le_trans hr.2.1 hRm.2.2.1, Nat.le_trans hr.2.2 hRm.2.2.2⟩) kk kx
/-- a call that names x and runs y -/
theorem pb_Ex.callU {nx tg idx np b : Nat} {As : List pb_V} (Cn owner : String) (x : MethodName) (hi : pb_ig (pb_tb M) pc = some (.invokevirtual idx, nx, tg)) (hl : Cond.methodLink (pb_cn M.1) idx x ∈ lw_all) (hsa : Cond.sameMethod x.cls owner x.name x.desc ∈ lw_all) (hdc : pb_dcl ⟨owner, x.name, x.desc⟩) (hs : Cond.instanceMethod M2.2.1 ∈ lw_all) (hse : pb_sl Cn x M2.2.1) (hno : owner ≠ "java/lang/invoke/MethodHandle" ∧ owner ≠ "java/lang/invoke/VarHandle") (hpx : (parseMethodDescriptor x.desc).map (fun d => d.parameters.length) = some np) (hM : pb_MOK M2 np) (hst : pb_take (np + 1) st [] = some (pb_r b :: As, rest)) (hsm : pb_sm rest = true) (hrc : pb_rc G h Cn b) (hc : pb_Ctr G M2 n2 C2 S2 (pb_r b :: As) h Q2) (hr : n2 < n ∧ k + C2 ≤ C ∧ u + S2 ≤ S)
    (kk : ∀ (v : Option pb_V) (h' : pb_H), Q2 (.inl v) h' → pb_Ex G M n C S Q (k + C2) (u + S2) nx L (v.toList ++ rest) h')
    (kx : ∀ (E : String) (q : Nat) (h' : pb_H), Q2 (.inr (E, q)) h' → pb_Xx G M n C S Q (k + C2) (u + S2) pc L E q h') : pb_Ex G M n C S Q k u pc L st h := by
  intro p e R s m args below meth c X H locs ls hR hO hL hl9 hn
  have X' := X
  obtain ⟨hx, hb, hml, hrt, hlk, hnm, hown, hts, hHT, hSF, hAl, hRm, hT, hsz⟩ := X
  obtain ⟨hd, rfl, hj⟩ := pb_ig_ok hT hi rfl
  obtain ⟨b1, e1, e2, e3⟩ := pb_take_ok hst
  rw [List.append_nil] at e1
  subst e1 e2
  have hp := pb_preS (a := pb_r b :: As) (s := s) hSF hAl hR hO hsz.2
  have hM' := hM
  obtain ⟨hhh, hy, hp9, hL9, hcd, hini⟩ := hM
  refine pb_cont X' hL hl9 hn (vx_runU (C := Cn) (owner := owner) (x := x) (As := As.map pb_cv) (b := b) (pb_fix X') hc ⟨pb_wsN X' hM' hr.1, hts _ hcd, hts _ hini, hno, fun sig h9 => by rw [h9] at hpx; exact (Option.some.inj hpx).symm, hts _ hl, hts _ hsa, pb_dcl_at hSF hAl hts hdc, pb_sl_at hSF hAl hts hse, hts _ hs⟩ ⟨hp.1, hrc s H hSF hAl hR hO, hp.2⟩ rfl (by rw [List.length_map]; simpa using e3) hl9.1 (by show _ = _; simp [va_rf, pb_cv]) (lv_room (pb_sm_ok hsm)) hd ⟨Nat.le_trans hr.2.1 hRm.2.2.1, Nat.le_trans hr.2.2 hRm.2.2.2⟩) kk kx
/-- super.m(..) -/
theorem pb_Ex.callSU {nx tg idx np b ci N : Nat} {C0 : String} {T0 : u_T} {fs As : List pb_V} (hi : pb_ig (pb_tb M) pc = some (.invokespecial idx, nx, tg)) (hl : Cond.methodLink (pb_cn M.1) idx M2.2.1 ∈ lw_all) (hsa : Cond.sameMethod M2.2.1.cls M2.2.1.cls M2.2.1.name M2.2.1.desc ∈ lw_all) (hsu : Cond.superclass (pb_cn M.1) M2.2.1.cls ∈ lw_all) (hs : Cond.instanceMethod M2.2.1 ∈ lw_all) (hni : M2.2.1.name ≠ "<init>") (hM : pb_MOK M2 np) (hst : pb_take (np + 1) st [] = some (pb_r b :: As, rest)) (hsm : pb_sm rest = true) (hb9 : h.2 b = some (pb_ob ci fs)) (hcl : pb_cl[ci]? = some (C0, T0, N)) (hc : pb_Ctr G M2 n2 C2 S2 (pb_r b :: As) h Q2) (hr : n2 < n ∧ k + C2 ≤ C ∧ u + S2 ≤ S)
    (kk : ∀ (v : Option pb_V) (h' : pb_H), Q2 (.inl v) h' → pb_Ex G M n C S Q (k + C2) (u + S2) nx L (v.toList ++ rest) h')
    (kx : ∀ (E : String) (q : Nat) (h' : pb_H), Q2 (.inr (E, q)) h' → pb_Xx G M n C S Q (k + C2) (u + S2) pc L E q h') : pb_Ex G M n C S Q k u pc L st h := by
  intro p e R s m args below meth c X H locs ls hR hO hL hl9 hn
  have X' := X
  obtain ⟨hx, hb, hml, hrt, hlk, hnm, hown, hts, hHT, hSF, hAl, hRm, hT, hsz⟩ := X
  obtain ⟨hd, rfl, hj⟩ := pb_ig_ok hT hi rfl
  obtain ⟨b1, e1, e2, e3⟩ := pb_take_ok hst
  rw [List.append_nil] at e1
  subst e1 e2
  have hp := pb_preS (a := pb_r b :: As) (s := s) hSF hAl hR hO hsz.2
  have hrc := pb_recv (s := s) hSF hAl hR hb9 hcl
  have hK : va_K G.2.2.1 pb_cl [] s := va_K.moved hAl hSF.1
  have hM' := hM
  obtain ⟨hhh, hy, hp9, hL9, hcd, hini⟩ := hM
  refine pb_cont X' hL hl9 hn (vx_runSU (C := C0) (As := As.map pb_cv) (b := b) (hK.1 ci _ hcl).2 (pb_fix X') hc ⟨pb_wsN X' hM' hr.1, hts _ hl, hts _ hsa, hts _ hsu, hts _ hs, hts _ hini, hts _ hcd, hni, pb_np hp9⟩ ⟨hp.1, hrc, hp.2⟩ rfl (by rw [List.length_map]; simpa using e3) hl9.1 (by show _ = _; simp [va_rf, pb_cv]) (lv_room (pb_sm_ok hsm)) hd ⟨Nat.le_trans hr.2.1 hRm.2.2.1, Nat.le_trans hr.2.2 hRm.2.2.2⟩) kk kx
/-- a private static method of a nest mate -/
theorem pb_Ex.callSN {nx tg idx np : Nat} {host : String} (hi : pb_ig (pb_tb M) pc = some (.invokestatic idx, nx, tg)) (hl : Cond.methodLinkNest (pb_cn M.1) idx M2.2.1 host ∈ lw_tbl) (hs : Cond.static M2.2.1 ∈ lw_all) (hM : pb_MOK M2 np) (hst : pb_take np st [] = some (a, rest)) (hsm : pb_sm rest = true) (hc : pb_Ctr G M2 n2 C2 S2 a h Q2) (hr : n2 < n ∧ k + C2 ≤ C ∧ u + S2 ≤ S)
    (kk : ∀ (v : Option pb_V) (h' : pb_H), Q2 (.inl v) h' → pb_Ex G M n C S Q (k + C2) (u + S2) nx L (v.toList ++ rest) h')
    (kx : ∀ (E : String) (q : Nat) (h' : pb_H), Q2 (.inr (E, q)) h' → pb_Xx G M n C S Q (k + C2) (u + S2) pc L E q h') : pb_Ex G M n C S Q k u pc L st h := by
  intro p e R s m args below meth c X H locs ls hR hO hL hl9 hn
  have X' := X
  obtain ⟨hx, hb, hml, hrt, hlk, hnm, hown, hts, hHT, hSF, hAl, hRm, hT, hsz⟩ := X
  obtain ⟨hd, rfl, hj⟩ := pb_ig_ok hT hi rfl
  obtain ⟨b, e1, e2, e3⟩ := pb_take_ok hst
  rw [List.append_nil] at e1
  subst e1 e2
  have hM' := hM
  obtain ⟨hhh, hy, hp9, hL9, hcd, hini⟩ := hM
  refine pb_cont X' hL hl9 hn (vx_runSN (As := a.map pb_cv) (pb_fix X') hc ⟨⟨pb_wsN X' hM' hr.1, hts _ hcd, hts _ hini, hy, pb_np hp9, pb_nst hSF hsz.2 hl⟩, hts _ hs, trivial⟩ (pb_preS hSF hAl hR hO hsz.2) rfl (by rw [List.length_map]; exact e3) hl9.1 (by show _ = _; rw [List.map_append, List.map_reverse]) (lv_room (pb_sm_ok hsm)) hd ⟨Nat.le_trans hr.2.1 hRm.2.2.1, Nat.le_trans hr.2.2 hRm.2.2.2⟩) kk kx
/-- a private constructor of a nest mate -/
theorem pb_Ex.callIN {nx tg idx np b : Nat} {As : List pb_V} {host : String} (hi : pb_ig (pb_tb M) pc = some (.invokespecial idx, nx, tg)) (hl : Cond.methodLinkNest (pb_cn M.1) idx M2.2.1 host ∈ lw_tbl) (hs : Cond.instanceMethod M2.2.1 ∈ lw_all) (hin : M2.2.1.name = "<init>") (hrt9 : M2.2.2.2.2.1 = none) (hM : pb_MOK M2 np) (hst : pb_take (np + 1) st [] = some (pb_r b :: As, rest)) (hsm : pb_sm rest = true) (hc : pb_Ctr G M2 n2 C2 S2 (pb_r b :: As) h Q2) (hr : n2 < n ∧ k + C2 ≤ C ∧ u + S2 ≤ S)
    (kk : ∀ (v : Option pb_V) (h' : pb_H), Q2 (.inl v) h' → pb_Ex G M n C S Q (k + C2) (u + S2) nx L (v.toList ++ rest) h')
    (kx : ∀ (E : String) (q : Nat) (h' : pb_H), Q2 (.inr (E, q)) h' → pb_Xx G M n C S Q (k + C2) (u + S2) pc L E q h') : pb_Ex G M n C S Q k u pc L st h := by
  intro p e R s m args below meth c X H locs ls hR hO hL hl9 hn
  have X' := X
  obtain ⟨hx, hb, hml, hrt, hlk, hnm, hown, hts, hHT, hSF, hAl, hRm, hT, hsz⟩ := X
  obtain ⟨hd, rfl, hj⟩ := pb_ig_ok hT hi rfl
  obtain ⟨b1, e1, e2, e3⟩ := pb_take_ok hst
  rw [List.append_nil] at e1
  subst e1 e2
  have hp := pb_preS (a := pb_r b :: As) (s := s) hSF hAl hR hO hsz.2
  have hM' := hM
  have hB := pb_wsN (C2 := C2) (S2 := S2) X' hM' hr.1
  obtain ⟨hhh, hy, hp9, hL9, hcd, hini⟩ := hM
  rw [hrt9] at hB hcd
  refine pb_cont X' hL hl9 hn (vx_runIN (As := As.map pb_cv) (b := b) (pb_fix X') hc ⟨⟨hB, hts _ hcd, hts _ hini, hy, pb_np hp9, pb_nst hSF hsz.2 hl⟩, hin, hts _ hs⟩ hp rfl (by rw [List.length_map]; simpa using e3) hl9.1 (by show _ = _; simp [va_rf, pb_cv]) (lv_room (pb_sm_ok hsm)) hd ⟨Nat.le_trans hr.2.1 hRm.2.2.1, Nat.le_trans hr.2.2 hRm.2.2.2⟩) kk kx
/-! CONSTANTS, CLASSES, CLONES -/
/-- a String constant of the class own -/
def pb_str (G : pb_G) (own : String) (idx : Nat) (tx : String) (q : Nat) : Prop := vk_R own idx tx q G.2.1
theorem pb_Ex.ldcS {nx tg idx q : Nat} {tx : String} (hi : pb_ig (pb_tb M) pc = some (.ldc idx, nx, tg)) (hZ : pb_str G (pb_cn M.1) idx tx q) (kk : pb_Ex G M n C S Q k u nx L (pb_r q :: st) h) : pb_Ex G M n C S Q k u pc L st h := by
  intro p e R s m args below meth c X H locs ls hR hO hL hl hn
  have X' := X
  obtain ⟨hx, hb, hml, hrt, hlk, hnm, hown, hts, hHT, hSF, hAl, hRm, hT, hsz⟩ := X
  obtain ⟨hd, rfl, hj⟩ := pb_ig_ok hT hi rfl
  exact va_ldcS hx hb hown (vk_R.warm hsz.2 hZ) hd (kk p e R s m args below meth c X' H locs ls hR hO hL hl hn)
theorem pb_Ex.ldcM {nx tg idx q : Nat} {C0 : String} (hi : pb_ig (pb_tb M) pc = some (.ldc idx, nx, tg)) (hl : pb_lkS (pb_ct M.1) idx = some C0) (hZ : va_Mi C0 q G.2.1) (kk : pb_Ex G M n C S Q k u nx L (pb_r q :: st) h) : pb_Ex G M n C S Q k u pc L st h := by
  intro p e R s m args below meth c X H locs ls hR hO hL hl9 hn
  have X' := X
  obtain ⟨hx, hb, hml, hrt, hlk, hnm, hown, hts, hHT, hSF, hAl, hRm, hT, hsz⟩ := X
  obtain ⟨hd, rfl, hj⟩ := pb_ig_ok hT hi rfl
  exact va_ldcM hx hb hown (hts _ (pb_lkc hl)) (va_Mi.moved hAl hZ) hd (kk p e R s m args below meth c X' H locs ls hR hO hL hl9 hn)
/-- the class of an array of objects -/
theorem pb_Ex.getCO {nx tg idx q b N : Nat} {g : Nat → Option Nat} (hi : pb_ig (pb_tb M) pc = some (.invokevirtual idx, nx, tg)) (hl : Cond.methodLink (pb_cn M.1) idx ⟨"java/lang/Object", "getClass", "()Ljava/lang/Class;"⟩ ∈ lw_all) (hdc : Cond.declares ⟨"java/lang/Object", "getClass", "()Ljava/lang/Class;"⟩ ∈ lw_tbl) (hse : Cond.selects "[Ljava/lang/Object;" ⟨"java/lang/Object", "getClass", "()Ljava/lang/Class;"⟩ ⟨"java/lang/Object", "getClass", "()Ljava/lang/Class;"⟩ ∈ lw_all) (hin : Cond.instanceMethod ⟨"java/lang/Object", "getClass", "()Ljava/lang/Class;"⟩ ∈ lw_all) (hna : Cond.native ⟨"java/lang/Object", "getClass", "()Ljava/lang/Class;"⟩ ∈ lw_all) (hb9 : h.2 b = some (pb_aR N g)) (hsm : pb_sm st = true) (hr : 1 ≤ n) (hZ : va_Mi "[Ljava/lang/Object;" q G.2.1) (kk : pb_Ex G M n C S Q k u nx L (pb_r q :: st) h) : pb_Ex G M n C S Q k u pc L (pb_r b :: st) h := by
  intro p e R s m args below meth c X H locs ls hR hO hL hl9 hn
  have X' := X
  obtain ⟨hx, hb, hml, hrt, hlk, hnm, hown, hts, hHT, hSF, hAl, hRm, hT, hsz⟩ := X
  obtain ⟨hd, rfl, hj⟩ := pb_ig_ok hT hi rfl
  obtain ⟨⟨hN, hcell⟩, -⟩ := hR.2.2 b _ hb9
  have hs9 := pb_sm_ok hsm
  obtain ⟨kA, comp, k1, k2, k3, k4⟩ := pb_raT hSF hAl 6 (by omega)
  refine va_getC hx hb (hml.trans hl9.1.symm) hown (hts _ hl) (pb_decl hSF hAl hdc) (hts _ hse) (hts _ hin) (hts _ hna) (va_Mi.moved hAl hZ) ⟨_, hcell, rfl, ?_⟩ (by omega) (by omega) hd (kk p e R s m args below meth c X' H locs ls hR hO hL hl9 hn)
  exact va_nmO (pb_raT hSF hAl 6 (by omega)) rfl
end ROWS55
