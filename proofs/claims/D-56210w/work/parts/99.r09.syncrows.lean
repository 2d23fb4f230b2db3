set_option maxRecDepth 100000
/-! CALLS OF SYNCHRONIZED METHODS (after 09's rows for methods with handlers) -/
section VYA
variable {l : Launch} {R : Room} {p : Program} {e : Env} {below : List Frame} {s : State} {sargs : Array Value} {y : MethodName} {len W9 : Nat}
theorem vy_back {ws : List Cond} {rm : Room} {Pc : Array Value → State → Prop} {Qc : Array Value → State → Outcome → State → Prop} {XC : String → Addr → State → State → Prop} {mc ms : Nat} {free : Addr → Prop} {bytes : ByteArray} {maxL : Nat} {ret : Option FieldType}
    (hM : vx_Met l y ws rm Pc Qc XC mc ms free) (hblind : FrameBlind Pc) (hrc : rm.cells = mc) (hrs : rm.slots = ms)
    (hframes : rm.frames + 1 ≤ R.frames) (hlocals : W9 + (maxL + 11) + rm.locals ≤ R.locals)
    (hws : ∀ w ∈ ws, ∀ a' U, s.WarmedH U.vm → w.before a' U = true) (hcode : Cond.codeSync y bytes maxL ret ∈ ws) (hinit : ∀ a' U, s.WarmedH U.vm → (Cond.initialized y.cls).before a' U = true) :
    vx_Back l R p e below s sargs y len W9 (PreOf R mc ms Pc) (PostOf Qc mc ms free) (vx_Post XC mc ms free) := by
  intro m meth c A g ig mk a X hg hsize hdg hW hn hp
  have h1 : (headSpec ws rm).pre.before a A.U = true := atoms_intro fun w hw => hws w hw _ _ X.warmed
  have h2 : (Cond.codeSync y bytes maxL ret).before a A.U = true := hws _ hcode _ _ X.warmed
  have h3 : (Cond.initialized y.cls).before a A.U = true := hinit _ _ X.warmed
  have h4 : A.cells + (headSpec ws rm).room.cells ≤ R.cells := by rw [show (headSpec ws rm).room.cells = mc from hrc]; exact hp.1
  have h5 : A.slots + (headSpec ws rm).room.slots ≤ R.slots := by rw [show (headSpec ws rm).room.slots = ms from hrs]; exact hp.2.1
  have hPc : Pc a (A.U.calling g mk a) := hblind _ _ _ _ hp.2.2
  obtain ⟨U, Ls, c0, s0⟩ := A
  dsimp only [Pt.U, Pt.locs, Pt.cells, Pt.slots] at h1 h2 h3 h4 h5 X hn hPc ⊢
  obtain ⟨methY, cY, hmY, hcY, -, hlY, -⟩ := Cond.codeSync_spec hn h2
  obtain ⟨kY, hkY, -⟩ := className_of_methodNamed hn
  have hinitY : kY.init = .initialized := Cond.initialized_spec (findClass_of_methodNamed hn) hkY h3
  have h : At U g.method c below := by rw [hg]; exact X.here
  have hlocals9 : W9 + (maxL + 11) + (headSpec ws rm).room.locals ≤ R.locals := hlocals
  have happ : (headSpec ws rm).appliesLoose y e.platform (U.calling g mk a) = true :=
    Spec.appliesLoose_calling (g := g) h hdg hn hkY hinitY
      (X.room_calling (g := g) (R' := (headSpec ws rm).room) hsize hmY hcY hframes (by rw [hlY]; omega) h4 h5) h1
  obtain ⟨mid, hmid⟩ := h.above
  have hfr : (U.setTop g).frames = (.java g :: mid) ++ below := by rw [State.frames_setTop' g h.top, hmid]; rfl
  obtain ⟨o, s₂, hsteps, -, hend, hq⟩ := Steps.callFree hM p X.admits X.cas X.clock (acts := []) hfr happ hPc trivial
  have hq' : vx_Q Qc XC mc ms free a (U.calling g mk a) o s₂ := hq
  rw [State.frames_setTop' g h.top] at hend
  obtain ⟨g₀, hg0⟩ := Option.isSome_iff_exists.mp h.top
  obtain ⟨r, hr⟩ := State.topJava?_eq_some.mp hg0
  have hr' : (({ U with heap := s₂.heap, slotsUsed := s₂.slotsUsed } : State).setVm s₂.vm).frames = .java g₀ :: r := hr
  rcases hq' with ⟨hqc, L, hfe, hL⟩ | ⟨q, rfl, E, ce, L, hx, hce, hcv, hcl, hW₂, hsm, hL⟩
  · obtain ⟨⟨v, rfl⟩, hW₂, e2, q2, q3, q4, q5, q6⟩ := id hfe
    have e3 : s₂ = ({ (U.calling g mk a).setFrames s₂.frames with heap := s₂.heap, slotsUsed := s₂.slotsUsed } : State).setVm s₂.vm := by
      have : s₂ = ({ s₂ with vm := (U.calling g mk a).vm } : State).setVm s₂.vm := rfl
      rw [e2] at this
      exact this
    obtain ⟨c₂, i₂, len₂, hc₂, hd₂, hf₂⟩ := hend
    have hW' : U.WarmedH s₂.vm := hW₂
    have hcc : c₂ = c := by
      have h1 : s₂.code? g.method = U.code? g.method := by
        rw [State.code?_eq, State.code?_eq, hW'.alike.method?]
      exact Option.some.inj (hc₂.symm.trans (h1.trans h.code))
    subst hcc
    have hlen : len₂ = len := by rw [hdg] at hd₂; cases hd₂; rfl
    subst hlen
    have hs₂ : s₂ = (({ U with heap := s₂.heap, slotsUsed := s₂.slotsUsed } : State).setVm s₂.vm).setTop { g with pc := g.pc + len₂, stack := v.toList ++ g.stack } := by
      refine e3.trans ?_
      rw [hf₂, State.calling_eq h.top, State.setFrames_setFrames, State.setTop_of_frames _ hr', hr]
      rfl
    have hsame : U.sameButNew ({ U with heap := s₂.heap, slotsUsed := s₂.slotsUsed } : State) L mc ms := by
      refine ⟨?_, q2, q3, q4, q5, q6⟩
      obtain ⟨t, ht, -⟩ := State.frames_cons hr
      show ({ U with heap := s₂.heap, slotsUsed := s₂.slotsUsed } : State) = { U.setFrames U.frames with heap := s₂.heap, slotsUsed := s₂.slotsUsed }
      rw [State.setFrames_self ht]
    subst hg
    refine Or.inl ⟨v, ⟨(({ U with heap := s₂.heap, slotsUsed := s₂.slotsUsed } : State).setVm s₂.vm), Ls ++ L, c0 + mc, s0 + ms⟩,
      ⟨X.admits, X.cas, X.clock, X.frames, X.room, X.hears, X.method, X.code, (X.here.setHeapUsed s₂.heap s₂.slotsUsed).setVm hW'.alike, X.tail, State.WarmedH.trans X.warmed hW', X.limits, X.bytes, X.same.trans (hsame.setVm s.vm)⟩,
      ⟨g, mk, s₂, L, rfl, rfl, hqc, rfl, hL, rfl, rfl⟩, ?_⟩
    show Steps p.tables e below _ ((({ U with heap := s₂.heap, slotsUsed := s₂.slotsUsed } : State).setVm s₂.vm).setTop { g with pc := g.pc + len₂, stack := v.toList ++ g.stack })
    rw [← hs₂]
    exact hsteps
  · obtain ⟨e2, q2, q3, q4, q5, q6⟩ := id hsm
    have e3 : s₂ = ({ (U.calling g mk a).setFrames s₂.frames with heap := s₂.heap, slotsUsed := s₂.slotsUsed } : State).setVm s₂.vm := by
      have : s₂ = ({ s₂ with vm := (U.calling g mk a).vm } : State).setVm s₂.vm := rfl
      rw [e2] at this
      exact this
    have hf₂ : s₂.frames = .throwing q :: .java g :: U.frames.tail := hend
    have hW' : U.WarmedH s₂.vm := hW₂
    have hs₂ : s₂ = ((({ U with heap := s₂.heap, slotsUsed := s₂.slotsUsed } : State).setVm s₂.vm).setTop g).pushFrame (.throwing q) := by
      refine e3.trans ?_
      rw [hf₂, State.calling_eq h.top, State.setFrames_setFrames, State.pushFrame, State.frames_setTop _ hr', State.setTop_of_frames _ hr', State.setFrames_setFrames, hr]
      rfl
    have hsame : U.sameButNew ({ U with heap := s₂.heap, slotsUsed := s₂.slotsUsed } : State) L mc ms := by
      refine ⟨?_, q2, q3, q4, q5, q6⟩
      obtain ⟨t, ht, -⟩ := State.frames_cons hr
      show ({ U with heap := s₂.heap, slotsUsed := s₂.slotsUsed } : State) = { U.setFrames U.frames with heap := s₂.heap, slotsUsed := s₂.slotsUsed }
      rw [State.setFrames_self ht]
    subst hg
    refine Or.inr ⟨q, ⟨(({ U with heap := s₂.heap, slotsUsed := s₂.slotsUsed } : State).setVm s₂.vm), Ls ++ L, c0 + mc, s0 + ms⟩,
      ⟨X.admits, X.cas, X.clock, X.frames, X.room, X.hears, X.method, X.code, (X.here.setHeapUsed s₂.heap s₂.slotsUsed).setVm hW'.alike, X.tail, State.WarmedH.trans X.warmed hW', X.limits, X.bytes, X.same.trans (hsame.setVm s.vm)⟩,
      ⟨g, mk, s₂, L, E, ce, rfl, rfl, hx, hce, hcv, hcl, rfl, hL, rfl, rfl⟩, ?_⟩
    show Steps p.tables e below _ (((({ U with heap := s₂.heap, slotsUsed := s₂.slotsUsed } : State).setVm s₂.vm).setTop g).pushFrame (.throwing q))
    rw [← hs₂]
    exact hsteps
end VYA
section VYB
variable {p : Program} {l : Launch} {e : Env} {R : Room} {s : State} {m : MethodId} {args : Array Value} {below : List Frame} {meth : Method} {c : Code} {T : State} {H : Heap} {locs : List Loc} {cells slots : Nat}
variable {l : Launch} {R : Room} {p : Program} {e : Env} {below : List Frame} {s : State} {sargs : Array Value} {y : MethodName} {len W9 : Nat}
theorem vy_callV (X : Stand p l e R s m args below meth c T locs cells slots) (hexec : p.tables.exec = Jvm.exec) {own C : String} {index : Nat} {y : MethodName} {bytes : ByteArray} {maxL : Nat} {ret : Option FieldType}
    (hown : s.vm.findClass own = some m.cls) (hlink : (Cond.methodLink own index y).before args s = true) (hinst : (Cond.instanceMethod y).before args s = true) (hsel : (Cond.selects C y y).before args s = true)
    (hcode : (Cond.codeSync y bytes maxL ret).before args s = true) (hy : y.cls ≠ "java/lang/invoke/MethodHandle" ∧ y.cls ≠ "java/lang/invoke/VarHandle")
    {W9 : Nat} {Pre : Pt → Array Value → Prop} {Post : Pt → Array Value → Option Value → Pt → Prop} {PostX : Pt → Array Value → Addr → Pt → Prop} (hK : vx_Back l R p e below s args y 3 W9 Pre Post PostX)
    {b : Addr} {cellB : Cell} (hcell : T.heap[b]? = some cellB) (hobj : cellB.vm.isStatics = false) (hcls : s.vm.findClass C = some cellB.cls)
    {g : JFrame} (hg : g.method = m) (hsize : g.locals.size = c.maxLocals) {argsL rest : List Value} (hlen : ∀ sig, parseMethodDescriptor y.desc = some sig → argsL.length = sig.parameters.length)
    (hstack : g.stack = argsL.reverse ++ .ref b :: rest) (hW : 2 * g.monitorRoom + (rest.map fun v => v.category).sum ≤ W9) (hdg : decode c.code g.pc = .ok (.invokevirtual index, 3))
    (hpre : ∀ vm₁, s.WarmedH vm₁ → Pre ⟨T.setVm vm₁, locs, cells, slots⟩ (Value.ref b :: argsL).toArray) :
    (∃ (v : Option Value) (vm₁ : Vm) (B : Pt), s.WarmedH vm₁ ∧ Stand p l e R s m args below meth c B.U B.locs B.cells B.slots ∧ Post ⟨T.setVm vm₁, locs, cells, slots⟩ (Value.ref b :: argsL).toArray v B ∧
      ∀ target, Steps p.tables e below (B.U.setTop { g with pc := g.pc + 3, stack := v.toList ++ rest }) target → Steps p.tables e below (T.setTop g) target) ∨
    (∃ (q : Addr) (vm₁ : Vm) (B : Pt), s.WarmedH vm₁ ∧ Stand p l e R s m args below meth c B.U B.locs B.cells B.slots ∧ PostX ⟨T.setVm vm₁, locs, cells, slots⟩ (Value.ref b :: argsL).toArray q B ∧
      Steps p.tables e below (T.setTop g) ((B.U.setTop { g with stack := rest }).pushFrame (.throwing q))) := by
  obtain ⟨mk, methM, hnamed, hmethM, hstM, habM⟩ := Cond.instanceMethod_spec hinst
  obtain ⟨methM', cM, hmethM', -, -, -, -, -, -, hsigM⟩ := Cond.codeSync_spec hnamed hcode
  cases hmethM.symm.trans hmethM'
  obtain ⟨c2, r2, m2, q1, q2, q3, q4, kP, hkP, hkPi⟩ := Cond.selects_spec hsel
  cases hcls.symm.trans q1
  cases (State.methodFound?_of_named hnamed hy).symm.trans q2
  cases hnamed.symm.trans q3
  have hselP : selectMethod e.platform s.vm cellB.cls mk = .method mk := by rw [Launch.admits_selectMethod X.admits]; exact q4
  obtain ⟨vm₁, X₁, hstep₁⟩ := X.invokevirtual hexec hown hlink hnamed hmethM hstM hkP hkPi hy (a := b) (cell := cellB) hcell
    (fun z h => by rw [h] at hobj; cases hobj) hselP hmethM habM hkP hkPi (g := g) hg (argsL := argsL) (rest := rest) (hlen _ hsigM) hstack hdg
  rcases hK m meth c ⟨T.setVm vm₁, locs, cells, slots⟩ { g with stack := rest } (.invokevirtual index) mk (Value.ref b :: argsL).toArray X₁ hg hsize hdg hW (X₁.named hnamed) (hpre vm₁ X₁.warmed) with ⟨v, B, X', hpost, hsteps⟩ | ⟨q, B, X', hpost, hsteps⟩
  · exact Or.inl ⟨v, vm₁, B, X₁.warmed, X', hpost, fun target h => hstep₁ _ fun acts => by rw [doInvoke_state]; exact hsteps.trans h⟩
  · exact Or.inr ⟨q, vm₁, B, X₁.warmed, X', hpost, hstep₁ _ fun acts => by rw [doInvoke_state]; exact hsteps⟩
abbrev vy_CV (R : Room) (s : State) (args : Array Value) (own C : String) (index : Nat) (y : MethodName) (bytes : ByteArray) (maxL : Nat) (ret : Option FieldType) (ws : List Cond) (rm : Room) (mc ms n : Nat) : Prop :=
  (rm.cells = mc ∧ rm.slots = ms ∧ rm.frames + 1 ≤ R.frames ∧ 8 + (maxL + 11) + rm.locals ≤ R.locals ∧ (∀ w ∈ ws, ∀ (a' : Array Value) (U : State), s.WarmedH U.vm → w.before a' U = true) ∧ Cond.codeSync y bytes maxL ret ∈ ws) ∧
  (Cond.codeSync y bytes maxL ret).before args s = true ∧ (Cond.initialized y.cls).before args s = true ∧ (y.cls ≠ "java/lang/invoke/MethodHandle" ∧ y.cls ≠ "java/lang/invoke/VarHandle") ∧
  (∀ sig, parseMethodDescriptor y.desc = some sig → n = sig.parameters.length) ∧ (Cond.methodLink own index y).before args s = true ∧ (Cond.instanceMethod y).before args s = true ∧ (Cond.selects C y y).before args s = true
variable {y : MethodName} {bytes cc : ByteArray} {maxL nL mc ms n index : Nat} {ret : Option FieldType} {ws : List Cond} {rm : Room} {Pc : Array Value → State → Prop} {Qc : Array Value → State → Outcome → State → Prop} {XC : String → Addr → State → State → Prop} {free : Addr → Prop} {Ts : List Cond} {own C : String} {b : Addr} {As rest : List Value} {g : JFrame}
theorem vy_runV (S : CallFix p m c cc nL s args Ts own) (hM : vx_Met l y ws rm Pc Qc XC mc ms free) (cw : vy_CV R s args own C index y bytes maxL ret ws rm mc ms n) (hp : PreV s H C b Pc As)
    (hg : g.method = m) (hn : As.length = n) (hsize : g.locals.size = nL) (hstack : g.stack = As.reverse ++ .ref b :: rest) (hW : 2 * g.monitorRoom + (rest.map fun v => v.category).sum ≤ 8) (hdg : decode cc g.pc = .ok (.invokevirtual index, 3)) (hf : cells + mc ≤ R.cells ∧ slots + ms ≤ R.slots) :
    vx_Run p l e R s m args below meth c H locs cells slots mc ms g rest (Qc (Value.ref b :: As).toArray) XC free := by
  obtain ⟨⟨hrc, hrs, hfr, hlo, hws, hcw⟩, hcode, hini, hy, hlen, hl, hin, hse⟩ := cw
  have hK : vx_Back l R p e below s args y 3 8 (PreOf R mc ms Pc) (PostOf Qc mc ms free) (vx_Post XC mc ms free) := vy_back (bytes := bytes) (maxL := maxL) (ret := ret) hM hp.1 hrc hrs hfr hlo hws hcw (fun a' U hW => word_at hW (Or.inl (by first | rfl | simp [Cond.onTables, Cond.keeps, Cond.steady])) hini)
  obtain ⟨hx, hb, hml, ho, -⟩ := S
  obtain ⟨-, ⟨cellB, hcB, hoB, hclB⟩, hPc⟩ := hp
  intro T hT X
  rcases vy_callV X hx (C := C) (bytes := bytes) (maxL := maxL) (ret := ret) ho hl hin hse hcode hy hK (by rw [hT]; exact hcB) hoB hclB hg (hsize.trans hml.symm) (argsL := As) (rest := rest) (fun sig h => hn.trans (hlen sig h)) hstack hW (by rw [hb]; exact hdg)
    (fun vm₁ hW₁ => ⟨hf.1, hf.2, hPc (T.setVm vm₁) hT hW₁⟩) with ⟨v, vm₁, ⟨U', l2, c2, s2⟩, hW₁, X', ⟨g', mk, t, L, e1, e2, hq, h1, hL, h2, h3⟩, st⟩ | ⟨q, vm₁, ⟨U', l2, c2, s2⟩, hW₁, X', ⟨g', mk, t, L, E, ce, e1, e2, hq, hce, hcv, hcl, h1, hL, h2, h3⟩, st⟩
  · dsimp only [Pt.U, Pt.locs, Pt.cells, Pt.slots] at X' e1 e2 h1 h2 h3 st
    subst h1; subst h2; subst h3
    exact Or.inl ⟨v, (T.setVm vm₁).calling g' mk (Value.ref b :: As).toArray, t, U', L, hT, X', hL, e1, e2, hq, st⟩
  · dsimp only [Pt.U, Pt.locs, Pt.cells, Pt.slots] at X' e1 e2 h1 h2 h3 st hcl
    subst h1; subst h2; subst h3
    exact Or.inr ⟨q, (T.setVm vm₁).calling g' mk (Value.ref b :: As).toArray, t, U', L, E, ce, hT, X', hL, e1, e2, hq, hce, hcv, vx_cls hW₁ hcl, st⟩
end VYB
section SYROWS
variable {G : pb_G} {M M2 : pb_M} {n C S n2 C2 S2 : Nat} {Q Q2 : pb_O → pb_H → Prop} {a k u pc : Nat} {L : List (Option pb_V)} {st rest : List pb_V} {h : pb_H}
/-- what the tables say of a synchronized method -/
def pb_MOKY (M : pb_M) (np : Nat) : Prop := (M.2.1.cls ≠ "java/lang/invoke/MethodHandle" ∧ M.2.1.cls ≠ "java/lang/invoke/VarHandle") ∧ (parseMethodDescriptor M.2.1.desc).map (fun d => d.parameters.length) = some np ∧ M.2.2.2.1 ≤ 21 ∧ Cond.codeSync M.2.1 M.2.2.1 M.2.2.2.1 M.2.2.2.2.1 ∈ lw_all ∧ Cond.initialized M.2.1.cls ∈ lw_all ∧ Cond.instanceMethod M.2.1 ∈ lw_all ∧ Cond.selects M.2.1.cls M.2.1 M.2.1 ∈ lw_all
/-- a call of a synchronized method -/
theorem pb_Ex.callY {nx tg idx np b ci : Nat} {fs As : List pb_V} (hi : pb_ig (pb_tb M) pc = some (.invokevirtual idx, nx, tg)) (hl : Cond.methodLink (pb_cn M.1) idx M2.2.1 ∈ lw_all) (hM : pb_MOKY M2 np) (hst : pb_take (np + 1) st [] = some (pb_r b :: As, rest)) (hsm : pb_sm rest = true) (hb9 : h.2 b = some (pb_ob ci fs)) (hci : ∀ r, pb_cl[ci]? = some r → r.1 = M2.2.1.cls) (hc : pb_CtrY G M2 n2 C2 S2 (pb_r b :: As) h Q2) (hr : n2 < n ∧ k + C2 ≤ C ∧ u + S2 ≤ S)
    (kk : ∀ (v : Option pb_V) (h' : pb_H), Q2 (.inl v) h' → pb_Ex G M n C S Q (k + C2) (u + S2) nx L (v.toList ++ rest) h')
    (kx : ∀ (E : String) (q : Nat) (h' : pb_H), Q2 (.inr (E, q)) h' → pb_Xx G M n C S Q (k + C2) (u + S2) pc L E q h') : pb_Ex G M n C S Q k u pc L st h := by
  intro p e R s m args below meth c X H locs ls hR hO hL hl9 hn
  have X' := X
  obtain ⟨hx, hb, hml, hrt, hlk, hnm, hown, hts, hHT, hSF, hAl, hRm, hT, hsz⟩ := X
  obtain ⟨hd, rfl, hj⟩ := pb_ig_ok hT hi rfl
  obtain ⟨b1, e1, e2, e3⟩ := pb_take_ok hst
  rw [List.append_nil] at e1
  subst e1 e2
  obtain ⟨r, hcr⟩ : ∃ r, pb_cl[ci]? = some r := by
    obtain ⟨⟨r, h1, -⟩, -⟩ := hR.2.2 b _ hb9
    exact ⟨r, h1⟩
  have hci := hci r hcr
  have hrc := pb_recv (s := s) hSF hAl hR hb9 hcr
  rw [hci] at hrc
  have hp := pb_preS (a := pb_r b :: As) (s := s) hSF hAl hR hO hsz.2
  obtain ⟨hy, hp9, hL9, hcd, hini, hin, hse⟩ := hM
  have hws : ((pb_room n2 C2 S2).cells = C2 ∧ (pb_room n2 C2 S2).slots = S2 ∧ (pb_room n2 C2 S2).frames + 1 ≤ R.frames ∧ 8 + (M2.2.2.2.1 + 11) + (pb_room n2 C2 S2).locals ≤ R.locals ∧ (∀ w ∈ pb_wsY M2, ∀ (a' : Array Value) (U : State), s.WarmedH U.vm → w.before a' U = true) ∧ Cond.codeSync M2.2.1 M2.2.2.1 M2.2.2.2.1 M2.2.2.2.2.1 ∈ pb_wsY M2) := by
    refine ⟨rfl, rfl, ?_, ?_, pay_in hts (fun w hw => ?_), List.mem_cons_self⟩
    · show n2 + 1 ≤ R.frames
      omega
    · show 8 + (M2.2.2.2.1 + 11) + 40 * n2 ≤ R.locals
      omega
    · rcases List.mem_cons.mp hw with e | e
      · rw [e]; exact lw_self _ hcd
      · exact lw_self _ e
  refine pb_cont X' hL hl9 hn (vy_runV (As := As.map pb_cv) (b := b) (pb_fix X') hc ⟨hws, hts _ hcd, hts _ hini, hy, pb_np hp9, hts _ hl, hts _ hin, hts _ hse⟩ ⟨hp.1, hrc, hp.2⟩ rfl (by rw [List.length_map]; simpa using e3) hl9.1 (by show _ = _; simp [va_rf, pb_cv]) (lv_room (pb_sm_ok hsm)) hd ⟨Nat.le_trans hr.2.1 hRm.2.2.1, Nat.le_trans hr.2.2 hRm.2.2.2⟩) kk kx
/-! INSIDE -/
/-- q of class E is thrown -/
def pb_Xy (G : pb_G) (M : pb_M) (n C S : Nat) (Q : pb_O → pb_H → Prop) (a : Nat) (k u pc : Nat) (L : List (Option pb_V)) (E : String) (q : Nat) (h : pb_H) : Prop :=
  ∀ (p : Program) (e : Env) (R : Room) (s : State) (m : MethodId) (args : Array Value) (below : List Frame) (meth : Method) (c : Code) (cell : Cell), pb_Cy G M n C S a p R s m args meth c cell →
    ∀ (H : Heap) (locs : List Loc) (ls : Array Slot) (ce : Cell) (rest : List Value), pb_Rep G h H → pb_Old G H → (∀ z ∈ locs, pb_b G ≤ z.base) → H[q]? = some ce → ce.vm = .none → s.vm.findClass E = some ce.cls →
      vx_W p G.1 e R (s.setCell a (cell.withEntry s.cur)) m args below meth c H locs k u (vx_MQ below (pb_Qc G Q) (pb_XC G Q) args s C S (fun q => pb_b G ≤ q)) (F1 m pc ls rest a) q
theorem pb_Ey.aload {kf : Fin 4} {nx tg b : Nat} (hi : pb_ig (pb_tb M) pc = some (.aload_n kf, nx, tg)) (hg : pb_gt L kf.val = some (pb_r b)) (kk : pb_Ey G M n C S Q a k u nx L (pb_r b :: st) h) : pb_Ey G M n C S Q a k u pc L st h := by
  intro p e R s m args below meth c cell Y H locs ls hR hO hL hl hn
  obtain ⟨⟨meth', X⟩, hY⟩ := id Y
  obtain ⟨hx, hb, hml, hrt, hlk, hnm, hown, hts, hHT, hSF, hAl, hRm, hT, hsz⟩ := X
  obtain ⟨hd, rfl, hj⟩ := pb_ig_ok hT hi rfl
  have hv : ls[kf.val]? = some (.val (.ref b)) := hl.2.2 _ _ hg
  have hd : decode (pb_cd M) pc = .ok (.aload_n kf, 1) := hd
  intro T hT9 Xs
  obtain ⟨t, a1, b1⟩ := kk p e R s m args below meth c cell Y H locs ls hR hO hL hl hn T hT9 Xs
  refine ⟨t, ?_, b1⟩
  jvm_step Xs.here [Xs.here.top, hx, hb, hd, hv, Value.isRef]
  exact a1
theorem pb_Ey.bipush {z : Int} {nx tg : Nat} (hi : pb_ig (pb_tb M) pc = some (.bipush z, nx, tg)) (hz : -128 ≤ z ∧ z < 128) (kk : pb_Ey G M n C S Q a k u nx L (pb_i z :: st) h) : pb_Ey G M n C S Q a k u pc L st h := by
  intro p e R s m args below meth c cell Y H locs ls hR hO hL hl hn
  obtain ⟨⟨meth', X⟩, hY⟩ := id Y
  obtain ⟨hx, hb, hml, hrt, hlk, hnm, hown, hts, hHT, hSF, hAl, hRm, hT, hsz⟩ := X
  obtain ⟨hd, rfl, hj⟩ := pb_ig_ok hT hi rfl
  have hd : decode (pb_cd M) pc = .ok (.bipush z, 2) := hd
  have e1 : pb_I z = (Int8.ofInt z).toInt32 := by
    rw [← Int32.toInt_inj, Int8.toInt_toInt32, pb_I_toInt ⟨by omega, by omega⟩, Int8.toInt_ofInt_of_le (by omega) (by omega)]
  intro T hT9 Xs
  obtain ⟨t, a1, b1⟩ := kk p e R s m args below meth c cell Y H locs ls hR hO hL hl hn T hT9 Xs
  refine ⟨t, ?_, b1⟩
  have a1 : Steps p.tables e below (T.setTop (F1 m (pc + 2) ls (.int (pb_I z) :: st.map pb_cv) a)) t := a1
  rw [e1] at a1
  jvm_step Xs.here [Xs.here.top, hx, hb, hd]
  exact a1
theorem pb_Ey.iconst {z : Int} {nx tg : Nat} (hi : pb_ig (pb_tb M) pc = some (.iconst z, nx, tg)) (kk : pb_Ey G M n C S Q a k u nx L (pb_i z :: st) h) : pb_Ey G M n C S Q a k u pc L st h := by
  intro p e R s m args below meth c cell Y H locs ls hR hO hL hl hn
  obtain ⟨⟨meth', X⟩, hY⟩ := id Y
  obtain ⟨hx, hb, hml, hrt, hlk, hnm, hown, hts, hHT, hSF, hAl, hRm, hT, hsz⟩ := X
  obtain ⟨hd, rfl, hj⟩ := pb_ig_ok hT hi rfl
  have hd : decode (pb_cd M) pc = .ok (.iconst z, 1) := hd
  intro T hT9 Xs
  obtain ⟨t, a1, b1⟩ := kk p e R s m args below meth c cell Y H locs ls hR hO hL hl hn T hT9 Xs
  refine ⟨t, ?_, b1⟩
  jvm_step Xs.here [Xs.here.top, hx, hb, hd]
  exact a1
theorem pb_Ey.goto {o : Int} {nx tg : Nat} (hi : pb_ig (pb_tb M) pc = some (.goto o, nx, tg)) (kk : pb_Ey G M n C S Q a k u tg L st h) : pb_Ey G M n C S Q a k u pc L st h := by
  intro p e R s m args below meth c cell Y H locs ls hR hO hL hl hn
  obtain ⟨⟨meth', X⟩, hY⟩ := id Y
  obtain ⟨hx, hb, hml, hrt, hlk, hnm, hown, hts, hHT, hSF, hAl, hRm, hT, hsz⟩ := X
  obtain ⟨hd, rfl, hj⟩ := pb_ig_ok hT hi rfl
  have hd : decode (pb_cd M) pc = .ok (.goto o, 3) := hd
  have ht : (pc : Int) + o = (tg : Int) := of_decide_eq_true hj
  intro T hT9 Xs
  obtain ⟨t, a1, b1⟩ := kk p e R s m args below meth c cell Y H locs ls hR hO hL hl hn T hT9 Xs
  refine ⟨t, ?_, b1⟩
  jvm_step Xs.here [Xs.here.top, hx, hb, hd, ht]
  exact a1
theorem pb_Ey.icmp_ne {o : Int} {nx tg : Nat} {x y : Int} (hi : pb_ig (pb_tb M) pc = some (.if_icmp .ne o, nx, tg)) (hx9 : pb_rg x) (hy9 : pb_rg y) (kt : x ≠ y → pb_Ey G M n C S Q a k u tg L st h) (kf : x = y → pb_Ey G M n C S Q a k u nx L st h) : pb_Ey G M n C S Q a k u pc L (pb_i y :: pb_i x :: st) h := by
  intro p e R s m args below meth c cell Y H locs ls hR hO hL hl hn
  obtain ⟨⟨meth', X⟩, hY⟩ := id Y
  obtain ⟨hx, hb, hml, hrt, hlk, hnm, hown, hts, hHT, hSF, hAl, hRm, hT, hsz⟩ := X
  obtain ⟨hd, rfl, hj⟩ := pb_ig_ok hT hi rfl
  have hd : decode (pb_cd M) pc = .ok (.if_icmp .ne o, 3) := hd
  have ht : (pc : Int) + o = (tg : Int) := of_decide_eq_true hj
  have q := pb_I_eq hx9 hy9
  intro T hT9 Xs
  by_cases hP : pb_I x = pb_I y
  · obtain ⟨t, a1, b1⟩ := kf (q.mp hP) p e R s m args below meth c cell Y H locs ls hR hO hL hl hn T hT9 Xs
    refine ⟨t, ?_, b1⟩
    show Steps p.tables e below (T.setTop (F1 m pc ls (.int (pb_I y) :: .int (pb_I x) :: st.map pb_cv) a)) t
    jvm_step Xs.here [Xs.here.top, hx, hb, hd, Op.if_icmp.holds, hP, ht]
    exact a1
  · obtain ⟨t, a1, b1⟩ := kt (fun z => hP (q.mpr z)) p e R s m args below meth c cell Y H locs ls hR hO hL hl hn T hT9 Xs
    refine ⟨t, ?_, b1⟩
    show Steps p.tables e below (T.setTop (F1 m pc ls (.int (pb_I y) :: .int (pb_I x) :: st.map pb_cv) a)) t
    jvm_step Xs.here [Xs.here.top, hx, hb, hd, Op.if_icmp.holds, hP, ht]
    exact a1
theorem pb_Ey.if_ne {o : Int} {nx tg : Nat} {x : Int} (hi : pb_ig (pb_tb M) pc = some (.ifCond .ne o, nx, tg)) (hx9 : pb_rg x) (kt : x ≠ 0 → pb_Ey G M n C S Q a k u tg L st h) (kf : x = 0 → pb_Ey G M n C S Q a k u nx L st h) : pb_Ey G M n C S Q a k u pc L (pb_i x :: st) h := by
  intro p e R s m args below meth c cell Y H locs ls hR hO hL hl hn
  obtain ⟨⟨meth', X⟩, hY⟩ := id Y
  obtain ⟨hx, hb, hml, hrt, hlk, hnm, hown, hts, hHT, hSF, hAl, hRm, hT, hsz⟩ := X
  obtain ⟨hd, rfl, hj⟩ := pb_ig_ok hT hi rfl
  have hd : decode (pb_cd M) pc = .ok (.ifCond .ne o, 3) := hd
  have ht : (pc : Int) + o = (tg : Int) := of_decide_eq_true hj
  have q := pb_I_eq hx9 (by omega : pb_rg 0)
  intro T hT9 Xs
  by_cases hP : pb_I x = 0
  · obtain ⟨t, a1, b1⟩ := kf (q.mp hP) p e R s m args below meth c cell Y H locs ls hR hO hL hl hn T hT9 Xs
    refine ⟨t, ?_, b1⟩
    show Steps p.tables e below (T.setTop (F1 m pc ls (.int (pb_I x) :: st.map pb_cv) a)) t
    jvm_step Xs.here [Xs.here.top, hx, hb, hd, Op.ifCond.holds, hP, ht]
    exact a1
  · obtain ⟨t, a1, b1⟩ := kt (fun z => hP (q.mpr z)) p e R s m args below meth c cell Y H locs ls hR hO hL hl hn T hT9 Xs
    refine ⟨t, ?_, b1⟩
    show Steps p.tables e below (T.setTop (F1 m pc ls (.int (pb_I x) :: st.map pb_cv) a)) t
    jvm_step Xs.here [Xs.here.top, hx, hb, hd, Op.ifCond.holds, hP, ht]
    exact a1
theorem pb_Ey.astore {kf : Fin 4} {nx tg b : Nat} (hi : pb_ig (pb_tb M) pc = some (.astore_n kf, nx, tg)) (hk9 : kf.val < L.length) (hp9 : pb_pv L kf.val = true) (kk : pb_Ey G M n C S Q a k u nx (L.set kf.val (some (pb_r b))) st h) : pb_Ey G M n C S Q a k u pc L (pb_r b :: st) h := by
  intro p e R s m args below meth c cell Y H locs ls hR hO hL hl hn
  obtain ⟨⟨meth', X⟩, hY⟩ := id Y
  obtain ⟨hx, hb, hml, hrt, hlk, hnm, hown, hts, hHT, hSF, hAl, hRm, hT, hsz⟩ := X
  obtain ⟨hd, rfl, hj⟩ := pb_ig_ok hT hi rfl
  have hd : decode (pb_cd M) pc = .ok (.astore_n kf, 1) := hd
  obtain ⟨ls', e', h'⟩ := lv_store1 (v := .ref b) (pb_LR_has.mp hl) (Nat.lt_of_lt_of_le hk9 hn) rfl
  intro T hT9 Xs
  obtain ⟨t, a1, b1⟩ := kk p e R s m args below meth c cell Y H locs ls' hR hO hL (pb_put1 (v := pb_r b) hk9 hp9 h') (by rw [List.length_set]; exact hn) T hT9 Xs
  refine ⟨t, ?_, b1⟩
  show Steps p.tables e below (T.setTop (F1 m pc ls (.ref b :: st.map pb_cv) a)) t
  jvm_step Xs.here [Xs.here.top, ↓top_set Xs.here.top, hx, hb, hd, e', Value.isRef]
  exact a1
theorem pb_FLD16 {o : String} {idx kf : Nat} (h : pb_FLD o idx 2 kf) : pb_FLD o idx 16 kf := by
  obtain ⟨C0, ref, T, N, hc, hr⟩ := h
  cases hc
  exact ⟨_, ref, _, _, rfl, hr⟩
theorem pb_Ey.getf {nx tg idx kf b : Nat} {fs : List pb_V} {v : pb_V} (hi : pb_ig (pb_tb M) pc = some (.getfield idx, nx, tg)) (hF : pb_lk2 (pb_ft M.1) idx = some (2, kf)) (ha : h.2 b = some (pb_ob 16 fs)) (hv : fs[kf]? = some v) (kk : pb_Ey G M n C S Q a k u nx L (v :: st) h) : pb_Ey G M n C S Q a k u pc L (pb_r b :: st) h := by
  intro p e R s m args below meth c cell Y H locs ls hR hO hL hl hn
  obtain ⟨⟨meth', X⟩, hY⟩ := id Y
  obtain ⟨hx, hb, hml, hrt, hlk, hnm, hown, hts, hHT, hSF, hAl, hRm, hT, hsz⟩ := X
  obtain ⟨hd, rfl, hj⟩ := pb_ig_ok hT hi rfl
  obtain ⟨C0, ref, T, N, hc, hkN, hlink, hsame⟩ := pb_FLD16 (pb_fk hF)
  obtain ⟨hcz, -⟩ := hR.2.2 b _ ha
  obtain ⟨r, h1, h2, h3⟩ := hcz
  have hr : r = (C0, T, N) := Option.some.inj (h1.symm.trans hc)
  subst hr
  have hK : va_K G.2.2.1 pb_cl [] (s.setCell a (cell.withEntry s.cur)) := va_K.moved hAl hSF.1
  obtain ⟨cell9, q1, q2, q3, q4⟩ := h3
  obtain ⟨hS, hfc, kC, hkC, hkind⟩ := hK.1 16 _ hc
  obtain ⟨cf, kf9, fi, f, hi9, hsl⟩ := hS kf hkN
  have hk2 : kf < pb_oN 16 N := by
    have h9 := (List.getElem?_eq_some_iff.mp hv).1
    rw [h2.1] at h9
    exact h9
  have hsame' : (s.setCell a (cell.withEntry s.cur)).fieldFound? ref (T kf).2.1 (T kf).2.2.1 = some (cf, kf9, fi, f) := by
    rcases hsame with e1 | e1
    · rw [e1]; exact hi9
    · exact u_same (hts _ e1) _ hi9
  refine W.getf hx hb hown (hts _ hlink) hsame' (u_facts hfc hkC (u_lays hts (pb_cl_ok 16 _ hc).1 hkN) hi9).1 q1 (by rw [q3]; exact fun h9 => by cases h9) (v := pb_cv v) ?_ rfl rfl hd (kk p e R s m args below meth c cell Y H locs ls hR hO hL hl hn)
  rw [hsl, q4 kf hk2]
  simp [vp_V, hv]
theorem pb_Ey.cast {nx tg idx b ci : Nat} {fs : List pb_V} {C0 : String} (hi : pb_ig (pb_tb M) pc = some (.checkcast idx, nx, tg)) (hl9 : pb_lkS (pb_ct M.1) idx = some C0) (hb9 : h.2 b = some (pb_ob ci fs)) (hc : ∀ r, pb_cl[ci]? = some r → r.1 = C0) (kk : pb_Ey G M n C S Q a k u nx L (pb_r b :: st) h) : pb_Ey G M n C S Q a k u pc L (pb_r b :: st) h := by
  intro p e R s m args below meth c cell Y H locs ls hR hO hL hl hn
  obtain ⟨⟨meth', X⟩, hY⟩ := id Y
  obtain ⟨hx, hb, hml, hrt, hlk, hnm, hown, hts, hHT, hSF, hAl, hRm, hT, hsz⟩ := X
  obtain ⟨hd, rfl, hj⟩ := pb_ig_ok hT hi rfl
  obtain ⟨r, hcr⟩ : ∃ r, pb_cl[ci]? = some r := by
    obtain ⟨⟨r, h1, -⟩, -⟩ := hR.2.2 b _ hb9
    exact ⟨r, h1⟩
  have hrc := pb_recv (s := s.setCell a (cell.withEntry s.cur)) hSF hAl hR hb9 hcr
  rw [hc r hcr] at hrc
  obtain ⟨cl9, h1, h2, h3⟩ := hrc
  intro T hT9 Xs
  obtain ⟨vm', X', stp⟩ := Xs.checkcastYes hx hown (hts _ (pb_lkc hl9)) (by rw [hT9]; exact h1) h2 h3 (va_asg _ _) (g := F1 m pc ls (.ref b :: st.map pb_cv) a) rfl rfl (by rw [hb]; exact hd)
  obtain ⟨t, a1, b1⟩ := kk p e R s m args below meth c cell Y H locs ls hR hO hL hl hn (T.setVm vm') hT9 X'
  exact ⟨t, stp t a1, b1⟩
/-- what a call gives, and how it goes on -/
theorem pb_conY {p : Program} {e : Env} {R : Room} {s : State} {m : MethodId} {args : Array Value} {below : List Frame} {meth : Method} {c : Code} {cell : Cell} (Y : pb_Cy G M n C S a p R s m args meth c cell) {H : Heap} {locs : List Loc} {ls : Array Slot} (hL : ∀ z ∈ locs, pb_b G ≤ z.base) (hl : pb_LR (pb_ml M) L ls) (hn : L.length ≤ pb_ml M) {st0 : List Value} {av : Array Value}
    (hr : vx_Run p G.1 e R (s.setCell a (cell.withEntry s.cur)) m args below meth c H locs k u C2 S2 (F1 m pc ls st0 a) [] (pb_Qc G Q2 av) (pb_XC G Q2) (fun q => pb_b G ≤ q))
    (kk : ∀ (v : Option pb_V) (h' : pb_H), Q2 (.inl v) h' → pb_Ey G M n C S Q a (k + C2) (u + S2) (pc + 3) L v.toList h')
    (kx : ∀ (E : String) (q : Nat) (h' : pb_H), Q2 (.inr (E, q)) h' → pb_Xy G M n C S Q a (k + C2) (u + S2) pc L E q h') :
    W p G.1 e R (s.setCell a (cell.withEntry s.cur)) m args below meth c H locs k u (vx_MQ below (pb_Qc G Q) (pb_XC G Q) args s C S (fun q => pb_b G ≤ q)) (F1 m pc ls st0 a) := by
  intro T hT Xs
  rcases hr T hT Xs with ⟨v, st₀, t, T', L9, h0, X', hL9, e1, e2, ⟨v9, h', hv, hq, hR, hO⟩, stp⟩ | ⟨q, st₀, t, T', L9, E, ce, h0, X', hL9, e1, e2, ⟨h', hq, hR, hO⟩, hce, hcv, hcl, stp⟩
  · cases hv
    have hL' : ∀ z ∈ locs ++ L9, pb_b G ≤ z.base := fun z hz => by
      rcases List.mem_append.mp hz with h9 | h9
      · exact hL z h9
      · exact hL9 z h9
    obtain ⟨t2, a1, b1⟩ := kk v9 h' hq p e R s m args below meth c cell Y T'.heap (locs ++ L9) ls (by rw [e1]; exact hR) (by rw [e1]; exact hO) hL' hl hn T' rfl X'
    refine ⟨t2, stp t2 ?_, b1⟩
    have e3 : (v9.toList.map pb_cv) = (v9.map pb_cv).toList ++ [] := by cases v9 <;> rfl
    rw [e3] at a1
    exact a1
  · have hL' : ∀ z ∈ locs ++ L9, pb_b G ≤ z.base := fun z hz => by
      rcases List.mem_append.mp hz with h9 | h9
      · exact hL z h9
      · exact hL9 z h9
    obtain ⟨t2, a1, b1⟩ := kx E q h' hq p e R s m args below meth c cell Y T'.heap (locs ++ L9) ls ce [] (by rw [e1]; exact hR) (by rw [e1]; exact hO) hL' (by rw [e1]; exact hce) hcv hcl T' rfl X'
    exact ⟨t2, stp.trans a1, b1⟩
theorem pb_Ey.cV {nx tg idx np b ci : Nat} {fs As : List pb_V} (hi : pb_ig (pb_tb M) pc = some (.invokevirtual idx, nx, tg)) (hl : pb_lk3 (pb_lt M.1) idx = some (1, M2, np)) (hst : pb_take (np + 1) st [] = some (pb_r b :: As, [])) (hb9 : h.2 b = some (pb_ob ci fs)) (hcl : Nat.beq (pb_clo ci) M2.1 = true) (hcn : M2.2.1.cls = pb_cn M2.1) (hc : pb_Ctr G M2 n2 C2 S2 (pb_r b :: As) h Q2) (hr : n2 < n ∧ k + C2 ≤ C ∧ u + S2 ≤ S)
    (kk : ∀ (v : Option pb_V) (h' : pb_H), Q2 (.inl v) h' → pb_Ey G M n C S Q a (k + C2) (u + S2) nx L v.toList h')
    (kx : ∀ (E : String) (q : Nat) (h' : pb_H), Q2 (.inr (E, q)) h' → pb_Xy G M n C S Q a (k + C2) (u + S2) pc L E q h') : pb_Ey G M n C S Q a k u pc L st h := by
  obtain ⟨hlk9, hin, hse, hM⟩ := pb_lk hl
  intro p e R s m args below meth c cell Y H locs ls hR hO hL hl9 hn
  obtain ⟨⟨meth', X⟩, hY⟩ := id Y
  have X' := X
  obtain ⟨hx, hb, hml, hrt, hlk, hnm, hown, hts, hHT, hSF, hAl, hRm, hT, hsz⟩ := X
  obtain ⟨hd, rfl, hj⟩ := pb_ig_ok hT hi rfl
  obtain ⟨b1, e1, e2, e3⟩ := pb_take_ok hst
  rw [List.append_nil] at e1 e2
  subst e1 e2
  obtain ⟨r, hcr⟩ : ∃ r, pb_cl[ci]? = some r := by
    obtain ⟨⟨r, h1, -⟩, -⟩ := hR.2.2 b _ hb9
    exact ⟨r, h1⟩
  have hrc := pb_recv (s := s.setCell a (cell.withEntry s.cur)) hSF hAl hR hb9 hcr
  rw [show r.1 = M2.2.1.cls by rw [pb_clo_ok ci r hcr, Nat.eq_of_beq_eq_true hcl, hcn]] at hrc
  have hp := pb_preS (a := pb_r b :: As) (s := s.setCell a (cell.withEntry s.cur)) hSF hAl hR hO hsz.2
  exact pb_conY Y hL hl9 hn (vx_runV (g := F1 m pc ls _ a) (rest := []) (As := As.map pb_cv) (b := b) (pb_fix X') hc ⟨pb_callB X' hM hlk9 hr.1, hts _ hin, hts _ hse⟩ ⟨hp.1, hrc, hp.2⟩ rfl (by rw [List.length_map]; simpa using e3) hl9.1 (by show _ = _; simp [va_rf, pb_cv]) (by show 2 * 1 + 0 ≤ 8; omega) hd ⟨Nat.le_trans hr.2.1 hRm.2.2.1, Nat.le_trans hr.2.2 hRm.2.2.2⟩) kk kx
theorem pb_Ey.cS {nx tg idx np : Nat} {as : List pb_V} (hi : pb_ig (pb_tb M) pc = some (.invokestatic idx, nx, tg)) (hl : pb_lk3 (pb_lt M.1) idx = some (0, M2, np)) (hst : pb_take np st [] = some (as, [])) (hc : pb_Ctr G M2 n2 C2 S2 as h Q2) (hr : n2 < n ∧ k + C2 ≤ C ∧ u + S2 ≤ S)
    (kk : ∀ (v : Option pb_V) (h' : pb_H), Q2 (.inl v) h' → pb_Ey G M n C S Q a (k + C2) (u + S2) nx L v.toList h')
    (kx : ∀ (E : String) (q : Nat) (h' : pb_H), Q2 (.inr (E, q)) h' → pb_Xy G M n C S Q a (k + C2) (u + S2) pc L E q h') : pb_Ey G M n C S Q a k u pc L st h := by
  obtain ⟨hlk9, hst9, hM⟩ := pb_lk hl
  intro p e R s m args below meth c cell Y H locs ls hR hO hL hl9 hn
  obtain ⟨⟨meth', X⟩, hY⟩ := id Y
  have X' := X
  obtain ⟨hx, hb, hml, hrt, hlk, hnm, hown, hts, hHT, hSF, hAl, hRm, hT, hsz⟩ := X
  obtain ⟨hd, rfl, hj⟩ := pb_ig_ok hT hi rfl
  obtain ⟨b1, e1, e2, e3⟩ := pb_take_ok hst
  rw [List.append_nil] at e1 e2
  subst e1 e2
  exact pb_conY Y hL hl9 hn (vx_runS (g := F1 m pc ls _ a) (rest := []) (As := as.map pb_cv) (pb_fix X') hc ⟨pb_callB X' hM hlk9 hr.1, hts _ hst9⟩ (pb_preS hSF hAl hR hO hsz.2) rfl (by rw [List.length_map]; exact e3) hl9.1 (by show _ = _; simp [List.map_reverse]) (by show 2 * 1 + 0 ≤ 8; omega) hd ⟨Nat.le_trans hr.2.1 hRm.2.2.1, Nat.le_trans hr.2.2 hRm.2.2.2⟩) kk kx
/-- behind the exit: the object is of class 2 again -/
theorem pb_yback {p : Program} {e : Env} {R : Room} {s : State} {m : MethodId} {args : Array Value} {below : List Frame} {meth : Method} {c : Code} {cell : Cell} {fs : List pb_V} {T : State} {locs : List Loc} (Y : pb_Cy G M n C S a p R s m args meth c cell) (Xs : Stand p G.1 e R (s.setCell a (cell.withEntry s.cur)) m args below meth c T locs k u) (hR : pb_Rep G h T.heap) (hO : pb_Old G T.heap) (ha : h.2 a = some (pb_ob 16 fs)) {cellT : Cell} (hT : T.heap[a]? = some cellT) :
    pb_Rep G (pb_set h a (pb_ob 2 fs)) (T.heap.setIfInBounds a cellT.left) ∧ pb_Old G (T.heap.setIfInBounds a cellT.left) ∧ (T.heap.setIfInBounds a cellT.left)[a]? = some cellT.left ∧ (∀ q : Nat, q ≠ a → (T.heap.setIfInBounds a cellT.left)[q]? = T.heap[q]?) ∧ cellT.left.cls = cellT.cls ∧ cellT.left.vm = cellT.vm := by
  obtain ⟨⟨meth', X⟩, hlocks, hret, hcell, hfree, hempty, hge⟩ := Y
  obtain ⟨hx, hb, hml, hrt, hlk, hnm, hown, hts, hHT, hSF, hAl, hRm, hT9, hsz⟩ := X
  obtain ⟨g1, g2, g3⟩ := pb_heap_in (c := cell.withEntry s.cur) hcell
  obtain ⟨c', x1, x2, -⟩ := Xs.cellAt (a := a) (cell := cell.withEntry s.cur) g1
  cases hT.symm.trans x1
  have e2 : cellT.left = { cellT with monitor := cell.monitor } := by
    rw [x2, Cell.left_withSlots, Cell.left_withEntry' (Or.inl hfree)]
    rfl
  obtain ⟨r1, r2, r3⟩ := pb_heap_in (c := cellT.left) hT
  have hcz := (hR.2.2 a _ ha).1
  have r1' := r1
  rw [e2] at r1'
  rw [← e2] at r1'
  have r4 : (T.heap.setIfInBounds a cellT.left)[a]? = some { cellT with monitor := cell.monitor } := by rw [r1, e2]
  exact ⟨hR.set (hcz.freed hSF hT r4 hfree) hge r2 r3, hO.set hge r3, r1, r3, by rw [e2], by rw [e2]⟩
theorem pb_Ey.vret {nx tg : Nat} {fs : List pb_V} (hi : pb_ig (pb_tb M) pc = some (.return_, nx, tg)) (hr9 : M.2.2.2.2.1 = none) (ha : h.2 a = some (pb_ob 16 fs)) (hk : k ≤ C) (hu : u ≤ S) (hq : Q (.inl none) (pb_set h a (pb_ob 2 fs))) : pb_Ey G M n C S Q a k u pc L [] h := by
  intro p e R s m args below meth c cell Y H locs ls hR hO hL hl hn
  have Y' := Y
  obtain ⟨⟨meth', X⟩, hlocks, hret, hcell, hfree, hempty, hge⟩ := Y
  obtain ⟨hx, hb, hml, hrt, hlk, hnm, hown, hts, hHT, hSF, hAl, hRm, hT, hsz⟩ := X
  obtain ⟨hd, rfl, hj⟩ := pb_ig_ok hT hi rfl
  have hd : decode (pb_cd M) pc = .ok (.return_, 1) := hd
  have hr : meth.sig.returnType = none := hret.trans hr9
  intro T hT9 Xs
  subst hT9
  obtain ⟨fs9, cellT, hcT, hret9, hrun, hended, hW, hsm⟩ := Xs.leaveSync hcell (Or.inl hfree) hlocks (v := none) (fun _ => rfl)
  obtain ⟨q1, q2, -⟩ := pb_yback Y' Xs hR hO ha hcT
  have hmeth' : T.vm.method? m = some meth := Xs.method'
  refine ⟨(T.setCell a cellT.left).setFrames fs9, ?_, .returned none, hrun, hended, Or.inl ⟨⟨none, _, rfl, hq, q1, q2⟩, locs, ⟨⟨_, rfl⟩, hW, hsm.mono hk hu⟩, hL⟩⟩
  show Steps p.tables e below (T.setTop (F1 m pc ls [] a)) _
  jvm_step Xs.here [Xs.here.top, hx, hb, hd, hmeth', hr]
  (try refine ⟨rfl, ?_⟩); (try refine ⟨rfl, ?_⟩)
  first | (intro acts; rw [hret9 _ acts rfl rfl rfl]) | rw [hret9 _ _ rfl rfl rfl]
  exact Steps.refl _
theorem pb_Ey.iret {nx tg : Nat} {fs : List pb_V} {x : Int} (hi : pb_ig (pb_tb M) pc = some (.ireturn, nx, tg)) (hr9 : M.2.2.2.2.1 = some .int) (ha : h.2 a = some (pb_ob 16 fs)) (hk : k ≤ C) (hu : u ≤ S) (hq : Q (.inl (some (pb_i x))) (pb_set h a (pb_ob 2 fs))) : pb_Ey G M n C S Q a k u pc L [pb_i x] h := by
  intro p e R s m args below meth c cell Y H locs ls hR hO hL hl hn
  have Y' := Y
  obtain ⟨⟨meth', X⟩, hlocks, hret, hcell, hfree, hempty, hge⟩ := Y
  obtain ⟨hx, hb, hml, hrt, hlk, hnm, hown, hts, hHT, hSF, hAl, hRm, hT, hsz⟩ := X
  obtain ⟨hd, rfl, hj⟩ := pb_ig_ok hT hi rfl
  have hd : decode (pb_cd M) pc = .ok (.ireturn, 1) := hd
  have hr : meth.sig.returnType = some .int := hret.trans hr9
  intro T hT9 Xs
  subst hT9
  obtain ⟨fs9, cellT, hcT, hret9, hrun, hended, hW, hsm⟩ := Xs.leaveSync hcell (Or.inl hfree) hlocks (v := some (.int (pb_I x))) (fun h => by rw [hr] at h; cases h)
  obtain ⟨q1, q2, -⟩ := pb_yback Y' Xs hR hO ha hcT
  have hmeth' : T.vm.method? m = some meth := Xs.method'
  refine ⟨(T.setCell a cellT.left).setFrames fs9, ?_, .returned (some (.int (pb_I x))), hrun, hended, Or.inl ⟨⟨some (pb_i x), _, rfl, hq, q1, q2⟩, locs, ⟨⟨_, rfl⟩, hW, hsm.mono hk hu⟩, hL⟩⟩
  show Steps p.tables e below (T.setTop (F1 m pc ls [.int (pb_I x)] a)) _
  jvm_step Xs.here [Xs.here.top, hx, hb, hd, hmeth', hr, narrow]
  (try refine ⟨rfl, ?_⟩); (try refine ⟨rfl, ?_⟩)
  first | (intro acts; rw [hret9 _ acts rfl rfl rfl]) | rw [hret9 _ _ rfl rfl rfl]
  exact Steps.refl _
theorem pb_Ey.aret {nx tg b : Nat} {fs : List pb_V} {nm : String} (hi : pb_ig (pb_tb M) pc = some (.areturn, nx, tg)) (hr9 : M.2.2.2.2.1 = some (.object nm)) (ha : h.2 a = some (pb_ob 16 fs)) (hk : k ≤ C) (hu : u ≤ S) (hq : Q (.inl (some (pb_r b))) (pb_set h a (pb_ob 2 fs))) : pb_Ey G M n C S Q a k u pc L [pb_r b] h := by
  intro p e R s m args below meth c cell Y H locs ls hR hO hL hl hn
  have Y' := Y
  obtain ⟨⟨meth', X⟩, hlocks, hret, hcell, hfree, hempty, hge⟩ := Y
  obtain ⟨hx, hb, hml, hrt, hlk, hnm, hown, hts, hHT, hSF, hAl, hRm, hT, hsz⟩ := X
  obtain ⟨hd, rfl, hj⟩ := pb_ig_ok hT hi rfl
  have hd : decode (pb_cd M) pc = .ok (.areturn, 1) := hd
  have hr : meth.sig.returnType = some (.object nm) := hret.trans hr9
  intro T hT9 Xs
  subst hT9
  obtain ⟨fs9, cellT, hcT, hret9, hrun, hended, hW, hsm⟩ := Xs.leaveSync hcell (Or.inl hfree) hlocks (v := some (.ref b)) (fun h => by rw [hr] at h; cases h)
  obtain ⟨q1, q2, -⟩ := pb_yback Y' Xs hR hO ha hcT
  have hmeth' : T.vm.method? m = some meth := Xs.method'
  refine ⟨(T.setCell a cellT.left).setFrames fs9, ?_, .returned (some (.ref b)), hrun, hended, Or.inl ⟨⟨some (pb_r b), _, rfl, hq, q1, q2⟩, locs, ⟨⟨_, rfl⟩, hW, hsm.mono hk hu⟩, hL⟩⟩
  show Steps p.tables e below (T.setTop (F1 m pc ls [.ref b] a)) _
  jvm_step Xs.here [Xs.here.top, hx, hb, hd, hmeth', hr]
  (try refine ⟨rfl, ?_⟩); (try refine ⟨rfl, ?_⟩)
  first | (intro acts; rw [hret9 _ acts rfl rfl rfl]) | rw [hret9 _ _ rfl rfl rfl]
  exact Steps.refl _
theorem pb_Xy.out {E : String} {q : Nat} {fs : List pb_V} (ha : h.2 a = some (pb_ob 16 fs)) (hk : k ≤ C) (hu : u ≤ S) (hq : Q (.inr (E, q)) (pb_set h a (pb_ob 2 fs))) : pb_Xy G M n C S Q a k u pc L E q h := by
  intro p e R s m args below meth c cell Y H locs ls ce rest hR hO hL h1 h2 h3
  have Y' := Y
  obtain ⟨⟨meth', X⟩, hlocks, hret, hcell, hfree, hempty, hge⟩ := Y
  intro T hT9 Xs
  subst hT9
  obtain ⟨cellT, hcT, hst, hrun, hended, hW, hsm⟩ := Xs.leaveThrownSync hcell (Or.inl hfree) q (g := F1 m pc ls rest a) rfl rfl rfl (fun x hx => (hempty x hx).elim)
  obtain ⟨q1, q2, q3, q4, q5, q6⟩ := pb_yback Y' Xs hR hO ha hcT
  obtain ⟨ce', w1, w2, w3⟩ : ∃ ce' : Cell, (T.heap.setIfInBounds a cellT.left)[q]? = some ce' ∧ ce'.vm = .none ∧ s.vm.findClass E = some ce'.cls := by
    by_cases e : q = a
    · subst e
      cases h1.symm.trans hcT
      exact ⟨_, q3, by rw [q6]; exact h2, by rw [q5]; exact h3⟩
    · exact ⟨ce, by rw [q4 q e]; exact h1, h2, h3⟩
  exact ⟨_, hst, .threw q, hrun, hended, Or.inr ⟨q, rfl, E, ce', locs, ⟨_, hq, q1, q2⟩, w1, w2, w3, hW, hsm.mono hk hu, hL⟩⟩
end SYROWS
