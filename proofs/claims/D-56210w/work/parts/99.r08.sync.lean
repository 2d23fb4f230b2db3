set_option maxRecDepth 100000
/-! SYNCHRONIZED METHODS of the class 2 (its objects are of class 16 while such a method runs) -/
abbrev F1 (m : MethodId) (pc : Nat) (ls : Array Slot) (st : List Value) (a : Addr) : JFrame := { method := m, pc := pc, locals := ls, stack := st, locked := some a, monitorRoom := 1 }
def pb_wsY (M : pb_M) : List Cond := Cond.codeSync M.2.1 M.2.2.1 M.2.2.2.1 M.2.2.2.2.1 :: lw_all
/-- the contract of a synchronized method -/
def pb_CtrY (G : pb_G) (M : pb_M) (n C S : Nat) (a : List pb_V) (h : pb_H) (Q : pb_O → pb_H → Prop) : Prop := vx_Met G.1 M.2.1 (pb_wsY M) (pb_room n C S) (pb_Pc G a h) (pb_Qc G Q) (pb_XC G Q) C S (fun q => pb_b G ≤ q)
/-- what holds all through its body -/
def pb_Cy (G : pb_G) (M : pb_M) (n C S : Nat) (a : Nat) (p : Program) (R : Room) (s : State) (m : MethodId) (args : Array Value) (meth : Method) (c : Code) (cell : Cell) : Prop :=
  (∃ meth' : Method, pb_Cx G M n C S p R (s.setCell a (cell.withEntry s.cur)) m args meth' c) ∧ meth.locks = true ∧ meth.sig.returnType = M.2.2.2.2.1 ∧ s.heap[a]? = some cell ∧ (cell.monitor.owner = none ∧ cell.monitor.count = 0) ∧ (∀ x ∈ c.exceptionTable.toList, False) ∧ pb_b G ≤ a
def pb_Ey (G : pb_G) (M : pb_M) (n C S : Nat) (Q : pb_O → pb_H → Prop) (a : Nat) (k u pc : Nat) (L : List (Option pb_V)) (st : List pb_V) (h : pb_H) : Prop :=
  ∀ (p : Program) (e : Env) (R : Room) (s : State) (m : MethodId) (args : Array Value) (below : List Frame) (meth : Method) (c : Code) (cell : Cell), pb_Cy G M n C S a p R s m args meth c cell →
    ∀ (H : Heap) (locs : List Loc) (ls : Array Slot), pb_Rep G h H → pb_Old G H → (∀ z ∈ locs, pb_b G ≤ z.base) → pb_LR (pb_ml M) L ls → L.length ≤ pb_ml M →
      W p G.1 e R (s.setCell a (cell.withEntry s.cur)) m args below meth c H locs k u (vx_MQ below (pb_Qc G Q) (pb_XC G Q) args s C S (fun q => pb_b G ≤ q)) (F1 m pc ls (st.map pb_cv) a)
/-- classes 2 and 16 are one -/
theorem pb_216 {G : pb_G} (hSF : pb_SF G) : G.2.2.1.1 16 = G.2.2.1.1 2 ∧ G.2.2.1.2 16 0 = G.2.2.1.2 2 0 := by
  obtain ⟨hS1, hf1, -⟩ := hSF.1.1 2 (RX3, TX3, 1) rfl
  obtain ⟨hS2, hf2, -⟩ := hSF.1.1 16 (RX3, TX3, 1) rfl
  refine ⟨Option.some.inj (hf2.symm.trans hf1), ?_⟩
  obtain ⟨cf1, kf1, fi1, f1, e1, s1⟩ := hS1 0 (Nat.lt_succ_self 0)
  obtain ⟨cf2, kf2, fi2, f2, e2, s2⟩ := hS2 0 (Nat.lt_succ_self 0)
  have e := Option.some.inj (e1.symm.trans e2)
  rw [← s1, ← s2]
  cases e
  rfl
theorem pb_cz.held {G : pb_G} (hSF : pb_SF G) {a : Nat} {fs : List pb_V} {H H' : Heap} {cell : Cell} {μ : Monitor} (h : pb_cz G a (pb_ob 2 fs) H) (h1 : H[a]? = some cell) (h2 : H'[a]? = some { cell with monitor := μ }) : pb_cz G a (pb_ob 16 fs) H' := by
  obtain ⟨e1, e2⟩ := pb_216 hSF
  obtain ⟨r, q1, ⟨q2, q3⟩, c9, q4, q5, q6, q7⟩ := h
  cases q1
  cases h1.symm.trans q4
  refine ⟨_, rfl, ⟨q2, Or.inl (Or.inr rfl)⟩, _, h2, by rw [e1]; exact q5, q6, fun k hk => ?_⟩
  have hk : k < 1 := hk
  obtain rfl : k = 0 := by omega
  rw [e2]
  exact q7 0 hk
theorem pb_cz.freed {G : pb_G} (hSF : pb_SF G) {a : Nat} {fs : List pb_V} {H H' : Heap} {cell : Cell} {μ : Monitor} (h : pb_cz G a (pb_ob 16 fs) H) (h1 : H[a]? = some cell) (h2 : H'[a]? = some { cell with monitor := μ }) (h3 : μ.owner = none ∧ μ.count = 0) : pb_cz G a (pb_ob 2 fs) H' := by
  obtain ⟨e1, e2⟩ := pb_216 hSF
  obtain ⟨r, q1, ⟨q2, q3⟩, c9, q4, q5, q6, q7⟩ := h
  cases q1
  cases h1.symm.trans q4
  refine ⟨_, rfl, ⟨q2, Or.inr ⟨_, h2, h3.1, h3.2⟩⟩, _, h2, by rw [← e1]; exact q5, q6, fun k hk => ?_⟩
  have hk : k < 1 := hk
  obtain rfl : k = 0 := by omega
  rw [← e2]
  exact q7 0 hk
theorem pb_heap_in {H : Heap} {a : Nat} {c0 c : Cell} (h : H[a]? = some c0) : (H.setIfInBounds a c)[a]? = some c ∧ (H.setIfInBounds a c).size = H.size ∧ ∀ q : Nat, q ≠ a → (H.setIfInBounds a c)[q]? = H[q]? := by
  have hlt : a < H.size := (Array.getElem?_eq_some_iff.mp h).1
  refine ⟨by simp [hlt], by simp, fun q hq => ?_⟩
  rw [Array.getElem?_setIfInBounds, if_neg (fun e => hq e.symm)]
section SYNC
variable {G : pb_G} {M M2 : pb_M} {n C S n2 C2 S2 : Nat} {Q Q2 : pb_O → pb_H → Prop} {a k u pc : Nat} {L : List (Option pb_V)} {st rest : List pb_V} {h : pb_H}
/-- A CONTRACT OUT OF A WALK -/
theorem pb_CtrY.of {L0 : List (Option pb_V)} {fs as : List pb_V} (hp : plainName M.2.1.cls = true) (hcls : M.2.1.cls = pb_cn M.1) (hh : M.2.2.2.2.2.1 = none) (hinst : Cond.instanceMethod M.2.1 ∈ lw_all) (hT : pb_Tok (pb_cd M) (pb_tb M)) (hL0 : pb_ent (pb_r a :: as) (pb_ml M) some = some L0) (ha : h.2 a = some (pb_ob 2 fs)) (kk : pb_Ey G M n C S Q a 0 0 0 L0 [] (pb_set h a (pb_ob 16 fs))) : pb_CtrY G M n C S (pb_r a :: as) h Q := by
  intro p e hadm hcas hclk s m args below hf happ hP _
  obtain ⟨rfl, hSF, hAl, hR, hO, hWm⟩ := hP
  obtain ⟨hrun, hable, halone, hname, hhears, hinit, hroom, hpre⟩ := (Spec.appliesLoose_iff hf).mp happ
  have hts0 := atoms_spec (ws := pb_wsY M) hpre
  have hcs : (Cond.codeSync M.2.1 M.2.2.1 M.2.2.2.1 M.2.2.2.2.1).before _ s = true := hts0 _ List.mem_cons_self
  have hts : ∀ w ∈ lw_all, w.before ((pb_r a :: as).map pb_cv).toArray s = true := fun w h => hts0 w (List.mem_cons_of_mem _ h)
  obtain ⟨meth, c, hmeth, hcode, hbytes, hlocals, hret, hlocks, hempty, -⟩ := Cond.codeSync_spec hname hcs
  obtain ⟨m9, meth9, hn9, hm9, hst, -⟩ := Cond.instanceMethod_spec (hts _ hinst)
  cases Option.some.inj (hname.symm.trans hn9)
  cases Option.some.inj (hmeth.symm.trans hm9)
  obtain ⟨hcz, hge⟩ := hR.2.2 a _ ha
  have hge : pb_b G ≤ a := hge rfl
  obtain ⟨cell, hcell, hown, hcnt⟩ : ∃ cell : Cell, s.heap[a]? = some cell ∧ cell.monitor.owner = none ∧ cell.monitor.count = 0 := by
    obtain ⟨r, -, ⟨-, q3⟩, -⟩ := hcz
    rcases q3 with q3 | q3
    · rcases q3 with q3 | q3 <;> cases q3
    · exact q3
  have harg : (((pb_r a :: as).map pb_cv).toArray)[0]? = some (Value.ref a) := by simp [pb_cv, va_rf]
  have hent : cell.enterable s.cur := Or.inl ⟨hown, hcnt⟩
  have hcur := State.cur_lt_of_frames hf
  obtain ⟨s₁, hs1⟩ : ∃ z, z = (s.setCell a (cell.withEntry s.cur)).setFrames (.java (entryFrameSync m ((pb_r a :: as).map pb_cv).toArray M.2.2.2.1 a) :: below) := ⟨_, rfl⟩
  have hf1 : s₁.frames = .java (entryFrameSync m ((pb_r a :: as).map pb_cv).toArray M.2.2.2.1 a) :: below := by
    rw [hs1]; exact State.frames_setFrames (s := s.setCell a (cell.withEntry s.cur)) _ hcur
  have ht1 := State.topJava?_of_frames hf1
  have hvm1 : s₁.vm = s.vm := by rw [hs1]; rfl
  have hplain : s₁.plainMethod m := by
    refine State.plainMethod.of_name ?_
    intro k hk
    obtain ⟨k', hk', hn⟩ := className_of_methodNamed hname
    rw [hvm1] at hk
    cases hk.symm.trans hk'
    rw [hn]; exact hp
  have hAt : At s₁ m c below :=
    ⟨by rw [ht1]; rfl, ⟨[], by rw [hf1]; rfl⟩, by rw [hs1]; exact hrun, by rw [hs1]; simpa using hable, by rw [hs1]; simpa using halone,
      by rw [State.code?_eq, hvm1]; simp [hmeth, hcode], hplain⟩
  obtain ⟨t9, ht9, -⟩ := State.frames_cons hf
  have X : Stand p G.1 e (pb_room n C S) (s.setCell a (cell.withEntry s.cur)) m ((pb_r a :: as).map pb_cv).toArray below meth c s₁ [] 0 0 := by
    refine ⟨hadm, hcas, hclk, hf, by rw [State.hasRoom_setCell (x := cell.withEntry s.cur) hcell rfl]; exact hroom, hhears, hmeth, hcode, hAt, by rw [hf1]; rfl,
      by rw [hvm1]; exact State.WarmedH.refl (s.setCell a (cell.withEntry s.cur)), by rw [hs1, State.stackLimits_setFrames], by rw [hs1, State.stackBytes_setFrames], ?_⟩
    have h9 := (State.sameButNew.refl (s.setCell a (cell.withEntry s.cur)) (x := t9) ht9).setFrames (.java (entryFrameSync m ((pb_r a :: as).map pb_cv).toArray M.2.2.2.1 a) :: below) hcur
    rw [hs1]
    exact h9
  obtain ⟨g1, g2, g3⟩ := pb_heap_in (c := cell.withEntry s.cur) hcell
  have hR1 : pb_Rep G (pb_set h a (pb_ob 16 fs)) (s.heap.setIfInBounds a (cell.withEntry s.cur)) := hR.set (hcz.held hSF hcell (μ := { cell.monitor with owner := some s.cur, count := cell.monitor.count + 1 }) g1) hge g2 g3
  have hO1 : pb_Old G (s.heap.setIfInBounds a (cell.withEntry s.cur)) := hO.set hge g3
  have hCx : pb_Cx G M n C S p (pb_room n C S) (s.setCell a (cell.withEntry s.cur)) m ((pb_r a :: as).map pb_cv).toArray { meth with accessFlags := 0 } c := by
    have hx : p.tables.exec = Jvm.exec := by cases p <;> rfl
    have hin : meth.name = M.2.1.name := (name_of_methodNamed hname hmeth).1
    have hown9 : s.vm.findClass (pb_cn M.1) = some m.cls := by rw [← hcls]; exact findClass_of_methodNamed hname
    have hts1 : ∀ w ∈ lw_all, w.before ((pb_r a :: as).map pb_cv).toArray (s.setCell a (cell.withEntry s.cur)) = true := fun w hw => pay_in hts (fun w h => lw_self _ h) w hw _ _ (State.WarmedH.refl s)
    refine ⟨hx, hbytes, hlocals, hret, by simp [Method.locks, Method.isSynchronized, hasFlag, Acc.synchronized], hin, hown9, hts1, ?_, hSF, hAl, ⟨Nat.le_refl _, Nat.le_refl _, Nat.le_refl _, Nat.le_refl _⟩, hT, ?_, hWm⟩
    · unfold pb_HT
      rw [hh]
      intro x hx9
      rw [Array.isEmpty_iff.mp hempty] at hx9
      cases hx9
    · show pb_b G ≤ (s.heap.setIfInBounds a (cell.withEntry s.cur)).size
      rw [g2, hR.1]; exact hR.2.1
  obtain ⟨h1, h2⟩ := pb_entry hL0
  have hlk : (argsToLocals ((pb_r a :: as).map pb_cv).toArray M.2.2.2.1) = ((lg_sl ((pb_r a :: as).map pb_cv) ++ List.replicate (M.2.2.2.1 - (lg_sl ((pb_r a :: as).map pb_cv)).length) Slot.unset).toArray) := congrArg JFrame.locals (lg_entry_eq m ((pb_r a :: as).map pb_cv) M.2.2.2.1)
  obtain ⟨s₂, hs, o, hr, he, hq⟩ := kk p e (pb_room n C S) s m ((pb_r a :: as).map pb_cv).toArray below meth c cell ⟨⟨_, hCx⟩, hlocks, hret, hcell, ⟨hown, hcnt⟩, fun x hx9 => (by rw [Array.isEmpty_iff.mp hempty] at hx9; cases hx9), hge⟩ _ [] _ hR1 hO1 (fun _ h => by cases h) h2 (Nat.le_of_eq h1) s₁ (by rw [hs1]; rfl) X
  have hstep : (stepThread p.tables e s).1 = s₁.setTop (F1 m 0 ((lg_sl ((pb_r a :: as).map pb_cv) ++ List.replicate (M.2.2.2.1 - (lg_sl ((pb_r a :: as).map pb_cv)).length) Slot.unset).toArray) [] a) := by
    have hfull : e.platform.stackFull (s.setFrames below).me (s.setFrames below).frames (c.maxLocals + 2) = false := by
      obtain ⟨-, r1, -, r2⟩ := State.hasRoom_stack hroom
      rw [hf, List.length_cons] at r1
      rw [State.localsInUse_invoking hf hmeth hcode] at r2
      have hw := stackUse_le_stackWeight below
      rw [State.frames_setFrames _ hcur]
      simp only [vmFrameWords] at r2
      exact Platform.stackFull_eq_false (by rw [State.stackLimits_setFrames]; omega) (by rw [State.stackLimits_setFrames]; omega)
    have hF : F1 m 0 ((lg_sl ((pb_r a :: as).map pb_cv) ++ List.replicate (M.2.2.2.1 - (lg_sl ((pb_r a :: as).map pb_cv)).length) Slot.unset).toArray) [] a = entryFrameSync m ((pb_r a :: as).map pb_cv).toArray M.2.2.2.1 a := by rw [← hlk]
    rw [stepThread_invoking hf, (doInvoke_java_sync (s := s.setFrames below) (e := e) (meth := meth) (code := c) (a := a) (cell := cell) hmeth hcode hlocks hst harg hcell hent.either hfull).1, hF, State.setTop_self ht1, hlocals, hs1]
    show (((s.setFrames below).setCell a (cell.withEntry s.cur)).setFrames (.java (entryFrameSync m ((pb_r a :: as).map pb_cv).toArray M.2.2.2.1 a) :: ((s.setFrames below).setCell a (cell.withEntry s.cur)).frames)) = _
    rw [show ((s.setFrames below).setCell a (cell.withEntry s.cur)).frames = below from State.frames_setFrames _ hcur, State.setCell_setFrames, State.setFrames_setFrames]
  obtain ⟨n9, hn, hw⟩ := Steps.head (tb := p.tables) (e := e) ⟨hrun, hable, halone⟩ ⟨[.invoking m _], hf, by simp, by simp⟩ (hstep ▸ hs)
  exact ⟨n9, o, hw, hn ▸ hr, hn ▸ he, hn ▸ hq⟩
end SYNC
