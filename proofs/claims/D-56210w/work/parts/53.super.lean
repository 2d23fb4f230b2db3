set_option maxRecDepth 100000
/-! AN EXCEPTION OF ONE'S OWN: its constructor calls Exception's -/
section SUP
variable {p : Program} {l : Launch} {e : Env} {R : Room} {s : State} {m₀ : MethodId} {args : Array Value} {below : List Frame} {meth : Method} {c : Code} {W : State} {locs : List Loc} {cells slots : Nat}
set_option maxHeartbeats 1000000 in
theorem vx_super0 (X : Stand p l e R s m₀ args below meth c W locs cells slots) (hexec : p.tables.exec = Jvm.exec) (htr : e.platform.stackTraces = false) {own cls sup : String} {names : List String} {ic N : Nat}
    (hown : s.vm.findClass own = some m₀.cls) (hsup : Bundle.fit sup = true) (hnames : ∀ n ∈ names, Bundle.fit n = true)
    (hTA : ∀ w ∈ Bundle.throwableAtoms, w.before args s = true) (hCH : ∀ w ∈ Bundle.chain0Atoms sup names, w.before args s = true)
    (hlk : (Cond.methodLink own ic (Bundle.init0 sup)).before args s = true) (hinst : (Cond.instantiable cls N).before args s = true)
    (hs0 : (Cond.selects cls Bundle.tFill0 Bundle.tFill0).before args s = true) (hsF : (Cond.selects cls Bundle.tFill Bundle.tFill).before args s = true)
    (hlC : (Cond.lays cls Bundle.tN "cause" "Ljava/lang/Throwable;").before args s = true) (hlS : (Cond.lays cls Bundle.tN "stackTrace" Bundle.steD).before args s = true) (hlP : (Cond.lays cls Bundle.tN "suppressedExceptions" Bundle.listD).before args s = true) (hlB : (Cond.lays cls Bundle.tN "backtrace" "Ljava/lang/Object;").before args s = true)
    (hRU : (Cond.isRef (.static Bundle.tN "UNASSIGNED_STACK" Bundle.steD)).before args s = true) (hRS : (Cond.isRef (.static Bundle.tN "SUPPRESSED_SENTINEL" Bundle.listD)).before args s = true)
    (hf198 : (Cond.fieldLink Bundle.tN 198 Bundle.tN "backtrace" "Ljava/lang/Object;").before args s = true) (hlTB : (Cond.lays Bundle.tN Bundle.tN "backtrace" "Ljava/lang/Object;").before args s = true)
    (hlocs : ∀ x ∈ locs, ∀ cell, s.heap[x.base]? = some cell → cell.vm.isStatics = false)
    {a : Addr} {cell : Cell} (hfoundX : s.vm.findClass cls = some cell.cls) (hcell : W.heap[a]? = some cell) (hcv : cell.vm = .none) (hmo : cell.monitor.owner = none) (hmc : cell.monitor.count = 0)
    (hfld : ∀ nm d cf k i f, s.fieldFound? Bundle.tN nm d = some (cf, k, i, f) → ((nm, d) = ("cause", "Ljava/lang/Throwable;") ∨ (nm, d) = ("stackTrace", Bundle.steD) ∨ (nm, d) = ("suppressedExceptions", Bundle.listD) ∨ (nm, d) = ("backtrace", "Ljava/lang/Object;")) → cell.slots[f.slot]? = some .null)
    {g : JFrame} (hg : g.method = m₀) (hsize : g.locals.size = c.maxLocals) {rest : List Value} (hstack : g.stack = .ref a :: rest)
    (hd6 : decode c.code g.pc = .ok (.invokespecial ic, 3))
    (hRframes : names.length + 3 < R.frames) (hRlocals : 2 * g.monitorRoom + (rest.map fun v => v.category).sum + (13 * (names.length + 1) + 41) ≤ R.locals) :
    ∃ (V : State) (fC fS fP : Field) (u0 sen : RefV) (L : List Loc) (xC xS xP : ClassId × Class × Nat), Stand p l e R s m₀ args below meth c (V.setCell a ((((cell.setSlot fC.slot (.ref a)).setSlot fS.slot u0.v).setSlot fP.slot sen.v).setSlot fS.slot u0.v)) (locs ++ L) cells slots ∧ V.heap = W.heap ∧ (∀ y ∈ L, y.base = a) ∧
      s.fieldFound? Bundle.tN "cause" "Ljava/lang/Throwable;" = some (xC.1, xC.2.1, xC.2.2, fC) ∧ s.fieldFound? Bundle.tN "stackTrace" Bundle.steD = some (xS.1, xS.2.1, xS.2.2, fS) ∧ s.fieldFound? Bundle.tN "suppressedExceptions" Bundle.listD = some (xP.1, xP.2.1, xP.2.2, fP) ∧
      ∀ target, Steps p.tables e below ((V.setCell a ((((cell.setSlot fC.slot (.ref a)).setSlot fS.slot u0.v).setSlot fP.slot sen.v).setSlot fS.slot u0.v)).setTop { g with stack := rest, pc := g.pc + 3 }) target → Steps p.tables e below (W.setTop g) target := by
  have howns : e.platform.frameOwnsMonitors = true := by rw [X.admits.platform]
  have hfin : e.platform.finalization = false := by rw [X.admits.platform]
  have hpl : e.platform.magicAccessors = ({} : Platform).magicAccessors := by rw [X.admits.platform]
  obtain ⟨T, Z, L, LZ, Y⟩ := ThrowableC.of_atoms (args := args) howns hfin hpl (fun x hx => hTA x hx)
  obtain ⟨P1, Ps, hlen, L1, hL, hP1m, hlink1, hlink⟩ := Bundle.chain0 (args := args) hpl Y.init0 names sup hsup hnames (fun x hx => hCH x hx)
  obtain ⟨c1, kX, hc1, hkX, hord, -, -, hn6⟩ := Cond.instantiable_spec hinst
  cases Option.some.inj (hfoundX.symm.trans hc1)
  have hsel0 : selectMethod e.platform s.vm cell.cls T.fill0 = .method T.fill0 := by
    obtain ⟨c2, r2, m2, q1, q2, q3, q4, -⟩ := Cond.selects_spec hs0
    cases Option.some.inj (q1.symm.trans hfoundX)
    cases Option.some.inj (q2.symm.trans (State.methodFound?_of_named Y.fill0 (by decide)))
    cases Option.some.inj (q3.symm.trans Y.fill0)
    rw [Launch.admits_selectMethod X.admits]; exact q4
  have hselF : selectMethod e.platform s.vm cell.cls T.fill = .method T.fill := by
    obtain ⟨c2, r2, m2, q1, q2, q3, q4, -⟩ := Cond.selects_spec hsF
    cases Option.some.inj (q1.symm.trans hfoundX)
    cases Option.some.inj (q2.symm.trans (State.methodFound?_of_named Y.fill (by decide)))
    cases Option.some.inj (q3.symm.trans Y.fill)
    rw [Launch.admits_selectMethod X.admits]; exact q4
  obtain ⟨cellS0, hcS0, hiss⟩ := Y.statics
  obtain ⟨u0, hu0⟩ := Cond.staticRefV Y.unassigned L.unassignedStatic L.statics hcS0 hiss hRU
  obtain ⟨sen, hsen⟩ := Cond.staticRefV Y.sentinel L.sentinelStatic L.statics hcS0 hiss hRS
  obtain ⟨ci198, i198, fB, hk198, hg198, ha198, hsB, -, hnB, htB, hffB⟩ := Cond.ownField (t := .object "java/lang/Object") Y.found L.cls (by decide +kernel) hf198 hlTB e.platform hpl
  obtain ⟨cellS, hcS', heS, -, hkeep⟩ := X.same.2.2.2.2.2 T.aS cellS0 hcS0
  have hcellS : W.heap[T.aS]? = some cellS := hcS'
  have hout' : ∀ i, (⟨T.aS, i⟩ : Loc) ∉ locs := fun i hmem => by
    have := hlocs _ hmem cellS0 hcS0
    rw [hiss] at this; cases this
  have hknownS : cellS.vm ≠ .unknown := by
    rw [heS]; intro hu
    rw [show cellS0.vm = .unknown from hu] at hiss
    cases hiss
  have hneS : T.aS ≠ a := by
    intro h9
    rw [h9] at hcellS
    cases Option.some.inj (hcell.symm.trans hcellS)
    rw [heS] at hcv
    rw [show cellS0.vm = .none from hcv] at hiss
    cases hiss
  obtain ⟨tyC, dC, hdC, hdnC⟩ := Cond.laysAt hfoundX hkX Y.cause hlC
  obtain ⟨tyS, dS, hdS, hdnS⟩ := Cond.laysAt hfoundX hkX Y.stack hlS
  obtain ⟨tyP, dP, hdP, hdnP⟩ := Cond.laysAt hfoundX hkX Y.supp hlP
  obtain ⟨tyB, dB, hdB, hdnB⟩ := Cond.laysAt hfoundX hkX hffB hlB
  have bC := Cond.laysApart hdB hdC hdnB hdnC (by rw [hnB, Y.causeName]; decide)
  have bS := Cond.laysApart hdB hdS hdnB hdnS (by rw [hnB, Y.stackName]; decide)
  have bP := Cond.laysApart hdB hdP hdnB hdnP (by rw [hnB, Y.suppName]; decide)
  have vC := hfld _ _ _ _ _ _ Y.cause (Or.inl rfl)
  have vS := hfld _ _ _ _ _ _ Y.stack (Or.inr (Or.inl rfl))
  have vP := hfld _ _ _ _ _ _ Y.supp (Or.inr (Or.inr (Or.inl rfl)))
  have vB := hfld _ _ _ _ _ _ hffB (Or.inr (Or.inr (Or.inr rfl)))
  have tk : ∀ (f : Field) (v : Value), cell.slots[f.slot]? = some .null → kX.instanceTypes[f.slot]? = some f.type → fits f.type v = true → Takes s cell f v := by
    intro f v h1 h2 h3
    refine ⟨(Array.getElem?_eq_some_iff.mp h1).1, ?_⟩
    simp [State.fitsSlot, State.slotType?, hkX, hord, h2, h3, hcv]
  have hskip : SkipFacts T e.platform s (fun u => u) u0 ((preparedCellV T.toThrowableT cell a u0 sen).withEntry W.cur) :=
    ⟨{ ci198 := ci198, i198 := i198, fBack := fB }, ⟨hk198, hg198, ha198, hsB⟩, by
      simpa [preparedCellV, Cell.setSlot, Cell.withEntry, Array.getElem?_setIfInBounds, bC, bS, bP, bC.symm, bS.symm, bP.symm] using vB, fun _ _ => rfl⟩
  obtain ⟨tm, methC, cdC, kC, vm₁, hnC, -, -, -, -, -, -, -, hW₁, st1⟩ := Steps.initCold (tb := p.tables) (e := e) (below := below) (s := s) (U := W) X.here hexec X.warmed hpl hown (t := Bundle.init0 sup) rfl rfl (Bundle.fit_spec hsup).2
    hlk (hCH (.instanceMethod (Bundle.init0 sup)) (by cases names <;> simp [Bundle.chain0Atoms, Bundle.passAtoms])) (bytes := Bundle.five) (maxL := 1) (hCH (.code (Bundle.init0 sup) Bundle.five 1 none) (by cases names <;> simp [Bundle.chain0Atoms, Bundle.passAtoms]))
    (f := g) hg (a := a) (rest := rest) hstack hd6
  cases Option.some.inj (hnC.symm.trans hP1m)
  have X₁ := X.noted hW₁
  obtain ⟨vm₂, X₂, st2⟩ := X₁.ctorPlainOffV hexec (g := { g with stack := rest }) hg hsize T L Z LZ (P1 :: Ps)
    (fun P hP => by rcases List.mem_cons.mp hP with rfl | hP; exact L1; exact hL P hP) ⟨hlink1, hlink⟩ (u0 := u0) (sen := sen) (self := a) (cell := cell) (cellS := cellS)
    hcell (fun k9 h9 => by rw [hcv] at h9; cases h9) (by rw [hcv]; simp) hmo hmc hsel0 hselF hcellS hneS hknownS (by rw [hkeep _ (hout' _)]; exact hu0) (by rw [hkeep _ (hout' _)]; exact hsen)
    (tk _ _ vC tyC (by rw [Y.causeType]; rfl)) (tk _ _ vS tyS (by rw [Y.stackType]; exact fits_refV_array _ u0)) (tk _ _ vP tyP (by rw [Y.suppType]; exact fits_refV_object _ sen)) Y.objLocals hskip htr [] hd6
    (by simp only [List.length_cons, hlen]; omega) (by simp only [List.length_cons, hlen]; exact hRlocals)
  refine ⟨(W.setVm vm₁).setVm vm₂, T.fCause, T.fStack, T.fSupp, u0, sen, _, (_, _, _), (_, _, _), (_, _, _), X₂, rfl, fun y hy => ?_, Y.cause, Y.stack, Y.supp, fun target hwalk => st1 _ (fun acts => ?_)⟩
  · simp only [List.mem_cons, List.not_mem_nil, or_false] at hy
    rcases hy with rfl | rfl | rfl | rfl <;> rfl
  · rw [doInvoke_state]
    exact st2 _ hwalk
end SUP
