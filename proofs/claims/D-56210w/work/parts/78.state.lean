set_option maxRecDepth 100000
/-! THE STATES' METHODS. The classes of the four constants are not said to be initialised: their one-line methods are walked into, no contract being of use (follows Steps.intGetterInline of the library). -/
section CONSTCALL
variable {p : Program} {l : Launch} {e : Env} {R : Room} {s : State} {args : Array Value} {below : List Frame}
theorem st_inline {tb : Tables} [Ours tb] {T target : State} {g : JFrame} {c : Code} (h : At T g.method c below) (hexec : tb.exec = Jvm.exec) {mk : MethodId} {meth : Method} {code : Code} {a : Array Value} {ig : Instr} {len : Nat} (z : Nat) (hz : z < 2) (acts : List Action)
    (hm : T.vm.method? mk = some meth) (hc : meth.code = some code) (hl : meth.locks = false) (hp : T.plainMethod mk) (hret : meth.sig.returnType = some .boolean)
    (h0 : decode code.code 0 = .ok (.iconst (z : Int), 1)) (h1 : decode code.code 1 = .ok (.ireturn, 1))
    (hroom : e.platform.stackFull (((T.setTop g).threads[(T.setTop g).cur]?).getD { frames := [] }) (T.setTop g).frames code.maxLocals = false)
    (hdg : decode c.code g.pc = .ok (ig, len))
    (hrest : Steps tb e below (T.setTop { g with pc := g.pc + len, stack := (.int (Int32.ofNat z)) :: g.stack }) target) :
    Steps tb e below (doInvoke e (T.setTop g) acts mk a).1 target := by
  rw [doInvoke_enter h.top acts hm hc hl hroom]
  have hA : At ((T.setTop g).pushFrame (.java (entryFrame mk a code.maxLocals))) mk code below := h.enter a hm hc hp
  have hfr := frames_entered (g := g) h.top (.java (entryFrame mk a code.maxLocals))
  have hback : ((T.setTop g).pushFrame (.java (entryFrame mk a code.maxLocals))).setFrames (.java g :: T.frames.tail) = T.setTop g :=
    setFrames_entered (s := T) (g := g) h.top (.java (entryFrame mk a code.maxLocals))
  have hvm : ((T.setTop g).pushFrame (.java (entryFrame mk a code.maxLocals))).vm = T.vm := rfl
  have hcg : ((T.setTop g).pushFrame (.java (entryFrame mk a code.maxLocals))).code? g.method = some c := by
    have := h.code
    rw [State.code?_eq] at this ⊢
    simpa [State.pushFrame, State.setFrames] using this
  generalize (T.setTop g).pushFrame (.java (entryFrame mk a code.maxLocals)) = u at hA hfr hback hvm hcg ⊢
  have hm' : u.vm.method? mk = some meth := by rw [hvm]; exact hm
  unfold entryFrame
  jvm_step hA [hexec, h0]
  have hnr : narrow .boolean (Value.int (Int32.ofInt (z : Int))) = Value.int (Int32.ofNat z) := by
    match z, hz with
    | 0, _ => rfl
    | 1, _ => rfl
  jvm_step hA [hA.top, hexec, h1, hm', hret]
  intro acts'
  rw [doReturn_leave (g := g) (meth := meth) (cg := c) (ig := ig) (len := len) acts' hfr hm' hl rfl rfl hcg hdg, hback, State.setTop_setTop]
  rw [← hnr] at hrest
  simpa using hrest
theorem st_back {y : MethodName} {bytes : ByteArray} (z : Nat) (hz : z < 2) (hexec : p.tables.exec = Jvm.exec) (hy : plainFor y = true) (hcode : (Cond.code y bytes 1 (some .boolean)).before args s = true) (h0 : decode bytes 0 = .ok (.iconst (z : Int), 1)) (h1 : decode bytes 1 = .ok (.ireturn, 1)) (hR : 1 ≤ R.frames ∧ 20 ≤ R.locals) :
    vx_Back l R p e below s args y 3 8 (fun _ _ => True) (fun A _ v B => v = some (.int (Int32.ofNat z)) ∧ B = A) (fun _ _ _ _ => False) := by
  intro m meth c A g ig mk a X hg hsize hdg hW hn _
  have h2 : (Cond.code y bytes 1 (some .boolean)).before a A.U = true := word_at X.warmed (Or.inl (by first | rfl | simp [Cond.onTables, Cond.keeps, Cond.steady])) hcode
  obtain ⟨methY, cY, hmY, hcY, hbY, hlY, hrY, hkY, -, -⟩ := Cond.code_spec hn h2
  subst hg
  refine Or.inl ⟨some (.int (Int32.ofNat z)), A, X, ⟨rfl, rfl⟩, ?_⟩
  exact st_inline X.here hexec z hz [] hmY hcY hkY (State.plainMethod.of_named hy hn hmY) hrY (by rw [hbY]; exact h0) (by rw [hbY]; exact h1) (X.notFull hsize hR.1 (by rw [hlY]; omega)) hdg (Steps.refl _)
end CONSTCALL
section STATE
variable {G : pb_G} {K : co_K} {M : pb_M} {n C S : Nat} {Q : pb_O → pb_H → Prop} {k u pc : Nat} {L : List (Option pb_V)} {st a rest : List pb_V} {h : pb_H} {o : Nat}
theorem pb_Ex.constU {nx tg idx b : Nat} {y : MethodName} {bytes : ByteArray} (Cn owner : String) (x : MethodName) (z : Nat) (hz : z < 2) (hi : pb_ig (pb_tb M) pc = some (.invokevirtual idx, nx, tg)) (hl : Cond.methodLink (pb_cn M.1) idx x ∈ lw_all) (hsa : Cond.sameMethod x.cls owner x.name x.desc ∈ lw_all) (hdc : pb_dcl ⟨owner, x.name, x.desc⟩) (hs : Cond.instanceMethod y ∈ lw_all) (hse : pb_sl Cn x y) (hno : owner ≠ "java/lang/invoke/MethodHandle" ∧ owner ≠ "java/lang/invoke/VarHandle") (hpx : (parseMethodDescriptor x.desc).map (fun d => d.parameters.length) = some 0) (hcd : Cond.code y bytes 1 (some .boolean) ∈ lw_all) (hpf : plainFor y = true) (h0 : decode bytes 0 = .ok (.iconst (z : Int), 1)) (h1 : decode bytes 1 = .ok (.ireturn, 1)) (hsm : pb_sm rest = true) (hrc : pb_rc G h Cn b) (hr : 0 < n)
    (kk : pb_Ex G M n C S Q k u nx L (pb_i z :: rest) h) : pb_Ex G M n C S Q k u pc L (pb_r b :: rest) h := by
  intro p e R s m args below meth c X H locs ls hR hO hL hl9 hn
  have X' := X
  obtain ⟨hx, hb, hml, hrt, hlk, hnm, hown, hts, hHT, hSF, hAl, hRm, hT, hsz⟩ := X
  obtain ⟨hd, rfl, hj⟩ := pb_ig_ok hT hi rfl
  obtain ⟨cellB, hcB, hoB, hclB⟩ := hrc s H hSF hAl hR hO
  have hK := st_back (p := p) (l := G.1) (e := e) (R := R) (s := s) (args := args) (below := below) z hz hx hpf (hts _ hcd) h0 h1 ⟨by omega, by omega⟩
  intro T hT9 Xs
  rcases vx_callVU Xs hx (C := Cn) (owner := owner) hown (hts _ hl) (hts _ hsa) (pb_dcl_at hSF hAl hts hdc) hno (pb_sl_at hSF hAl hts hse) (hts _ hs) (hts _ hcd) hK (by rw [hT9]; exact hcB) hoB hclB (g := F0 m pc ls (.ref b :: rest.map pb_cv)) rfl (hl9.1.trans hml.symm) (argsL := []) (rest := rest.map pb_cv) (fun sig h9 => by rw [h9] at hpx; exact (Option.some.inj hpx).symm) rfl (lv_room (pb_sm_ok hsm)) (by show decode c.code pc = _; rw [hb]; exact hd) (fun _ _ => trivial) with ⟨v, vm₁, B, hW₁, XB, ⟨e1, e2⟩, stp⟩ | ⟨q, vm₁, B, hW₁, XB, hF, stp⟩
  · subst e1 e2
    obtain ⟨t, b1, b2⟩ := kk p e R s m args below meth c X' H locs ls hR hO hL hl9 hn (T.setVm vm₁) hT9 XB
    refine ⟨t, stp t ?_, b2⟩
    have e3 : pb_cv (pb_i (z : Nat)) = Value.int (Int32.ofNat z) := by
      match z, hz with
      | 0, _ => rfl
      | 1, _ => rfl
    have e4 : (pb_i (z : Nat) :: rest).map pb_cv = Value.int (Int32.ofNat z) :: rest.map pb_cv := by rw [List.map_cons, e3]
    rw [e4] at b1
    exact b1
  · exact hF.elim
theorem pb_Ex.work {i idx : Nat} {nx tg : Nat} (ho : Nat.beq M.1 2 = true) (hix : Nat.beq idx 128 = true) (hG : co_G G K) (hi : i < 4) (hig : pb_ig (pb_tb M) pc = some (.invokevirtual idx, nx, tg)) (hsm : pb_sm rest = true) (hr : 0 < n) (kk : pb_Ex G M n C S Q k u nx L (pb_i (if i < 2 then 1 else 0) :: rest) h) : pb_Ex G M n C S Q k u pc L (pb_r (co_st K i) :: rest) h := by
  have e := Nat.eq_of_beq_eq_true ho
  have e2 := Nat.eq_of_beq_eq_true hix
  subst e2
  have hl : Cond.methodLink (pb_cn M.1) 128 ⟨"PuddleBoatyard$State", "canBeWorkedOn", "()Z"⟩ ∈ lw_all := by rw [e]; exact q737
  match i, hi with
  | 0, hi => exact pb_Ex.constU "PuddleBoatyard$State$1" "PuddleBoatyard$State" ⟨"PuddleBoatyard$State", "canBeWorkedOn", "()Z"⟩ 1 (by omega) hig hl q739 (Or.inl q738) q741 (Or.inl q740) ⟨by decide +kernel, by decide +kernel⟩ (by decide +kernel) q742 (by decide +kernel) (by decide +kernel) (by decide +kernel) hsm (co_rc hG hi) hr kk
  | 1, hi => exact pb_Ex.constU "PuddleBoatyard$State$2" "PuddleBoatyard$State" ⟨"PuddleBoatyard$State", "canBeWorkedOn", "()Z"⟩ 1 (by omega) hig hl q739 (Or.inl q738) q744 (Or.inl q743) ⟨by decide +kernel, by decide +kernel⟩ (by decide +kernel) q745 (by decide +kernel) (by decide +kernel) (by decide +kernel) hsm (co_rc hG hi) hr kk
  | 2, hi => exact pb_Ex.constU "PuddleBoatyard$State$3" "PuddleBoatyard$State" ⟨"PuddleBoatyard$State", "canBeWorkedOn", "()Z"⟩ 0 (by omega) hig hl q739 (Or.inl q738) q747 (Or.inl q746) ⟨by decide +kernel, by decide +kernel⟩ (by decide +kernel) q748 (by decide +kernel) (by decide +kernel) (by decide +kernel) hsm (co_rc hG hi) hr kk
  | 3, hi => exact pb_Ex.constU "PuddleBoatyard$State$4" "PuddleBoatyard$State" ⟨"PuddleBoatyard$State", "canBeWorkedOn", "()Z"⟩ 0 (by omega) hig hl q739 (Or.inl q738) q750 (Or.inl q749) ⟨by decide +kernel, by decide +kernel⟩ (by decide +kernel) q751 (by decide +kernel) (by decide +kernel) (by decide +kernel) hsm (co_rc hG hi) hr kk
theorem st_okO : pb_MOK mJ11_ordinal 0 := ⟨rfl, ⟨by decide +kernel, by decide +kernel⟩, by decide +kernel, by decide, q1112, q90⟩
theorem st_ord {i : Nat} (hG : co_G G K) (hi : i < 4) : pb_Ctr G mJ11_ordinal 0 0 0 [pb_r (co_st K i)] h (pb_P (some (pb_i i)) h) := by
  refine pb_Ctr.of rfl rfl rfl tJ11_ordinal_ok rfl ?_
  (try refine pb_Ex.run rfl ?_)
  refine pb_Ex.getO rfl (hG.2.2.2.2.1 i hi).2.2.1 q2457 rfl ?_
  (try refine pb_Ex.run rfl ?_)
  refine pb_Ex.iret rfl rfl (by omega) (by omega) ⟨rfl, rfl⟩
theorem pb_Ex.ord {i idx : Nat} {nx tg : Nat} (ho : Nat.beq M.1 1 = true) (hix : Nat.beq idx 99 = true) (hG : co_G G K) (hi : i < 4) (hig : pb_ig (pb_tb M) pc = some (.invokevirtual idx, nx, tg)) (hsm : pb_sm rest = true) (hr : 0 < n) (hC : k ≤ C) (hS : u ≤ S) (kk : pb_Ex G M n C S Q k u nx L (pb_i i :: rest) h) : pb_Ex G M n C S Q k u pc L (pb_r (co_st K i) :: rest) h := by
  have e := Nat.eq_of_beq_eq_true ho
  have e2 := Nat.eq_of_beq_eq_true hix
  subst e2
  have hl : Cond.methodLink (pb_cn M.1) 99 ⟨"PuddleBoatyard$State", "ordinal", "()I"⟩ ∈ lw_all := by rw [e]; exact q1104
  have hsl : pb_sl (co_cn i) ⟨"PuddleBoatyard$State", "ordinal", "()I"⟩ mJ11_ordinal.2.1 := by
    match i, hi with
    | 0, _ => exact Or.inl q1107
    | 1, _ => exact Or.inl q1108
    | 2, _ => exact Or.inl q1109
    | 3, _ => exact Or.inl q1110
  exact pb_Ex.callU (M2 := mJ11_ordinal) (np := 0) (co_cn i) "java/lang/Enum" ⟨"PuddleBoatyard$State", "ordinal", "()I"⟩ hig hl q1105 (Or.inl q1106) q1111 hsl ⟨by decide +kernel, by decide +kernel⟩ (by decide +kernel) st_okO rfl hsm (co_rc hG hi) (st_ord hG hi) ⟨hr, hC, hS⟩ (fun v h' hq => by obtain ⟨e1, e2⟩ := hq; cases e1; rw [e2]; exact kk) (fun E q h' hq => by cases hq.1)
end STATE
