set_option maxRecDepth 100000
/-- the names of the classes whose code is walked, by number -/
def pb_cn (o : Nat) : String := match o with
  | 0 => RX0
  | 1 => RX1
  | 2 => RX2
  | 3 => RX3
  | 4 => RX4
  | 5 => RX5
  | 6 => RX6
  | 7 => RX7
  | 8 => RX8
  | 9 => RX9
  | 10 => RX10
  | 11 => RX11
  | 12 => RX12
  | 13 => RX13
  | 14 => RX14
  | 15 => RX15
  | 16 => RX16
  | 17 => RX17
  | 20 => RJ0
  | 21 => RJ1
  | 22 => RJ2
  | 23 => RJ3
  | 24 => RJ4
  | 25 => RJ5
  | 26 => RJ6
  | 27 => RJ7
  | 29 => RJ9
  | 30 => RJ10
  | 31 => RJ11
  | 32 => RJ12
  | 33 => RJ13
  | 41 => RJ21
  | 47 => RJ27
  | _ => RJ25
def pb_HT (M : pb_M) (c : Code) : Prop := match M.2.2.2.2.2.1 with
  | none => ∀ x ∈ c.exceptionTable.toList, False
  | some hh => c.exceptionTable.toList = tableOf hh
/-- what holds all through a method's body -/
def pb_Cx (G : pb_G) (M : pb_M) (n C S : Nat) (p : Program) (R : Room) (s : State) (m : MethodId) (args : Array Value) (meth : Method) (c : Code) : Prop :=
  p.tables.exec = Jvm.exec ∧ c.code = pb_cd M ∧ c.maxLocals = pb_ml M ∧ meth.sig.returnType = M.2.2.2.2.1 ∧ meth.locks = false ∧ meth.name = M.2.1.name ∧ s.vm.findClass (pb_cn M.1) = some m.cls ∧ (∀ w ∈ lw_all, w.before args s = true) ∧ pb_HT M c ∧ pb_SF G ∧ G.2.1.vm.Alike s.vm ∧ (n ≤ R.frames ∧ 40 * n ≤ R.locals ∧ C ≤ R.cells ∧ S ≤ R.slots) ∧ pb_Tok (pb_cd M) (pb_tb M) ∧ pb_b G ≤ s.heap.size ∧ G.2.1.WarmedH s.vm
/-- THE MACHINE at place pc of M, with these locals, stack and world, k cells and u slots used: it ends as Q says -/
def pb_Ex (G : pb_G) (M : pb_M) (n C S : Nat) (Q : pb_O → pb_H → Prop) (k u pc : Nat) (L : List (Option pb_V)) (st : List pb_V) (h : pb_H) : Prop :=
  ∀ (p : Program) (e : Env) (R : Room) (s : State) (m : MethodId) (args : Array Value) (below : List Frame) (meth : Method) (c : Code), pb_Cx G M n C S p R s m args meth c →
    ∀ (H : Heap) (locs : List Loc) (ls : Array Slot), pb_Rep G h H → pb_Old G H → (∀ z ∈ locs, pb_b G ≤ z.base) → pb_LR (pb_ml M) L ls → L.length ≤ pb_ml M →
      W p G.1 e R s m args below meth c H locs k u (vx_MQ below (pb_Qc G Q) (pb_XC G Q) args s C S (fun q => pb_b G ≤ q)) (F0 m pc ls (st.map pb_cv))
/-- the object q of class E is thrown at pc -/
def pb_Xx (G : pb_G) (M : pb_M) (n C S : Nat) (Q : pb_O → pb_H → Prop) (k u pc : Nat) (L : List (Option pb_V)) (E : String) (q : Nat) (h : pb_H) : Prop :=
  ∀ (p : Program) (e : Env) (R : Room) (s : State) (m : MethodId) (args : Array Value) (below : List Frame) (meth : Method) (c : Code), pb_Cx G M n C S p R s m args meth c →
    ∀ (H : Heap) (locs : List Loc) (ls : Array Slot) (ce : Cell) (rest : List Value), pb_Rep G h H → pb_Old G H → (∀ z ∈ locs, pb_b G ≤ z.base) → pb_LR (pb_ml M) L ls → L.length ≤ pb_ml M → H[q]? = some ce → ce.vm = .none → s.vm.findClass E = some ce.cls →
      vx_W p G.1 e R s m args below meth c H locs k u (vx_MQ below (pb_Qc G Q) (pb_XC G Q) args s C S (fun q => pb_b G ≤ q)) (F0 m pc ls rest) q
section ROWS
variable {G : pb_G} {M : pb_M} {n C S : Nat} {Q : pb_O → pb_H → Prop} {k u pc : Nat} {L : List (Option pb_V)} {st : List pb_V} {h : pb_H}
theorem pb_at {T : pb_T} {c : ByteArray} (hT : pb_Tok c T) {pc nx tg : Nat} {i : Instr} {r : pb_T} (h : pb_fd T pc = some ((pc, i, nx, tg), r)) (hl : Nat.blt 0 (pb_ln i) = true) : decode c pc = .ok (i, pb_ln i) ∧ nx = pc + pb_ln i ∧ pb_jp pc i tg = true := by
  have h1 := (pb_fd_ok h).1
  rcases hT _ h1 with h2 | h2
  · have h2 : pb_ln i = 0 := h2
    rw [h2] at hl
    cases hl
  · exact h2
/-- the row of the table at pc -/
def pb_is (T : pb_T) (pc : Nat) (i : Instr) (nx tg : Nat) : Prop := ∃ r, pb_fd T pc = some ((pc, i, nx, tg), r)
def pb_ig (T : pb_T) (pc : Nat) : Option (Instr × Nat × Nat) := match pb_fd T pc with
  | some ((p, x), _) => bif Nat.beq p pc then some x else none
  | none => none
theorem pb_ig_ok {T : pb_T} {c : ByteArray} (hT : pb_Tok c T) {pc nx tg : Nat} {i : Instr} (h : pb_ig T pc = some (i, nx, tg)) (hl : Nat.blt 0 (pb_ln i) = true) : decode c pc = .ok (i, pb_ln i) ∧ nx = pc + pb_ln i ∧ pb_jp pc i tg = true := by
  unfold pb_ig at h
  split at h
  · next p x r hh =>
    have hp : p = pc := (pb_fd_ok hh).2.1
    subst hp
    cases hb : Nat.beq p p with
    | true =>
      rw [hb] at h
      cases h
      exact pb_at hT hh hl
    | false => rw [hb] at h; cases h
  · cases h
theorem pb_Ex.run {pc' : Nat} {L' : List (Option pb_V)} {st' : List pb_V} (hr : pb_run (pb_tb M) 400 pc L st = some (pc', L', st')) (kk : pb_Ex G M n C S Q k u pc' L' st' h) : pb_Ex G M n C S Q k u pc L st h := by
  intro p e R s m args below meth c X H locs ls hR hO hL hl hn
  have X' := X
  obtain ⟨hx, hb, -, -, -, -, -, -, -, -, -, -, hT, -⟩ := X
  exact pb_run_ok hx hb hT hr hn hl (fun hn' ls' hl' => kk p e R s m args below meth c X' H locs ls' hR hO hL hl' hn')
/-- more cells, more slots counted -/
theorem pb_Ex.wide {k' u' : Nat} (h1 : k ≤ k') (h2 : u ≤ u') (kk : pb_Ex G M n C S Q k' u' pc L st h) : pb_Ex G M n C S Q k u pc L st h := by
  intro p e R s m args below meth c X H locs ls hR hO hL hl hn
  exact W.widen h1 h2 (kk p e R s m args below meth c X H locs ls hR hO hL hl hn)
theorem pb_Ex.sf (kk : pb_SF G → pb_Ex G M n C S Q k u pc L st h) : pb_Ex G M n C S Q k u pc L st h := by
  intro p e R s m args below meth c X H locs ls hR hO hL hl hn
  exact kk X.2.2.2.2.2.2.2.2.2.1 p e R s m args below meth c X H locs ls hR hO hL hl hn
/-- what the world says of a cell: it stands below the heap's end; one that may be written is the law's own -/
theorem pb_Ex.inb (kk : (∀ (a : Nat) (x : pb_C), h.2 a = some x → a < h.1 ∧ (pb_wr x = true → pb_b G ≤ a)) → pb_b G ≤ h.1 → pb_Ex G M n C S Q k u pc L st h) : pb_Ex G M n C S Q k u pc L st h := by
  intro p e R s m args below meth c X H locs ls hR hO hL hl hn
  exact kk (fun a x hx => ⟨hR.lt hx, (hR.2.2 a x hx).2⟩) hR.2.1 p e R s m args below meth c X H locs ls hR hO hL hl hn
/-! JUMPS -/
theorem pb_Ex.icmp_eq {o : Int} {nx tg : Nat} {a b : Int} (hi : pb_ig (pb_tb M) pc = some (.if_icmp .eq o, nx, tg)) (ha2 : pb_rg a) (hb2 : pb_rg b) (kt : a = b → pb_Ex G M n C S Q k u tg L st h) (kf : a ≠ b → pb_Ex G M n C S Q k u nx L st h) : pb_Ex G M n C S Q k u pc L (.inl b :: .inl a :: st) h := by
  intro p e R s m args below meth c X H locs ls hR hO hL hl hn
  have X' := X
  obtain ⟨hx, hb, hml, hrt, hlk, hnm, hown, hts, hHT, hSF, hAl, hRm, hT, hsz⟩ := X
  obtain ⟨hd, rfl, hj⟩ := pb_ig_ok hT hi rfl
  refine lv_icmp_eq hx hb hd (of_decide_eq_true hj) (fun hc => ?_) (fun hc => ?_)
  · exact kt (by have q := (pb_I_eq ha2 hb2); exact q.mp hc) p e R s m args below meth c X' H locs ls hR hO hL hl hn
  · exact kf (by have q := (pb_I_eq ha2 hb2); exact fun z => hc (q.mpr z)) p e R s m args below meth c X' H locs ls hR hO hL hl hn
theorem pb_Ex.if_eq {o : Int} {nx tg : Nat} {a : Int} (hi : pb_ig (pb_tb M) pc = some (.ifCond .eq o, nx, tg)) (ha2 : pb_rg a) (kt : a = 0 → pb_Ex G M n C S Q k u tg L st h) (kf : a ≠ 0 → pb_Ex G M n C S Q k u nx L st h) : pb_Ex G M n C S Q k u pc L (.inl a :: st) h := by
  intro p e R s m args below meth c X H locs ls hR hO hL hl hn
  have X' := X
  obtain ⟨hx, hb, hml, hrt, hlk, hnm, hown, hts, hHT, hSF, hAl, hRm, hT, hsz⟩ := X
  obtain ⟨hd, rfl, hj⟩ := pb_ig_ok hT hi rfl
  refine lv_if_eq hx hb hd (of_decide_eq_true hj) (fun hc => ?_) (fun hc => ?_)
  · exact kt (by have q := (pb_I_eq ha2 (by omega : pb_rg 0)); exact q.mp hc) p e R s m args below meth c X' H locs ls hR hO hL hl hn
  · exact kf (by have q := (pb_I_eq ha2 (by omega : pb_rg 0)); exact fun z => hc (q.mpr z)) p e R s m args below meth c X' H locs ls hR hO hL hl hn
theorem pb_Ex.icmp_ne {o : Int} {nx tg : Nat} {a b : Int} (hi : pb_ig (pb_tb M) pc = some (.if_icmp .ne o, nx, tg)) (ha2 : pb_rg a) (hb2 : pb_rg b) (kt : a ≠ b → pb_Ex G M n C S Q k u tg L st h) (kf : a = b → pb_Ex G M n C S Q k u nx L st h) : pb_Ex G M n C S Q k u pc L (.inl b :: .inl a :: st) h := by
  intro p e R s m args below meth c X H locs ls hR hO hL hl hn
  have X' := X
  obtain ⟨hx, hb, hml, hrt, hlk, hnm, hown, hts, hHT, hSF, hAl, hRm, hT, hsz⟩ := X
  obtain ⟨hd, rfl, hj⟩ := pb_ig_ok hT hi rfl
  refine lv_icmp_ne hx hb hd (of_decide_eq_true hj) (fun hc => ?_) (fun hc => ?_)
  · exact kt (by have q := (pb_I_eq ha2 hb2); exact fun z => hc (q.mpr z)) p e R s m args below meth c X' H locs ls hR hO hL hl hn
  · exact kf (by have q := (pb_I_eq ha2 hb2); exact q.mp hc) p e R s m args below meth c X' H locs ls hR hO hL hl hn
theorem pb_Ex.if_ne {o : Int} {nx tg : Nat} {a : Int} (hi : pb_ig (pb_tb M) pc = some (.ifCond .ne o, nx, tg)) (ha2 : pb_rg a) (kt : a ≠ 0 → pb_Ex G M n C S Q k u tg L st h) (kf : a = 0 → pb_Ex G M n C S Q k u nx L st h) : pb_Ex G M n C S Q k u pc L (.inl a :: st) h := by
  intro p e R s m args below meth c X H locs ls hR hO hL hl hn
  have X' := X
  obtain ⟨hx, hb, hml, hrt, hlk, hnm, hown, hts, hHT, hSF, hAl, hRm, hT, hsz⟩ := X
  obtain ⟨hd, rfl, hj⟩ := pb_ig_ok hT hi rfl
  refine lv_if_ne hx hb hd (of_decide_eq_true hj) (fun hc => ?_) (fun hc => ?_)
  · exact kt (by have q := (pb_I_eq ha2 (by omega : pb_rg 0)); exact fun z => hc (q.mpr z)) p e R s m args below meth c X' H locs ls hR hO hL hl hn
  · exact kf (by have q := (pb_I_eq ha2 (by omega : pb_rg 0)); exact q.mp hc) p e R s m args below meth c X' H locs ls hR hO hL hl hn
theorem pb_Ex.icmp_lt {o : Int} {nx tg : Nat} {a b : Int} (hi : pb_ig (pb_tb M) pc = some (.if_icmp .lt o, nx, tg)) (ha2 : pb_rg a) (hb2 : pb_rg b) (kt : a < b → pb_Ex G M n C S Q k u tg L st h) (kf : b ≤ a → pb_Ex G M n C S Q k u nx L st h) : pb_Ex G M n C S Q k u pc L (.inl b :: .inl a :: st) h := by
  intro p e R s m args below meth c X H locs ls hR hO hL hl hn
  have X' := X
  obtain ⟨hx, hb, hml, hrt, hlk, hnm, hown, hts, hHT, hSF, hAl, hRm, hT, hsz⟩ := X
  obtain ⟨hd, rfl, hj⟩ := pb_ig_ok hT hi rfl
  refine lv_icmp_lt hx hb hd (of_decide_eq_true hj) (fun hc => ?_) (fun hc => ?_)
  · exact kt (by have q := (pb_I_lt ha2 hb2); exact q.mp hc) p e R s m args below meth c X' H locs ls hR hO hL hl hn
  · exact kf (by have q := (pb_I_lt ha2 hb2); exact Int.not_lt.mp (fun z => hc (q.mpr z))) p e R s m args below meth c X' H locs ls hR hO hL hl hn
theorem pb_Ex.if_lt {o : Int} {nx tg : Nat} {a : Int} (hi : pb_ig (pb_tb M) pc = some (.ifCond .lt o, nx, tg)) (ha2 : pb_rg a) (kt : a < 0 → pb_Ex G M n C S Q k u tg L st h) (kf : 0 ≤ a → pb_Ex G M n C S Q k u nx L st h) : pb_Ex G M n C S Q k u pc L (.inl a :: st) h := by
  intro p e R s m args below meth c X H locs ls hR hO hL hl hn
  have X' := X
  obtain ⟨hx, hb, hml, hrt, hlk, hnm, hown, hts, hHT, hSF, hAl, hRm, hT, hsz⟩ := X
  obtain ⟨hd, rfl, hj⟩ := pb_ig_ok hT hi rfl
  refine lv_if_lt hx hb hd (of_decide_eq_true hj) (fun hc => ?_) (fun hc => ?_)
  · exact kt (by have q := (pb_I_lt ha2 (by omega : pb_rg 0)); exact q.mp hc) p e R s m args below meth c X' H locs ls hR hO hL hl hn
  · exact kf (by have q := (pb_I_lt ha2 (by omega : pb_rg 0)); exact Int.not_lt.mp (fun z => hc (q.mpr z))) p e R s m args below meth c X' H locs ls hR hO hL hl hn
theorem pb_Ex.icmp_ge {o : Int} {nx tg : Nat} {a b : Int} (hi : pb_ig (pb_tb M) pc = some (.if_icmp .ge o, nx, tg)) (ha2 : pb_rg a) (hb2 : pb_rg b) (kt : b ≤ a → pb_Ex G M n C S Q k u tg L st h) (kf : a < b → pb_Ex G M n C S Q k u nx L st h) : pb_Ex G M n C S Q k u pc L (.inl b :: .inl a :: st) h := by
  intro p e R s m args below meth c X H locs ls hR hO hL hl hn
  have X' := X
  obtain ⟨hx, hb, hml, hrt, hlk, hnm, hown, hts, hHT, hSF, hAl, hRm, hT, hsz⟩ := X
  obtain ⟨hd, rfl, hj⟩ := pb_ig_ok hT hi rfl
  refine lv_icmp_ge hx hb hd (of_decide_eq_true hj) (fun hc => ?_) (fun hc => ?_)
  · exact kt (by have q := (pb_I_le hb2 ha2); exact q.mp hc) p e R s m args below meth c X' H locs ls hR hO hL hl hn
  · exact kf (by have q := (pb_I_le hb2 ha2); exact Int.not_le.mp (fun z => hc (q.mpr z))) p e R s m args below meth c X' H locs ls hR hO hL hl hn
theorem pb_Ex.if_ge {o : Int} {nx tg : Nat} {a : Int} (hi : pb_ig (pb_tb M) pc = some (.ifCond .ge o, nx, tg)) (ha2 : pb_rg a) (kt : 0 ≤ a → pb_Ex G M n C S Q k u tg L st h) (kf : a < 0 → pb_Ex G M n C S Q k u nx L st h) : pb_Ex G M n C S Q k u pc L (.inl a :: st) h := by
  intro p e R s m args below meth c X H locs ls hR hO hL hl hn
  have X' := X
  obtain ⟨hx, hb, hml, hrt, hlk, hnm, hown, hts, hHT, hSF, hAl, hRm, hT, hsz⟩ := X
  obtain ⟨hd, rfl, hj⟩ := pb_ig_ok hT hi rfl
  refine lv_if_ge hx hb hd (of_decide_eq_true hj) (fun hc => ?_) (fun hc => ?_)
  · exact kt (by have q := (pb_I_le (by omega : pb_rg 0) ha2); exact q.mp hc) p e R s m args below meth c X' H locs ls hR hO hL hl hn
  · exact kf (by have q := (pb_I_le (by omega : pb_rg 0) ha2); exact Int.not_le.mp (fun z => hc (q.mpr z))) p e R s m args below meth c X' H locs ls hR hO hL hl hn
theorem pb_Ex.icmp_gt {o : Int} {nx tg : Nat} {a b : Int} (hi : pb_ig (pb_tb M) pc = some (.if_icmp .gt o, nx, tg)) (ha2 : pb_rg a) (hb2 : pb_rg b) (kt : b < a → pb_Ex G M n C S Q k u tg L st h) (kf : a ≤ b → pb_Ex G M n C S Q k u nx L st h) : pb_Ex G M n C S Q k u pc L (.inl b :: .inl a :: st) h := by
  intro p e R s m args below meth c X H locs ls hR hO hL hl hn
  have X' := X
  obtain ⟨hx, hb, hml, hrt, hlk, hnm, hown, hts, hHT, hSF, hAl, hRm, hT, hsz⟩ := X
  obtain ⟨hd, rfl, hj⟩ := pb_ig_ok hT hi rfl
  refine lv_icmp_gt hx hb hd (of_decide_eq_true hj) (fun hc => ?_) (fun hc => ?_)
  · exact kt (by have q := (pb_I_lt hb2 ha2); exact q.mp hc) p e R s m args below meth c X' H locs ls hR hO hL hl hn
  · exact kf (by have q := (pb_I_lt hb2 ha2); exact Int.not_lt.mp (fun z => hc (q.mpr z))) p e R s m args below meth c X' H locs ls hR hO hL hl hn
theorem pb_Ex.if_gt {o : Int} {nx tg : Nat} {a : Int} (hi : pb_ig (pb_tb M) pc = some (.ifCond .gt o, nx, tg)) (ha2 : pb_rg a) (kt : 0 < a → pb_Ex G M n C S Q k u tg L st h) (kf : a ≤ 0 → pb_Ex G M n C S Q k u nx L st h) : pb_Ex G M n C S Q k u pc L (.inl a :: st) h := by
  intro p e R s m args below meth c X H locs ls hR hO hL hl hn
  have X' := X
  obtain ⟨hx, hb, hml, hrt, hlk, hnm, hown, hts, hHT, hSF, hAl, hRm, hT, hsz⟩ := X
  obtain ⟨hd, rfl, hj⟩ := pb_ig_ok hT hi rfl
  refine lv_if_gt hx hb hd (of_decide_eq_true hj) (fun hc => ?_) (fun hc => ?_)
  · exact kt (by have q := (pb_I_lt (by omega : pb_rg 0) ha2); exact q.mp hc) p e R s m args below meth c X' H locs ls hR hO hL hl hn
  · exact kf (by have q := (pb_I_lt (by omega : pb_rg 0) ha2); exact Int.not_lt.mp (fun z => hc (q.mpr z))) p e R s m args below meth c X' H locs ls hR hO hL hl hn
theorem pb_Ex.icmp_le {o : Int} {nx tg : Nat} {a b : Int} (hi : pb_ig (pb_tb M) pc = some (.if_icmp .le o, nx, tg)) (ha2 : pb_rg a) (hb2 : pb_rg b) (kt : a ≤ b → pb_Ex G M n C S Q k u tg L st h) (kf : b < a → pb_Ex G M n C S Q k u nx L st h) : pb_Ex G M n C S Q k u pc L (.inl b :: .inl a :: st) h := by
  intro p e R s m args below meth c X H locs ls hR hO hL hl hn
  have X' := X
  obtain ⟨hx, hb, hml, hrt, hlk, hnm, hown, hts, hHT, hSF, hAl, hRm, hT, hsz⟩ := X
  obtain ⟨hd, rfl, hj⟩ := pb_ig_ok hT hi rfl
  refine lv_icmp_le hx hb hd (of_decide_eq_true hj) (fun hc => ?_) (fun hc => ?_)
  · exact kt (by have q := (pb_I_le ha2 hb2); exact q.mp hc) p e R s m args below meth c X' H locs ls hR hO hL hl hn
  · exact kf (by have q := (pb_I_le ha2 hb2); exact Int.not_le.mp (fun z => hc (q.mpr z))) p e R s m args below meth c X' H locs ls hR hO hL hl hn
theorem pb_Ex.if_le {o : Int} {nx tg : Nat} {a : Int} (hi : pb_ig (pb_tb M) pc = some (.ifCond .le o, nx, tg)) (ha2 : pb_rg a) (kt : a ≤ 0 → pb_Ex G M n C S Q k u tg L st h) (kf : 0 < a → pb_Ex G M n C S Q k u nx L st h) : pb_Ex G M n C S Q k u pc L (.inl a :: st) h := by
  intro p e R s m args below meth c X H locs ls hR hO hL hl hn
  have X' := X
  obtain ⟨hx, hb, hml, hrt, hlk, hnm, hown, hts, hHT, hSF, hAl, hRm, hT, hsz⟩ := X
  obtain ⟨hd, rfl, hj⟩ := pb_ig_ok hT hi rfl
  refine lv_if_le hx hb hd (of_decide_eq_true hj) (fun hc => ?_) (fun hc => ?_)
  · exact kt (by have q := (pb_I_le ha2 (by omega : pb_rg 0)); exact q.mp hc) p e R s m args below meth c X' H locs ls hR hO hL hl hn
  · exact kf (by have q := (pb_I_le ha2 (by omega : pb_rg 0)); exact Int.not_le.mp (fun z => hc (q.mpr z))) p e R s m args below meth c X' H locs ls hR hO hL hl hn
/-- a comparison whose outcome is known -/
def pb_cmp (c : ClassFile.Cond) (a b : Int) : Prop := match c with
  | .eq => a = b
  | .ne => a ≠ b
  | .lt => a < b
  | .ge => b ≤ a
  | .gt => b < a
  | .le => a ≤ b
theorem pb_Ex.icmpT {cnd : ClassFile.Cond} {o : Int} {nx tg : Nat} {a b : Int} (hi : pb_ig (pb_tb M) pc = some (.if_icmp cnd o, nx, tg)) (ha : pb_rg a) (hb : pb_rg b) (hc : pb_cmp cnd a b) (kk : pb_Ex G M n C S Q k u tg L st h) : pb_Ex G M n C S Q k u pc L (.inl b :: .inl a :: st) h := by
  cases cnd with
  | eq => exact pb_Ex.icmp_eq hi ha hb (fun _ => kk) (fun z => absurd hc z)
  | ne => exact pb_Ex.icmp_ne hi ha hb (fun _ => kk) (fun z => absurd z hc)
  | lt => exact pb_Ex.icmp_lt hi ha hb (fun _ => kk) (fun z => by have hc : a < b := hc; omega)
  | ge => exact pb_Ex.icmp_ge hi ha hb (fun _ => kk) (fun z => by have hc : b ≤ a := hc; omega)
  | gt => exact pb_Ex.icmp_gt hi ha hb (fun _ => kk) (fun z => by have hc : b < a := hc; omega)
  | le => exact pb_Ex.icmp_le hi ha hb (fun _ => kk) (fun z => by have hc : a ≤ b := hc; omega)
theorem pb_Ex.icmpF {cnd : ClassFile.Cond} {o : Int} {nx tg : Nat} {a b : Int} (hi : pb_ig (pb_tb M) pc = some (.if_icmp cnd o, nx, tg)) (ha : pb_rg a) (hb : pb_rg b) (hc : ¬ pb_cmp cnd a b) (kk : pb_Ex G M n C S Q k u nx L st h) : pb_Ex G M n C S Q k u pc L (.inl b :: .inl a :: st) h := by
  cases cnd with
  | eq => exact pb_Ex.icmp_eq hi ha hb (fun z => absurd z hc) (fun _ => kk)
  | ne => exact pb_Ex.icmp_ne hi ha hb (fun z => absurd z hc) (fun _ => kk)
  | lt => exact pb_Ex.icmp_lt hi ha hb (fun z => absurd z hc) (fun _ => kk)
  | ge => exact pb_Ex.icmp_ge hi ha hb (fun z => absurd z hc) (fun _ => kk)
  | gt => exact pb_Ex.icmp_gt hi ha hb (fun z => absurd z hc) (fun _ => kk)
  | le => exact pb_Ex.icmp_le hi ha hb (fun z => absurd z hc) (fun _ => kk)
theorem pb_Ex.ifT {cnd : ClassFile.Cond} {o : Int} {nx tg : Nat} {a : Int} (hi : pb_ig (pb_tb M) pc = some (.ifCond cnd o, nx, tg)) (ha : pb_rg a) (hc : pb_cmp cnd a 0) (kk : pb_Ex G M n C S Q k u tg L st h) : pb_Ex G M n C S Q k u pc L (.inl a :: st) h := by
  cases cnd with
  | eq => exact pb_Ex.if_eq hi ha (fun _ => kk) (fun z => absurd hc z)
  | ne => exact pb_Ex.if_ne hi ha (fun _ => kk) (fun z => absurd z hc)
  | lt => exact pb_Ex.if_lt hi ha (fun _ => kk) (fun z => by have hc : a < 0 := hc; omega)
  | ge => exact pb_Ex.if_ge hi ha (fun _ => kk) (fun z => by have hc : 0 ≤ a := hc; omega)
  | gt => exact pb_Ex.if_gt hi ha (fun _ => kk) (fun z => by have hc : 0 < a := hc; omega)
  | le => exact pb_Ex.if_le hi ha (fun _ => kk) (fun z => by have hc : a ≤ 0 := hc; omega)
theorem pb_Ex.ifF {cnd : ClassFile.Cond} {o : Int} {nx tg : Nat} {a : Int} (hi : pb_ig (pb_tb M) pc = some (.ifCond cnd o, nx, tg)) (ha : pb_rg a) (hc : ¬ pb_cmp cnd a 0) (kk : pb_Ex G M n C S Q k u nx L st h) : pb_Ex G M n C S Q k u pc L (.inl a :: st) h := by
  cases cnd with
  | eq => exact pb_Ex.if_eq hi ha (fun z => absurd z hc) (fun _ => kk)
  | ne => exact pb_Ex.if_ne hi ha (fun z => absurd z hc) (fun _ => kk)
  | lt => exact pb_Ex.if_lt hi ha (fun z => absurd z hc) (fun _ => kk)
  | ge => exact pb_Ex.if_ge hi ha (fun z => absurd z hc) (fun _ => kk)
  | gt => exact pb_Ex.if_gt hi ha (fun z => absurd z hc) (fun _ => kk)
  | le => exact pb_Ex.if_le hi ha (fun z => absurd z hc) (fun _ => kk)
theorem pb_Ex.ifnull {o : Int} {nx tg : Nat} {r : Option Nat} (hi : pb_ig (pb_tb M) pc = some (.ifnull o, nx, tg)) (kt : r = none → pb_Ex G M n C S Q k u tg L st h) (kf : ∀ a, r = some a → pb_Ex G M n C S Q k u nx L st h) : pb_Ex G M n C S Q k u pc L (.inr (.inr (.inr r)) :: st) h := by
  intro p e R s m args below meth c X H locs ls hR hO hL hl hn
  have X' := X
  obtain ⟨hx, hb, -, -, -, -, -, -, -, -, -, -, hT, -⟩ := X
  obtain ⟨hd, rfl, hj⟩ := pb_ig_ok hT hi rfl
  cases r with
  | none => exact lv_ifnullN hx hb hd (of_decide_eq_true hj) (kt rfl p e R s m args below meth c X' H locs ls hR hO hL hl hn)
  | some a => exact lv_ifnull hx hb hd (kf a rfl p e R s m args below meth c X' H locs ls hR hO hL hl hn)
theorem pb_Ex.ifnonnull {o : Int} {nx tg : Nat} {r : Option Nat} (hi : pb_ig (pb_tb M) pc = some (.ifnonnull o, nx, tg)) (kt : ∀ a, r = some a → pb_Ex G M n C S Q k u tg L st h) (kf : r = none → pb_Ex G M n C S Q k u nx L st h) : pb_Ex G M n C S Q k u pc L (.inr (.inr (.inr r)) :: st) h := by
  intro p e R s m args below meth c X H locs ls hR hO hL hl hn
  have X' := X
  obtain ⟨hx, hb, -, -, -, -, -, -, -, -, -, -, hT, -⟩ := X
  obtain ⟨hd, rfl, hj⟩ := pb_ig_ok hT hi rfl
  cases r with
  | none => exact lv_ifnonnullN hx hb hd (kf rfl p e R s m args below meth c X' H locs ls hR hO hL hl hn)
  | some a => exact lv_ifnonnull hx hb hd (of_decide_eq_true hj) (kt a rfl p e R s m args below meth c X' H locs ls hR hO hL hl hn)
theorem pb_Ex.acmp_ne {o : Int} {nx tg : Nat} {x y : Option Nat} (hi : pb_ig (pb_tb M) pc = some (.if_acmp .ne o, nx, tg)) (kt : x ≠ y → pb_Ex G M n C S Q k u tg L st h) (kf : x = y → pb_Ex G M n C S Q k u nx L st h) : pb_Ex G M n C S Q k u pc L (.inr (.inr (.inr y)) :: .inr (.inr (.inr x)) :: st) h := by
  intro p e R s m args below meth c X H locs ls hR hO hL hl hn
  have X' := X
  obtain ⟨hx, hb, -, -, -, -, -, -, -, -, -, -, hT, -⟩ := X
  obtain ⟨hd, rfl, hj⟩ := pb_ig_ok hT hi rfl
  exact lv_acmp_ne hx hb hd (of_decide_eq_true hj) (fun hc => kt hc p e R s m args below meth c X' H locs ls hR hO hL hl hn) (fun hc => kf hc p e R s m args below meth c X' H locs ls hR hO hL hl hn)
theorem pb_Ex.acmp_eq {o : Int} {nx tg : Nat} {x y : Option Nat} (hi : pb_ig (pb_tb M) pc = some (.if_acmp .eq o, nx, tg)) (kt : x = y → pb_Ex G M n C S Q k u tg L st h) (kf : x ≠ y → pb_Ex G M n C S Q k u nx L st h) : pb_Ex G M n C S Q k u pc L (.inr (.inr (.inr y)) :: .inr (.inr (.inr x)) :: st) h := by
  intro p e R s m args below meth c X H locs ls hR hO hL hl hn
  have X' := X
  obtain ⟨hx, hb, -, -, -, -, -, -, -, -, -, -, hT, -⟩ := X
  obtain ⟨hd, rfl, hj⟩ := pb_ig_ok hT hi rfl
  exact lv_acmp_eq hx hb hd (of_decide_eq_true hj) (fun hc => kt hc p e R s m args below meth c X' H locs ls hR hO hL hl hn) (fun hc => kf hc p e R s m args below meth c X' H locs ls hR hO hL hl hn)
/-! ENDS -/
theorem pb_Ex.iret {nx tg : Nat} {z : Int} (hi : pb_ig (pb_tb M) pc = some (.ireturn, nx, tg)) (hret : M.2.2.2.2.1 = some .int) (hk : k ≤ C) (hu : u ≤ S) (hq : Q (.inl (some (.inl z))) h) : pb_Ex G M n C S Q k u pc L [.inl z] h := by
  intro p e R s m args below meth c X H locs ls hR hO hL hl hn
  obtain ⟨hx, hb, hml, hrt, hlk, hnm, hown, hts, hHT, hSF, hAl, hRm, hT, hsz⟩ := X
  obtain ⟨hd, rfl, hj⟩ := pb_ig_ok hT hi rfl
  refine vx_ret (W.widen hk hu ?_)
  exact W.iret (v := pb_I z) hx hb (hrt.trans hret) (fun t ht hW => ⟨some (.inl z), h, rfl, hq, by rw [ht]; exact hR, by rw [ht]; exact hO⟩) hL hd
theorem pb_Ex.zret {nx tg : Nat} {z : Int} {ty : FieldType} (hi : pb_ig (pb_tb M) pc = some (.ireturn, nx, tg)) (hret : M.2.2.2.2.1 = some ty) (hn : narrow ty (.int (pb_I z)) = .int (pb_I z)) (hk : k ≤ C) (hu : u ≤ S) (hq : Q (.inl (some (.inl z))) h) : pb_Ex G M n C S Q k u pc L [.inl z] h := by
  intro p e R s m args below meth c X H locs ls hR hO hL hl hn9
  obtain ⟨hx, hb, hml, hrt, hlk, hnm, hown, hts, hHT, hSF, hAl, hRm, hT, hsz⟩ := X
  obtain ⟨hd, rfl, hj⟩ := pb_ig_ok hT hi rfl
  refine vx_ret (W.widen hk hu ?_)
  exact W.zret (v := pb_I z) hx hb (hrt.trans hret) hn (fun t ht hW => ⟨some (.inl z), h, rfl, hq, by rw [ht]; exact hR, by rw [ht]; exact hO⟩) hL hd
theorem pb_Ex.vret {nx tg : Nat} (hi : pb_ig (pb_tb M) pc = some (.return_, nx, tg)) (hret : M.2.2.2.2.1 = none) (hk : k ≤ C) (hu : u ≤ S) (hq : Q (.inl none) h) : pb_Ex G M n C S Q k u pc L [] h := by
  intro p e R s m args below meth c X H locs ls hR hO hL hl hn
  obtain ⟨hx, hb, hml, hrt, hlk, hnm, hown, hts, hHT, hSF, hAl, hRm, hT, hsz⟩ := X
  obtain ⟨hd, rfl, hj⟩ := pb_ig_ok hT hi rfl
  refine vx_ret (W.widen hk hu ?_)
  exact W.vret hx hb (hrt.trans hret) (fun t ht hW => ⟨none, h, rfl, hq, by rw [ht]; exact hR, by rw [ht]; exact hO⟩) hL hd
end ROWS
