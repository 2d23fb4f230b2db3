set_option maxRecDepth 100000
/-! THE MODEL'S CELLS: A: the arrays' addresses, x: the numbers, F: the arrays' contents; all by the field's number -/
def mo_fl (A : Nat → Nat) (x : Nat → Int) : List pb_V := [pb_r (A 0), pb_r (A 1), pb_r (A 2), pb_i (x 3), pb_r (A 4), pb_i (x 5), pb_i (x 6), pb_i (x 7), pb_i (x 8), pb_i (x 9), pb_r (A 10), pb_i (x 11), pb_r (A 12), pb_i (x 13), pb_j (x 14), pb_r (A 15), pb_i (x 16), pb_r (A 17), pb_r (A 18), pb_r (A 19), pb_i (x 20), pb_i (x 21), pb_i (x 22), pb_i (x 23)]
def mo_ix : List Nat := [0, 1, 2, 4, 10, 12, 15, 17, 18, 19]
def mo_W (h : pb_H) (o : Nat) (A : Nat → Nat) (x : Nat → Int) (F : Nat → Nat → Int) : Prop :=
  h.2 o = some (pb_ob 3 (mo_fl A x)) ∧ h.2 (A 0) = some (pb_aI 0 213 (F 0)) ∧ h.2 (A 1) = some (pb_aI 0 213 (F 1)) ∧ h.2 (A 2) = some (pb_aI 0 213 (F 2)) ∧ h.2 (A 4) = some (pb_aI 0 1704 (F 4)) ∧ h.2 (A 10) = some (pb_aI 0 60 (F 10)) ∧ h.2 (A 12) = some (pb_aI 0 8 (F 12)) ∧ h.2 (A 15) = some (pb_aI 0 100 (F 15)) ∧ h.2 (A 17) = some (pb_aI 5 66 (F 17)) ∧ h.2 (A 18) = some (pb_aI 0 12 (F 18)) ∧ h.2 (A 19) = some (pb_aI 0 244 (F 19)) ∧
  (∀ i ∈ mo_ix, ∀ j ∈ mo_ix, A i = A j → i = j)
/-- nothing but the model's cells has changed -/
def mo_Fr (o : Nat) (A : Nat → Nat) (h h' : pb_H) : Prop := h'.1 = h.1 ∧ ∀ b, b ≠ o → (∀ i ∈ mo_ix, b ≠ A i) → h'.2 b = h.2 b
theorem mo_Fr.rf {o : Nat} {A : Nat → Nat} {h : pb_H} : mo_Fr o A h h := ⟨rfl, fun _ _ _ => rfl⟩
theorem mo_Fr.tr {o : Nat} {A : Nat → Nat} {h h' h'' : pb_H} (a : mo_Fr o A h h') (b : mo_Fr o A h' h'') : mo_Fr o A h h'' := ⟨b.1.trans a.1, fun q h1 h2 => (b.2 q h1 h2).trans (a.2 q h1 h2)⟩
/-- the sizes and kinds of the arrays -/
def mo_sz (i : Nat) : Nat × Nat := match i with
  | 0 => (0, 213)
  | 1 => (0, 213)
  | 2 => (0, 213)
  | 4 => (0, 1704)
  | 10 => (0, 60)
  | 12 => (0, 8)
  | 15 => (0, 100)
  | 17 => (5, 66)
  | 18 => (0, 12)
  | _ => (0, 244)
theorem mo_W.arr {h : pb_H} {o : Nat} {A : Nat → Nat} {x : Nat → Int} {F : Nat → Nat → Int} (hW : mo_W h o A x F) : ∀ i ∈ mo_ix, h.2 (A i) = some (pb_aI (mo_sz i).1 (mo_sz i).2 (F i)) := by
  obtain ⟨h0, h1, h2, h3, h4, h5, h6, h7, h8, h9, h10, hd⟩ := hW
  intro i hi
  simp only [mo_ix, List.mem_cons, List.not_mem_nil, or_false] at hi
  rcases hi with rfl | rfl | rfl | rfl | rfl | rfl | rfl | rfl | rfl | rfl
  · exact h1
  · exact h2
  · exact h3
  · exact h4
  · exact h5
  · exact h6
  · exact h7
  · exact h8
  · exact h9
  · exact h10
theorem mo_W.of {h : pb_H} {o : Nat} {A : Nat → Nat} {x : Nat → Int} {F : Nat → Nat → Int} (ho : h.2 o = some (pb_ob 3 (mo_fl A x))) (ha : ∀ i ∈ mo_ix, h.2 (A i) = some (pb_aI (mo_sz i).1 (mo_sz i).2 (F i))) (hd : ∀ i ∈ mo_ix, ∀ j ∈ mo_ix, A i = A j → i = j) : mo_W h o A x F := by
  refine ⟨ho, ha 0 ?_, ha 1 ?_, ha 2 ?_, ha 4 ?_, ha 10 ?_, ha 12 ?_, ha 15 ?_, ha 17 ?_, ha 18 ?_, ha 19 ?_, hd⟩ <;> decide
theorem mo_W.oA {h : pb_H} {o : Nat} {A : Nat → Nat} {x : Nat → Int} {F : Nat → Nat → Int} (hW : mo_W h o A x F) {i : Nat} (hi : i ∈ mo_ix) : o ≠ A i := by
  intro e
  have h1 := hW.arr i hi
  rw [← e, hW.1] at h1
  cases h1
/-- an array gets new contents -/
theorem mo_W.set {h : pb_H} {o : Nat} {A : Nat → Nat} {x : Nat → Int} {F : Nat → Nat → Int} (hW : mo_W h o A x F) {i : Nat} (hi : i ∈ mo_ix) (g : Nat → Int) : mo_W (pb_set h (A i) (pb_aI (mo_sz i).1 (mo_sz i).2 g)) o A x (va_up F i g) ∧ mo_Fr o A h (pb_set h (A i) (pb_aI (mo_sz i).1 (mo_sz i).2 g)) := by
  refine ⟨mo_W.of ?_ (fun j hj => ?_) hW.2.2.2.2.2.2.2.2.2.2.2, rfl, fun b h1 h2 => pb_set_ne (h2 i hi)⟩
  · rw [pb_set_ne (hW.oA hi)]
    exact hW.1
  · by_cases e : j = i
    · subst e
      rw [pb_set_same]
      simp [va_up]
    · rw [pb_set_ne (fun z => e (hW.2.2.2.2.2.2.2.2.2.2.2 j hj i hi z)), hW.arr j hj]
      simp [va_up, e]
/-- a number is changed -/
theorem mo_W.put {h : pb_H} {o : Nat} {A : Nat → Nat} {x : Nat → Int} {F : Nat → Nat → Int} (hW : mo_W h o A x F) {x' : Nat → Int} {fs : List pb_V} (hfs : fs = mo_fl A x') : mo_W (pb_set h o (pb_ob 3 fs)) o A x' F ∧ mo_Fr o A h (pb_set h o (pb_ob 3 fs)) := by
  subst hfs
  refine ⟨mo_W.of pb_set_same (fun j hj => ?_) hW.2.2.2.2.2.2.2.2.2.2.2, rfl, fun b h1 h2 => pb_set_ne h1⟩
  rw [pb_set_ne (hW.oA hj).symm]
  exact hW.arr j hj
/-- what a method of the model answers, and the model behind it -/
def mo_Q (o : Nat) (A : Nat → Nat) (h : pb_H) (v : Option pb_V) (x : Nat → Int) (F : Nat → Nat → Int) : pb_O → pb_H → Prop := fun oc h' => oc = .inl v ∧ mo_W h' o A x F ∧ mo_Fr o A h h'
section ROWS
variable {G : pb_G} {M M2 : pb_M} {n C S n2 : Nat} {Q Q2 : pb_O → pb_H → Prop} {k u pc : Nat} {L : List (Option pb_V)} {st a rest : List pb_V} {h h0 : pb_H} {o : Nat} {A : Nat → Nat} {x : Nat → Int} {F : Nat → Nat → Int}
/-- reading at a known place -/
theorem pb_Ex.iat {nx tg b N : Nat} {g : Nat → Int} {z : Int} (j : Nat) (hi : pb_ig (pb_tb M) pc = some (.iaload, nx, tg)) (ha : h.2 b = some (pb_aI 0 N g)) (hz : z = (j : Int)) (h1 : j < N) (kk : pb_Ex G M n C S Q k u nx L (pb_i (g j) :: st) h) : pb_Ex G M n C S Q k u pc L (pb_i z :: pb_r b :: st) h := by
  subst hz
  exact pb_Ex.iald hi ha (by omega) (by omega) (by rw [Int.toNat_natCast]; exact kk)
/-- a number of the model is written -/
theorem pb_Ex.mput {nx tg idx kf : Nat} {v : pb_V} {x' : Nat → Int} (hi : pb_ig (pb_tb M) pc = some (.putfield idx, nx, tg)) (hF : pb_lk2 (pb_ft M.1) idx = some (3, kf)) (hW : mo_W h o A x F) (hf : mo_Fr o A h0 h) (hx : (mo_fl A x).set kf v = mo_fl A x') (hfin : pb_nf 3 kf = true) (hv : pb_fit (pb_clty 3 kf) v) (kk : ∀ h', mo_W h' o A x' F → mo_Fr o A h0 h' → pb_Ex G M n C S Q k u nx L st h') : pb_Ex G M n C S Q k u pc L (v :: pb_r o :: st) h := by
  refine pb_Ex.putf hi hF hW.1 rfl hfin hv ?_
  obtain ⟨h1, h2⟩ := hW.put hx
  exact kk _ h1 (hf.tr h2)
/-- an int of one of the model's arrays is written -/
theorem pb_Ex.mst {nx tg : Nat} {z v : Int} (i j : Nat) (hi : pb_ig (pb_tb M) pc = some (.iastore, nx, tg)) (hW : mo_W h o A x F) (hf : mo_Fr o A h0 h) (hm : i ∈ mo_ix) (hk0 : (mo_sz i).1 = 0) (hz : z = (j : Int)) (h1 : j < (mo_sz i).2) (kk : ∀ h', mo_W h' o A x (va_up F i (va_up (F i) j v)) → mo_Fr o A h0 h' → pb_Ex G M n C S Q k u nx L st h') : pb_Ex G M n C S Q k u pc L (pb_i v :: pb_i z :: pb_r (A i) :: st) h := by
  subst hz
  have ha := hW.arr i hm
  rw [hk0] at ha
  refine pb_Ex.iast hi ha (by omega) (by omega) ?_
  obtain ⟨g1, g2⟩ := hW.set hm (va_up (F i) j v)
  rw [hk0] at g1 g2
  rw [Int.toNat_natCast]
  exact kk _ g1 (hf.tr g2)
theorem mo_W.s0 (hW : mo_W h o A x F) : mo_W h o A x (va_up F 0 (F 0)) := by
  have e : va_up F 0 (F 0) = F := by
    funext j
    by_cases h9 : j = 0 <;> simp [va_up, h9]
  rw [e]; exact hW
theorem mo_W.m0 {f : Nat → Int} (hW : mo_W h o A x (va_up F 0 f)) : h.2 (A 0) = some (pb_aI 0 213 f) := hW.2.1
/-- an int of the yard's own array is written -/
theorem pb_Ex.ms0 {nx tg : Nat} {z v : Int} {f : Nat → Int} (j : Nat) (hi : pb_ig (pb_tb M) pc = some (.iastore, nx, tg)) (hW : mo_W h o A x (va_up F 0 f)) (hf : mo_Fr o A h0 h) (hz : z = (j : Int)) (h1 : j < 213) (kk : ∀ h', mo_W h' o A x (va_up F 0 (va_up f j v)) → mo_Fr o A h0 h' → pb_Ex G M n C S Q k u nx L st h') : pb_Ex G M n C S Q k u pc L (pb_i v :: pb_i z :: pb_r (A 0) :: st) h := by
  refine pb_Ex.mst 0 j hi hW hf (by decide) rfl hz h1 (fun h' a b => kk h' ?_ b)
  have e : va_up (va_up F 0 f) 0 (va_up (va_up F 0 f 0) j v) = va_up F 0 (va_up f j v) := by
    funext q
    by_cases h9 : q = 0 <;> simp [va_up, h9]
  rw [e] at a
  exact a
/-- a call of one of the model's own methods -/
theorem pb_Ex.mc {nx tg idx np : Nat} {As : List pb_V} {v : Option pb_V} {x' : Nat → Int} {F' : Nat → Nat → Int} (hi : pb_ig (pb_tb M) pc = some (.invokevirtual idx, nx, tg)) (hl : pb_lk3 (pb_lt M.1) idx = some (1, M2, np)) (hst : pb_take (np + 1) st [] = some (pb_r o :: As, rest)) (hsm : pb_sm rest = true) (hW : mo_W h o A x F) (hf : mo_Fr o A h0 h) (hcl : Nat.beq 4 M2.1 = true) (hcn : M2.2.1.cls = pb_cn M2.1) (hc : pb_Ctr G M2 n2 0 0 (pb_r o :: As) h (mo_Q o A h v x' F')) (hr : n2 < n) (hk9 : k ≤ C) (hu9 : u ≤ S) (kk : ∀ h', mo_W h' o A x' F' → mo_Fr o A h0 h' → pb_Ex G M n C S Q k u nx L (v.toList ++ rest) h') : pb_Ex G M n C S Q k u pc L st h :=
  pb_Ex.cV hi hl hst hsm hW.1 hcl hcn hc ⟨hr, hk9, hu9⟩ (fun v' h' hq => by obtain ⟨e1, e2, e3⟩ := hq; cases e1; exact kk h' e2 (hf.tr e3)) (fun E q h' hq => by cases hq.1)
end ROWS
