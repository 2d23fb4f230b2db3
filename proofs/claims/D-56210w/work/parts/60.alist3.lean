set_option maxRecDepth 100000
/-! Object.equals, by its bytes -/
theorem dJ27_equals_0 : decode cJ27_equals 0 = .ok (.aload_n 0, 1) := by decide +kernel
theorem dJ27_equals_1 : decode cJ27_equals 1 = .ok (.aload_n 1, 1) := by decide +kernel
theorem dJ27_equals_2 : decode cJ27_equals 2 = .ok (.if_acmp .ne 7, 3) := by decide +kernel
theorem dJ27_equals_5 : decode cJ27_equals 5 = .ok (.iconst 1, 1) := by decide +kernel
theorem dJ27_equals_6 : decode cJ27_equals 6 = .ok (.goto 4, 3) := by decide +kernel
theorem dJ27_equals_9 : decode cJ27_equals 9 = .ok (.iconst 0, 1) := by decide +kernel
theorem dJ27_equals_10 : decode cJ27_equals 10 = .ok (.ireturn, 1) := by decide +kernel
def tJ27_equals : pb_T := [(0, .aload_n 0, 1, 0), (1, .aload_n 1, 2, 0), (2, .if_acmp .ne 7, 5, 9), (5, .iconst 1, 6, 0), (6, .goto 4, 9, 10), (9, .iconst 0, 10, 0), (10, .ireturn, 11, 0)]
theorem tJ27_equals_ok : pb_Tok cJ27_equals tJ27_equals := pb_Tok.cons dJ27_equals_0 rfl (pb_Tok.cons dJ27_equals_1 rfl (pb_Tok.cons dJ27_equals_2 rfl (pb_Tok.cons dJ27_equals_5 rfl (pb_Tok.cons dJ27_equals_6 rfl (pb_Tok.cons dJ27_equals_9 rfl (pb_Tok.cons dJ27_equals_10 rfl pb_Tok.nil))))))
def mJ27_equals : pb_M := (47, yJ27_equals, cJ27_equals, 2, some .boolean, none, tJ27_equals)
/-- a method of a class that the machine has entries for, itself without one -/
theorem vx_ofWF {l : Launch} {y : MethodName} {ws ws' : List Cond} {rm : Room} {Pc : Array Value → State → Prop} {Qc : Array Value → State → Outcome → State → Prop} {XC : String → Addr → State → State → Prop} {mc ms : Nat} {free : Addr → Prop} {cc : ByteArray} {maxL : Nat} {ret : Option FieldType}
    (hy : plainFor y = true) (hw : ws = Cond.code y cc maxL ret :: ws')
    (body : ∀ p e s m args below meth c s₁, BodyLoose p l y (headSpec ws rm) cc maxL ret e s m args below meth c s₁ → c.maxLocals = maxL → (∀ x ∈ c.exceptionTable.toList, False) → Pc args s →
      W p l e (headSpec ws rm).room s m args below meth c s.heap [] 0 0 (vx_MQ below Qc XC args s mc ms free) (entryFrame m args maxL)) : vx_Met l y ws rm Pc Qc XC mc ms free := by
  refine MetFree.of_bodySF (code := cc) (maxLocals := maxL) (ret := ret) hy ?_ ?_
  · intro args s m h hn
    obtain ⟨meth, c, h1, h2, h3, h4, h5, h6, -, -⟩ := Cond.code_spec hn (atoms_spec (ws := ws) h _ (by rw [hw]; exact List.mem_cons_self))
    exact ⟨meth, c, h1, h2, h3, h4, h5, h6⟩
  · intro p e s m args below meth c s₁ B hml hP _
    have hh0 : s₁.heap = s.heap := by rw [B.state]; rfl
    have ht : ∀ x ∈ c.exceptionTable.toList, False := by
      obtain ⟨meth9, c9, h1, h2, -, -, -, -, h7, -⟩ := Cond.code_spec B.named (atoms_spec (ws := ws) B.pre _ (by rw [hw]; exact List.mem_cons_self))
      cases Option.some.inj (h1.symm.trans B.method)
      cases Option.some.inj (h2.symm.trans (Stand.of_body B).code)
      intro x hx
      rw [Array.isEmpty_iff.mp h7] at hx
      cases hx
    obtain ⟨t, a1, o, b1, b2, b3⟩ := body p e s m args below meth c s₁ B hml ht hP s₁ hh0 (Stand.of_body B)
    exact ⟨t, o, a1, b1, b2, b3⟩
theorem pb_Ctr.ofF {G : pb_G} {M : pb_M} {n C S : Nat} {Q : pb_O → pb_H → Prop} {a : List pb_V} {h : pb_H} {L0 : List (Option pb_V)} (hp : plainFor M.2.1 = true) (hcls : M.2.1.cls = pb_cn M.1) (hh : M.2.2.2.2.2.1 = none) (hT : pb_Tok (pb_cd M) (pb_tb M)) (hL0 : pb_ent a (pb_ml M) some = some L0) (kk : pb_Ex G M n C S Q 0 0 0 L0 [] h) : pb_Ctr G M n C S a h Q := by
  have hw : pb_ws M = Cond.code M.2.1 M.2.2.1 M.2.2.2.1 M.2.2.2.2.1 :: lw_all := by unfold pb_ws; rw [hh]
  refine vx_ofWF (cc := M.2.2.1) (maxL := M.2.2.2.1) (ret := M.2.2.2.2.1) hp hw ?_
  intro p e s m args below meth c s₁ B hml ht hP
  obtain ⟨rfl, hSF, hAl, hR, hO, hWm⟩ := hP
  have hts := atoms_spec (ws := pb_ws M) B.pre
  rw [hw] at hts
  have hts : ∀ w ∈ lw_all, w.before _ s = true := fun w h => hts w (List.mem_cons_of_mem _ h)
  have hown : s.vm.findClass (pb_cn M.1) = some m.cls := by rw [← hcls]; exact findClass_of_methodNamed B.named
  have hin : meth.name = M.2.1.name := (name_of_methodNamed B.named B.method).1
  obtain ⟨h1, h2⟩ := pb_entry hL0
  have hx : pb_Cx G M n C S p (pb_room n C S) s m (a.map pb_cv).toArray meth c := ⟨B.exec, B.bytes, hml, B.returns, B.notSynchronized, hin, hown, hts, by unfold pb_HT; rw [hh]; exact ht, hSF, hAl, ⟨Nat.le_refl _, Nat.le_refl _, Nat.le_refl _, Nat.le_refl _⟩, hT, by rw [hR.1]; exact hR.2.1, hWm⟩
  have := kk p e (pb_room n C S) s m (a.map pb_cv).toArray below meth c hx s.heap [] _ hR hO (fun _ h => by cases h) h2 (Nat.le_of_eq h1)
  rw [lg_entry_eq]
  exact this
section ALIST3
variable {G : pb_G} {K : co_K} {h : pb_H} {a e m : Nat} {g : Nat → Nat}
theorem jo_equals (x y : Nat) : pb_Ctr G mJ27_equals 0 0 0 [pb_r x, pb_r y] h (pb_P (some (pb_i (if x = y then 1 else 0))) h) := by
  refine pb_Ctr.ofF (by decide +kernel) rfl rfl tJ27_equals_ok rfl ?_
  (try refine pb_Ex.run rfl ?_)
  refine pb_Ex.acmp_ne rfl (fun c => ?_) (fun c => ?_)
  · rw [if_neg (fun z => c (by rw [z]))]
    refine pb_Ex.run rfl ?_
    refine pb_Ex.zret (ty := .boolean) rfl rfl (pb_nb (Or.inl rfl)).1 (by omega) (by omega) (⟨rfl, rfl⟩)
  · rw [if_pos (Option.some.inj c)]
    refine pb_Ex.run rfl ?_
    refine pb_Ex.zret (ty := .boolean) rfl rfl (pb_nb (Or.inr rfl)).1 (by omega) (by omega) (⟨rfl, rfl⟩)
/-- what is left behind a replacement, a removal -/
def al_St (K : co_K) (h : pb_H) (a e m : Nat) (g : Nat → Nat) (h' : pb_H) : Prop := al_W K h' a e m g ∧ h'.1 = h.1 ∧ e ≠ co_E K ∧ ∀ b, b ≠ a → b ≠ e → h'.2 b = h.2 b
theorem ja_set {x ci : Nat} {fs : List pb_V} (hW : al_W K h a e m g) (j : Nat) (hj : j < m) (hx : h.2 x = some (pb_ob ci fs)) (hci : ci ≠ 12) : pb_Ctr G mJ2_set 2 0 0 [pb_r a, pb_i j, pb_r x] h (fun oc h' => oc = .inl (some (pb_r (g j))) ∧ al_St K h a e m (va_up g j x) h') := by
  have hW' := hW
  obtain ⟨mc, cap, q, ho, he, hn, hc, hE, hq⟩ := hW
  have hxe : x ≠ e := fun z => by subst z; rw [hx] at he; cases he
  have hae : a ≠ e := fun z => by subst z; rw [ho] at he; cases he
  refine pb_Ctr.of rfl rfl rfl tJ2_set_ok rfl ?_
  (try refine pb_Ex.run rfl ?_)
  refine pb_Ex.getf rfl rfl ho rfl ?_
  (try refine pb_Ex.run rfl ?_)
  refine pb_Ex.pS rfl rfl rfl rfl (ja_chk2 j m (by omega) (by omega) (by omega)) (by omega) (by omega) (by omega) ?_
  (try refine pb_Ex.run rfl ?_)
  refine pb_Ex.pV rfl rfl rfl rfl (ho) rfl rfl (ja_el hW' j hj) (by omega) (by omega) (by omega) ?_
  (try refine pb_Ex.run rfl ?_)
  refine pb_Ex.getf rfl rfl ho rfl ?_
  (try refine pb_Ex.run rfl ?_)
  refine pb_Ex.aast j rfl he rfl (by omega) hx ?_
  refine pb_Ex.run rfl ?_
  refine pb_Ex.aret rfl rfl (by first | exact Or.inl ⟨_, rfl⟩ | exact Or.inr ⟨_, rfl⟩) (by omega) (by omega) (⟨rfl, ⟨mc, cap, va_up q j (some x), by rw [pb_set_ne hae]; exact ho, pb_set_same, hn, hc, hE, fun i hi => ?_⟩, rfl, fun z => by have := hE.mpr z; omega, fun b _ h2 => pb_set_ne h2⟩)
  obtain ⟨k1, ci', fs', k2, k3⟩ := hq i hi
  by_cases hij : i = j
  · subst hij
    rw [va_upS, va_upS]
    exact ⟨rfl, ci, fs, hci, by rw [pb_set_ne hxe]; exact hx⟩
  · rw [va_upN _ _ hij, va_upN _ _ hij]
    exact ⟨k1, ci', fs', k2, by rw [pb_set_ne (fun z => by rw [z, he] at k3; cases k3)]; exact k3⟩
theorem ja_fastRemove (hW : al_W K h a e m g) (he0 : ∀ cap q, h.2 e = some (pb_aR cap q) → ∃ mc : Int, True) (p : Nat) (hp : p < m) : pb_Ctr G mJ2_fastRemove 2 0 0 [pb_r a, pb_r e, pb_i p] h (fun oc h' => oc = .inl none ∧ al_St K h a e (m - 1) (fun j => if p ≤ j then g (j + 1) else g j) h') := by
  obtain ⟨mc, cap, q, ho, he, hn, hc, hE, hq⟩ := hW
  have hae : a ≠ e := fun z => by subst z; rw [ho] at he; cases he
  have hEe : e ≠ co_E K := fun z => by have := hE.mpr z; omega
  refine pb_Ctr.of rfl rfl rfl tJ2_fastRemove_ok rfl ?_
  (try refine pb_Ex.run rfl ?_)
  refine pb_Ex.getf rfl rfl ho rfl ?_
  (try refine pb_Ex.run rfl ?_)
  refine pb_Ex.putf rfl rfl (ho) rfl rfl (by first | trivial | exact Or.inl rfl | exact Or.inr rfl | (show _ ∨ _; omega) | (show _ ∧ _; omega)) ?_
  (try refine pb_Ex.run rfl ?_)
  have ho2 : (pb_set h a (pb_ob 12 ([pb_i mc, pb_r e, pb_i m].set 0 (pb_i (mc + 1))))).2 a = some (pb_ob 12 [pb_i (mc + 1), pb_r e, pb_i m]) := pb_set_same
  have he2 : (pb_set h a (pb_ob 12 ([pb_i mc, pb_r e, pb_i m].set 0 (pb_i (mc + 1))))).2 e = some (pb_aR cap q) := by rw [pb_set_ne (Ne.symm hae)]; exact he
  have hq2 : ∀ j, j < m → ∃ ci fs, ci ≠ 12 ∧ (pb_set h a (pb_ob 12 ([pb_i mc, pb_r e, pb_i m].set 0 (pb_i (mc + 1))))).2 (g j) = some (pb_ob ci fs) := fun j hj => by
    obtain ⟨k1, ci', fs', k2, k3⟩ := hq j hj
    exact ⟨ci', fs', k2, by rw [pb_set_ne (fun z => by rw [z, ho] at k3; cases k3; exact k2 rfl)]; exact k3⟩
  have hfr : ∀ b, b ≠ a → (pb_set h a (pb_ob 12 ([pb_i mc, pb_r e, pb_i m].set 0 (pb_i (mc + 1))))).2 b = h.2 b := fun b hb => pb_set_ne hb
  have hz : (pb_set h a (pb_ob 12 ([pb_i mc, pb_r e, pb_i m].set 0 (pb_i (mc + 1))))).1 = h.1 := rfl
  generalize pb_set h a (pb_ob 12 ([pb_i mc, pb_r e, pb_i m].set 0 (pb_i (mc + 1)))) = h1 at ho2 he2 hq2 hfr hz ⊢
  refine pb_Ex.getf rfl rfl ho2 rfl ?_
  (try refine pb_Ex.run rfl ?_)
  have tail : ∀ (h2 : pb_H) (q2 : Nat → Option Nat), h2.2 a = some (pb_ob 12 [pb_i (mc + 1), pb_r e, pb_i m]) → h2.2 e = some (pb_aR cap q2) → (∀ j, j < m → ∃ ci fs, ci ≠ 12 ∧ h2.2 (g j) = some (pb_ob ci fs)) → (∀ b, b ≠ a → b ≠ e → h2.2 b = h.2 b) → h2.1 = h.1 → (∀ j, j < m - 1 → q2 j = some (if p ≤ j then g (j + 1) else g j)) → pb_Ex G mJ2_fastRemove 2 0 0 (fun oc h' => oc = .inl none ∧ al_St K h a e (m - 1) (fun j => if p ≤ j then g (j + 1) else g j) h') 0 0 34 [some (pb_r a), some (pb_r e), some (pb_i p), some (pb_i ((m : Int) - 1))] [] h2 := by
    intro h2 q2 k1 k2 k3 k4 k5 k6
    refine pb_Ex.run rfl ?_
    refine pb_Ex.putf rfl rfl (k1) rfl rfl (by first | trivial | exact Or.inl rfl | exact Or.inr rfl | (show _ ∨ _; omega) | (show _ ∧ _; omega)) ?_
    (try refine pb_Ex.run rfl ?_)
    have k2' : (pb_set h2 a (pb_ob 12 ([pb_i (mc + 1), pb_r e, pb_i m].set 2 (pb_i ((m : Int) - 1))))).2 e = some (pb_aR cap q2) := by rw [pb_set_ne (Ne.symm hae)]; exact k2
    refine pb_Ex.aastN (m - 1) rfl k2' (by omega) (by omega) ?_
    refine pb_Ex.vret rfl rfl (by omega) (by omega) ⟨rfl, ⟨mc + 1, cap, va_up q2 (m - 1) none, ?_, pb_set_same, by omega, hc, hE, fun j hj => ?_⟩, k5, hEe, fun b b1 b2 => by rw [pb_set_ne b2, pb_set_ne b1]; exact k4 b b1 b2⟩
    · rw [pb_set_ne hae, pb_set_same, show ((m : Int) - 1) = ((m - 1 : Nat) : Int) by omega]
      rfl
    · rw [va_upN _ _ (by omega), k6 j hj]
      have : ∃ j', j' < m ∧ (if p ≤ j then g (j + 1) else g j) = g j' := by
        by_cases c : p ≤ j
        · exact ⟨j + 1, by omega, by rw [if_pos c]⟩
        · exact ⟨j, by omega, by rw [if_neg c]⟩
      obtain ⟨j', j1, j2⟩ := this
      obtain ⟨ci', fs', x1, x2⟩ := k3 j' j1
      have x3 : g j' ≠ a := fun z => by rw [z, k1] at x2; cases x2; exact x1 rfl
      have x4 : g j' ≠ e := fun z => by rw [z, k2] at x2; cases x2
      show some (if p ≤ j then g (j + 1) else g j) = some (if p ≤ j then g (j + 1) else g j) ∧ ∃ ci fs, ci ≠ 12 ∧ (pb_set _ e _).2 (if p ≤ j then g (j + 1) else g j) = some (pb_ob ci fs)
      rw [j2]
      exact ⟨rfl, ci', fs', x1, by rw [pb_set_ne x4, pb_set_ne x3]; exact x2⟩
  by_cases hlast : p + 1 = m
  · refine pb_Ex.icmpT rfl (by omega) (by omega) (by first | decide | (simp only [pb_cmp]; omega) | simp [pb_cmp]) ?_
    exact tail h1 q ho2 he2 hq2 (fun b b1 b2 => hfr b b1) hz (fun j hj => by rw [if_neg (by omega)]; exact (hq j (by omega)).1)
  · refine pb_Ex.icmpF rfl (by omega) (by omega) (by first | decide | (simp only [pb_cmp]; omega) | simp [pb_cmp]) ?_
    (try refine pb_Ex.run rfl ?_)
    have hEc : 0 < cap := by omega
    refine pb_Ex.acpR (p + 1) p (m - 1 - p) rfl rfl he2 he2 (by omega) rfl (by omega) (by omega) (by omega) hEc (fun i hi y hy => ?_) rfl (by omega) ?_
    · rw [(hq (p + 1 + i) (by omega)).1] at hy
      cases hy
      obtain ⟨ci', fs', x1, x2⟩ := hq2 (p + 1 + i) (by omega)
      exact ⟨ci', fs', x2⟩
    · refine tail _ _ (by rw [pb_set_ne hae]; exact ho2) pb_set_same (fun j hj => ?_) (fun b b1 b2 => by rw [pb_set_ne b2]; exact hfr b b1) hz (fun j hj => ?_)
      · obtain ⟨ci', fs', x1, x2⟩ := hq2 j hj
        exact ⟨ci', fs', x1, by rw [pb_set_ne (fun z => by rw [z, he2] at x2; cases x2)]; exact x2⟩
      · unfold va_cpy
        by_cases c : p ≤ j
        · rw [if_pos (by omega), if_pos c, (hq _ (by omega)).1]
          congr 2
          omega
        · rw [if_neg (by omega), if_neg c]
          exact (hq j (by omega)).1
/-- an Order is taken out -/
theorem ja_remove {fs : List pb_V} (hW : al_W K h a e m g) (p : Nat) (hp : p < m) (hx : h.2 (g p) = some (pb_ob 8 fs)) (hd : ∀ j, j < p → g j ≠ g p) : pb_Ctr G mJ2_remove 3 0 0 [pb_r a, pb_r (g p)] h (fun oc h' => oc = .inl (some (pb_i 1)) ∧ al_St K h a e (m - 1) (fun j => if p ≤ j then g (j + 1) else g j) h') := by
  have hW' := hW
  obtain ⟨mc, cap, q, ho, he, hn, hc, hE, hq⟩ := hW
  refine pb_Ctr.of rfl rfl rfl tJ2_remove_ok rfl ?_
  (try refine pb_Ex.run rfl ?_)
  refine pb_Ex.getf rfl rfl ho rfl ?_
  (try refine pb_Ex.run rfl ?_)
  refine pb_Ex.getf rfl rfl ho rfl ?_
  (try refine pb_Ex.run rfl ?_)
  refine pb_Ex.ifnonnull rfl (fun a9 e9 => ?_) (fun e => by cases e)
  have loop : ∀ (d j : Nat) (z : Int), j + d = p → z = j → pb_Ex G mJ2_remove 3 0 0 (fun oc h' => oc = .inl (some (pb_i 1)) ∧ al_St K h a e (m - 1) (fun j => if p ≤ j then g (j + 1) else g j) h') 0 0 39 [some (pb_r a), some (pb_r (g p)), some (pb_r e), some (pb_i m), some (pb_i z)] [] h := by
    intro d
    induction d with
    | zero =>
      intro j z hj hz
      have ej : j = p := by omega
      subst ej
      subst hz
      refine pb_Ex.run rfl ?_
      refine pb_Ex.icmpF rfl (by omega) (by omega) (by first | decide | (simp only [pb_cmp]; omega) | simp [pb_cmp]) ?_
      (try refine pb_Ex.run rfl ?_)
      refine pb_Ex.aat (j) rfl (he) (by omega) (by omega) ?_
      (try refine pb_Ex.run rfl ?_)
      rw [(hq j hp).1]
      refine pb_Ex.callVC (np := 1) (M2 := mJ27_equals) "PuddleBoatyard$Order" rfl q904 q905 (Or.inl q913) ⟨rfl, ⟨by decide +kernel, by decide +kernel⟩, by decide +kernel, by decide, q941, q2413⟩ rfl rfl (pb_rc.of hx (fun r hr => by cases hr; rfl)) (jo_equals (g j) (g j)) ⟨by omega, by omega, by omega⟩ (fun v h1 hq1 => ?_) (fun E q9 h1 hq1 => by cases hq1.1)
      obtain ⟨e1, e2⟩ := hq1
      cases e1
      subst e2
      rw [if_pos rfl]
      refine pb_Ex.ifF rfl (by omega) (by first | decide | (simp only [pb_cmp]; omega) | simp [pb_cmp]) ?_
      (try refine pb_Ex.run rfl ?_)
      refine pb_Ex.cV rfl rfl rfl rfl ho rfl rfl (ja_fastRemove hW' (fun _ _ _ => ⟨0, trivial⟩) j hp) ⟨by omega, by omega, by omega⟩ (fun v h2 hq2 => ?_) (fun E q9 h1 hq1 => by cases hq1.1)
      obtain ⟨e3, e4⟩ := hq2
      cases e3
      (try refine pb_Ex.run rfl ?_)
      refine pb_Ex.zret (ty := .boolean) rfl rfl (pb_nb (Or.inr rfl)).1 (by omega) (by omega) (⟨rfl, e4⟩)
    | succ d ih =>
      intro j z hj hz
      subst hz
      refine pb_Ex.run rfl ?_
      refine pb_Ex.icmpF rfl (by omega) (by omega) (by first | decide | (simp only [pb_cmp]; omega) | simp [pb_cmp]) ?_
      (try refine pb_Ex.run rfl ?_)
      refine pb_Ex.aat (j) rfl (he) (by omega) (by omega) ?_
      (try refine pb_Ex.run rfl ?_)
      rw [(hq j (by omega)).1]
      refine pb_Ex.callVC (np := 1) (M2 := mJ27_equals) "PuddleBoatyard$Order" rfl q904 q905 (Or.inl q913) ⟨rfl, ⟨by decide +kernel, by decide +kernel⟩, by decide +kernel, by decide, q941, q2413⟩ rfl rfl (pb_rc.of hx (fun r hr => by cases hr; rfl)) (jo_equals (g p) (g j)) ⟨by omega, by omega, by omega⟩ (fun v h1 hq1 => ?_) (fun E q9 h1 hq1 => by cases hq1.1)
      obtain ⟨e1, e2⟩ := hq1
      cases e1
      subst e2
      rw [if_neg (fun z => hd j (by omega) z.symm)]
      refine pb_Ex.ifT rfl (by omega) (by first | decide | (simp only [pb_cmp]; omega) | simp [pb_cmp]) ?_
      (try refine pb_Ex.run rfl ?_)
      exact ih (j + 1) _ (by omega) (by omega)
  exact loop p 0 0 (by omega) rfl
end ALIST3
