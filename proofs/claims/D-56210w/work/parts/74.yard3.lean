set_option maxRecDepth 100000
section YARD3
variable {G : pb_G} {K : co_K} {h : pb_H} {A : Nat → Nat} {f : Nat → Int} {o : Nat}
/-- new Yard() -/
theorem yd_init (hG : co_G G K) (hb : h.2 o = some (pb_ob 1 [pb_0, pb_0, pb_0, pb_0, pb_i 0, pb_i 0, pb_j 0])) : pb_Ctr G mX2_init 4 4 22 [pb_r o] h (fun oc h' => oc = .inl none ∧ h'.1 = h.1 + 4 ∧ h'.2 o = some (pb_ob 1 [pb_r h.1, pb_r (h.1 + 1), pb_r (h.1 + 2), pb_r (h.1 + 3), pb_i 0, pb_i 0, pb_j 0]) ∧ h'.2 h.1 = some (pb_ob 12 [pb_i 0, pb_r (co_E K), pb_i 0]) ∧ h'.2 (h.1 + 1) = some (pb_ob 12 [pb_i 0, pb_r (co_E K), pb_i 0]) ∧ (∃ c, h'.2 (h.1 + 2) = some (pb_aI 0 12 c) ∧ ∀ j : Nat, j < 12 → c j = 4 * min (j : Int) (12 - j)) ∧ (∃ c, h'.2 (h.1 + 3) = some (pb_aI 0 4 c) ∧ ∀ j : Nat, j < 4 → c j = 2 * ((j : Int) + 1)) ∧ ∀ b, b ≠ o → b < h.1 → h'.2 b = h.2 b) := by
  refine pb_Ctr.of rfl rfl rfl tX2_init_ok rfl ?_
  (try refine pb_Ex.run rfl ?_)
  refine pb_Ex.fin (fun hf => ?_)
  have hol := hf _ _ hb
  refine pb_Ex.objI rfl rfl rfl (by omega) ?_
  refine pb_Ex.run rfl ?_
  refine pb_Ex.new 12 3 RJ2 TJ2 [pb_i 0, pb_0, pb_i 0] rfl rfl rfl rfl (fun j hj => by
    have hj : j < 3 := hj
    match j, hj with
    | 0, _ => rfl
    | 1, _ => rfl
    | 2, _ => rfl) (by omega) (by omega) ?_
  refine pb_Ex.run rfl ?_
  refine pb_Ex.cIo rfl rfl rfl rfl (ja_init hG pb_new_same) (by omega) (by omega) (by omega) (fun h1 e1 => ?_)
  obtain ⟨a1, a2, a3⟩ := e1
  have a1 : h1.1 = h.1 + 1 := a1
  have a3 : ∀ b, b ≠ h.1 → h1.2 b = h.2 b := fun b hb => by rw [a3 b hb, pb_new_ne hb]
  have b1 : h1.2 o = some (pb_ob 1 [pb_0, pb_0, pb_0, pb_0, pb_i 0, pb_i 0, pb_j 0]) := by rw [a3 _ (by omega)]; exact hb
  refine pb_Ex.putfF rfl rfl (b1) (Or.inl rfl) (fun r hr => by cases hr; rfl) rfl (by first | trivial | exact Or.inl rfl | exact Or.inr rfl | (show _ ∨ _; omega) | (show _ ∧ _; omega)) ?_
  (try refine pb_Ex.run rfl ?_)
  refine pb_Ex.new 12 3 RJ2 TJ2 [pb_i 0, pb_0, pb_i 0] rfl rfl rfl rfl (fun j hj => by
    have hj : j < 3 := hj
    match j, hj with
    | 0, _ => rfl
    | 1, _ => rfl
    | 2, _ => rfl) (by omega) (by omega) ?_
  refine pb_Ex.run rfl ?_
  generalize hhe : pb_set h1 o (pb_ob 1 ([pb_0, pb_0, pb_0, pb_0, pb_i 0, pb_i 0, pb_j 0].set 0 (pb_r h.1))) = hh
  replace hhe := hhe.symm
  have hs1 : hh.1 = h.1 + 1 := by rw [hhe]; exact a1
  have b2 : hh.2 o = some (pb_ob 1 [pb_r h.1, pb_0, pb_0, pb_0, pb_i 0, pb_i 0, pb_j 0]) := by rw [hhe]; exact pb_set_same
  have b3 : hh.2 h.1 = some (pb_ob 12 [pb_i 0, pb_r (co_E K), pb_i 0]) := by rw [hhe, pb_set_ne (by omega)]; exact a2
  have b4 : ∀ b, b ≠ o → b < h.1 → hh.2 b = h.2 b := fun b c1 c2 => by rw [hhe, pb_set_ne c1]; exact a3 b (by omega)
  refine pb_Ex.cIo rfl rfl rfl rfl (ja_init hG pb_new_same) (by omega) (by omega) (by omega) (fun h2 e2 => ?_)
  obtain ⟨c1, c2, c3⟩ := e2
  have c1 : h2.1 = h.1 + 2 := by rw [c1]; show hh.1 + 1 = _; omega
  rw [hs1] at c2 c3
  rw [hs1]
  have c4 : ∀ b, b < h.1 + 1 → h2.2 b = hh.2 b := fun b hb => by rw [c3 b (by omega), pb_new_ne (by omega)]
  have d1 : h2.2 o = some (pb_ob 1 [pb_r h.1, pb_0, pb_0, pb_0, pb_i 0, pb_i 0, pb_j 0]) := by rw [c4 _ (by omega)]; exact b2
  have d2 : h2.2 h.1 = some (pb_ob 12 [pb_i 0, pb_r (co_E K), pb_i 0]) := by rw [c4 _ (by omega)]; exact b3
  have d3 : ∀ b, b ≠ o → b < h.1 → h2.2 b = h.2 b := fun b x1 x2 => by rw [c4 _ (by omega)]; exact b4 b x1 x2
  refine pb_Ex.putfF rfl rfl (d1) (Or.inl rfl) (fun r hr => by cases hr; rfl) rfl (by first | trivial | exact Or.inl rfl | exact Or.inr rfl | (show _ ∨ _; omega) | (show _ ∧ _; omega)) ?_
  (try refine pb_Ex.run rfl ?_)
  refine pb_Ex.newI 12 rfl rfl (by omega) (by omega) (by omega) ?_
  generalize hhe3 : pb_set h2 o (pb_ob 1 ([pb_r h.1, pb_0, pb_0, pb_0, pb_i 0, pb_i 0, pb_j 0].set 1 (pb_r (h.1 + 1)))) = h3
  replace hhe3 := hhe3.symm
  have hs3 : h3.1 = h.1 + 2 := by rw [hhe3]; exact c1
  have f1 : h3.2 o = some (pb_ob 1 [pb_r h.1, pb_r (h.1 + 1), pb_0, pb_0, pb_i 0, pb_i 0, pb_j 0]) := by rw [hhe3]; exact pb_set_same
  have f2 : h3.2 h.1 = some (pb_ob 12 [pb_i 0, pb_r (co_E K), pb_i 0]) := by rw [hhe3, pb_set_ne (by omega)]; exact d2
  have f3 : h3.2 (h.1 + 1) = some (pb_ob 12 [pb_i 0, pb_r (co_E K), pb_i 0]) := by rw [hhe3, pb_set_ne (by omega)]; exact c2
  have f4 : ∀ b, b ≠ o → b < h.1 → h3.2 b = h.2 b := fun b x1 x2 => by rw [hhe3, pb_set_ne x1]; exact d3 b x1 x2
  have g1 : (pb_new h3 (pb_aI 0 12 (fun _ => 0))).2 o = some (pb_ob 1 [pb_r h.1, pb_r (h.1 + 1), pb_0, pb_0, pb_i 0, pb_i 0, pb_j 0]) := by rw [pb_new_ne (by omega)]; exact f1
  (try refine pb_Ex.run rfl ?_)
  refine pb_Ex.putfF rfl rfl (g1) (Or.inl rfl) (fun r hr => by cases hr; rfl) rfl (by first | trivial | exact Or.inl rfl | exact Or.inr rfl | (show _ ∨ _; omega) | (show _ ∧ _; omega)) ?_
  (try refine pb_Ex.run rfl ?_)
  refine pb_Ex.newI 4 rfl rfl (by omega) (by omega) (by omega) ?_
  rw [hs3]
  generalize hhe4 : pb_set (pb_new h3 (pb_aI 0 12 (fun _ => 0))) o (pb_ob 1 ([pb_r h.1, pb_r (h.1 + 1), pb_0, pb_0, pb_i 0, pb_i 0, pb_j 0].set 2 (pb_r (h.1 + 2)))) = h4
  replace hhe4 := hhe4.symm
  have hs4 : h4.1 = h.1 + 3 := by rw [hhe4]; show h3.1 + 1 = _; omega
  have i1 : h4.2 o = some (pb_ob 1 [pb_r h.1, pb_r (h.1 + 1), pb_r (h.1 + 2), pb_0, pb_i 0, pb_i 0, pb_j 0]) := by rw [hhe4]; exact pb_set_same
  have i2 : h4.2 h.1 = some (pb_ob 12 [pb_i 0, pb_r (co_E K), pb_i 0]) := by rw [hhe4, pb_set_ne (by omega), pb_new_ne (by omega)]; exact f2
  have i3 : h4.2 (h.1 + 1) = some (pb_ob 12 [pb_i 0, pb_r (co_E K), pb_i 0]) := by rw [hhe4, pb_set_ne (by omega), pb_new_ne (by omega)]; exact f3
  have i4 : h4.2 (h.1 + 2) = some (pb_aI 0 12 (fun _ => 0)) := by rw [hhe4, pb_set_ne (by omega), ← hs3]; exact pb_new_same
  have i5 : ∀ b, b ≠ o → b < h.1 → h4.2 b = h.2 b := fun b x1 x2 => by rw [hhe4, pb_set_ne x1, pb_new_ne (by omega)]; exact f4 b x1 x2
  have j1 : (pb_new h4 (pb_aI 0 4 (fun _ => 0))).2 o = some (pb_ob 1 [pb_r h.1, pb_r (h.1 + 1), pb_r (h.1 + 2), pb_0, pb_i 0, pb_i 0, pb_j 0]) := by rw [pb_new_ne (by omega)]; exact i1
  (try refine pb_Ex.run rfl ?_)
  refine pb_Ex.putfF rfl rfl (j1) (Or.inl rfl) (fun r hr => by cases hr; rfl) rfl (by first | trivial | exact Or.inl rfl | exact Or.inr rfl | (show _ ∨ _; omega) | (show _ ∧ _; omega)) ?_
  (try refine pb_Ex.run rfl ?_)
  rw [hs4]
  generalize hhe5 : pb_set (pb_new h4 (pb_aI 0 4 (fun _ => 0))) o (pb_ob 1 ([pb_r h.1, pb_r (h.1 + 1), pb_r (h.1 + 2), pb_0, pb_i 0, pb_i 0, pb_j 0].set 3 (pb_r (h.1 + 3)))) = h5
  replace hhe5 := hhe5.symm
  have hs5 : h5.1 = h.1 + 4 := by rw [hhe5]; show h4.1 + 1 = _; omega
  have k1 : h5.2 o = some (pb_ob 1 [pb_r h.1, pb_r (h.1 + 1), pb_r (h.1 + 2), pb_r (h.1 + 3), pb_i 0, pb_i 0, pb_j 0]) := by rw [hhe5]; exact pb_set_same
  have k2 : h5.2 h.1 = some (pb_ob 12 [pb_i 0, pb_r (co_E K), pb_i 0]) := by rw [hhe5, pb_set_ne (by omega), pb_new_ne (by omega)]; exact i2
  have k3 : h5.2 (h.1 + 1) = some (pb_ob 12 [pb_i 0, pb_r (co_E K), pb_i 0]) := by rw [hhe5, pb_set_ne (by omega), pb_new_ne (by omega)]; exact i3
  have k4 : h5.2 (h.1 + 2) = some (pb_aI 0 12 (fun _ => 0)) := by rw [hhe5, pb_set_ne (by omega), pb_new_ne (by omega)]; exact i4
  have k6 : h5.2 (h.1 + 3) = some (pb_aI 0 4 (fun _ => 0)) := by rw [hhe5, pb_set_ne (by omega), ← hs4]; exact pb_new_same
  have k5 : ∀ b, b ≠ o → b < h.1 → h5.2 b = h.2 b := fun b x1 x2 => by rw [hhe5, pb_set_ne x1, pb_new_ne (by omega)]; exact i5 b x1 x2
  have loop2 : ∀ (d j : Nat) (z : Int) (h2 : pb_H) (c c0 : Nat → Int), j + d = 4 → z = j → h2.1 = h.1 + 4 → h2.2 o = some (pb_ob 1 [pb_r h.1, pb_r (h.1 + 1), pb_r (h.1 + 2), pb_r (h.1 + 3), pb_i 0, pb_i 0, pb_j 0]) → h2.2 h.1 = some (pb_ob 12 [pb_i 0, pb_r (co_E K), pb_i 0]) → h2.2 (h.1 + 1) = some (pb_ob 12 [pb_i 0, pb_r (co_E K), pb_i 0]) → h2.2 (h.1 + 2) = some (pb_aI 0 12 c0) → (∀ i : Nat, i < 12 → c0 i = 4 * min (i : Int) (12 - i)) → h2.2 (h.1 + 3) = some (pb_aI 0 4 c) → (∀ i : Nat, i < j → c i = 2 * ((i : Int) + 1)) → (∀ b, b ≠ o → b < h.1 → h2.2 b = h.2 b) → pb_Ex G mX2_init 4 4 22 (fun oc h' => oc = .inl none ∧ h'.1 = h.1 + 4 ∧ h'.2 o = some (pb_ob 1 [pb_r h.1, pb_r (h.1 + 1), pb_r (h.1 + 2), pb_r (h.1 + 3), pb_i 0, pb_i 0, pb_j 0]) ∧ h'.2 h.1 = some (pb_ob 12 [pb_i 0, pb_r (co_E K), pb_i 0]) ∧ h'.2 (h.1 + 1) = some (pb_ob 12 [pb_i 0, pb_r (co_E K), pb_i 0]) ∧ (∃ c, h'.2 (h.1 + 2) = some (pb_aI 0 12 c) ∧ ∀ j : Nat, j < 12 → c j = 4 * min (j : Int) (12 - j)) ∧ (∃ c, h'.2 (h.1 + 3) = some (pb_aI 0 4 c) ∧ ∀ j : Nat, j < 4 → c j = 2 * ((j : Int) + 1)) ∧ ∀ b, b ≠ o → b < h.1 → h'.2 b = h.2 b) 4 22 73 [some (pb_r o), some (pb_i z)] [] h2 := by
    intro d
    induction d with
    | zero =>
      intro j z h2 c c0 hj hz q1 q2 q3 q4 q5 q6 q7 q8 q9
      refine pb_Ex.run rfl ?_
      refine pb_Ex.icmpT rfl (by omega) (by omega) (by first | decide | (simp only [pb_cmp]; omega) | simp [pb_cmp]) ?_
      (try refine pb_Ex.run rfl ?_)
      refine pb_Ex.vret rfl rfl (by omega) (by omega) (⟨rfl, q1, q2, q3, q4, ⟨c0, q5, q6⟩, ⟨c, q7, fun i hi => q8 i (by omega)⟩, q9⟩)
    | succ d ih =>
      intro j z h2 c c0 hj hz q1 q2 q3 q4 q5 q6 q7 q8 q9
      subst hz
      refine pb_Ex.run rfl ?_
      refine pb_Ex.icmpF rfl (by omega) (by omega) (by first | decide | (simp only [pb_cmp]; omega) | simp [pb_cmp]) ?_
      (try refine pb_Ex.run rfl ?_)
      refine pb_Ex.getf rfl rfl q2 rfl ?_
      (try refine pb_Ex.run rfl ?_)
      refine pb_Ex.istat (j) rfl (q7) (by omega) (by omega) ?_
      (try refine pb_Ex.run rfl ?_)
      refine ih (j + 1) _ _ (va_up c j (2 * ((j : Int) + 1))) c0 (by omega) (by omega) q1 (by rw [pb_set_ne (by omega)]; exact q2) (by rw [pb_set_ne (by omega)]; exact q3) (by rw [pb_set_ne (by omega)]; exact q4) (by rw [pb_set_ne (by omega)]; exact q5) q6 pb_set_same (fun i hi => ?_) (fun b b1 b2 => by rw [pb_set_ne (by omega)]; exact q9 b b1 b2)
      by_cases x1 : i = j
      · subst x1; exact va_upS _ _ _
      · rw [va_upN _ _ x1]; exact q8 i (by omega)
  have loop1 : ∀ (d j : Nat) (z : Int) (h2 : pb_H) (c : Nat → Int), j + d = 12 → z = j → h2.1 = h.1 + 4 → h2.2 o = some (pb_ob 1 [pb_r h.1, pb_r (h.1 + 1), pb_r (h.1 + 2), pb_r (h.1 + 3), pb_i 0, pb_i 0, pb_j 0]) → h2.2 h.1 = some (pb_ob 12 [pb_i 0, pb_r (co_E K), pb_i 0]) → h2.2 (h.1 + 1) = some (pb_ob 12 [pb_i 0, pb_r (co_E K), pb_i 0]) → h2.2 (h.1 + 2) = some (pb_aI 0 12 c) → (∀ i : Nat, i < j → c i = 4 * min (i : Int) (12 - i)) → h2.2 (h.1 + 3) = some (pb_aI 0 4 (fun _ => 0)) → (∀ b, b ≠ o → b < h.1 → h2.2 b = h.2 b) → pb_Ex G mX2_init 4 4 22 (fun oc h' => oc = .inl none ∧ h'.1 = h.1 + 4 ∧ h'.2 o = some (pb_ob 1 [pb_r h.1, pb_r (h.1 + 1), pb_r (h.1 + 2), pb_r (h.1 + 3), pb_i 0, pb_i 0, pb_j 0]) ∧ h'.2 h.1 = some (pb_ob 12 [pb_i 0, pb_r (co_E K), pb_i 0]) ∧ h'.2 (h.1 + 1) = some (pb_ob 12 [pb_i 0, pb_r (co_E K), pb_i 0]) ∧ (∃ c, h'.2 (h.1 + 2) = some (pb_aI 0 12 c) ∧ ∀ j : Nat, j < 12 → c j = 4 * min (j : Int) (12 - j)) ∧ (∃ c, h'.2 (h.1 + 3) = some (pb_aI 0 4 c) ∧ ∀ j : Nat, j < 4 → c j = 2 * ((j : Int) + 1)) ∧ ∀ b, b ≠ o → b < h.1 → h'.2 b = h.2 b) 4 22 43 [some (pb_r o), some (pb_i z)] [] h2 := by
    intro d
    induction d with
    | zero =>
      intro j z h2 c hj hz q1 q2 q3 q4 q5 q6 q7 q9
      refine pb_Ex.run rfl ?_
      refine pb_Ex.icmpT rfl (by omega) (by omega) (by first | decide | (simp only [pb_cmp]; omega) | simp [pb_cmp]) ?_
      (try refine pb_Ex.run rfl ?_)
      exact loop2 4 0 _ h2 (fun _ => 0) c (by omega) rfl q1 q2 q3 q4 q5 (fun i hi => q6 i (by omega)) q7 (fun i hi => absurd hi (Nat.not_lt_zero _)) q9
    | succ d ih =>
      intro j z h2 c hj hz q1 q2 q3 q4 q5 q6 q7 q9
      subst hz
      refine pb_Ex.run rfl ?_
      refine pb_Ex.icmpF rfl (by omega) (by omega) (by first | decide | (simp only [pb_cmp]; omega) | simp [pb_cmp]) ?_
      (try refine pb_Ex.run rfl ?_)
      refine pb_Ex.getf rfl rfl q2 rfl ?_
      (try refine pb_Ex.run rfl ?_)
      refine pb_Ex.mmin rfl rfl (by omega) (by omega) rfl (by omega) (by omega) (by omega) ?_
      (try refine pb_Ex.run rfl ?_)
      refine pb_Ex.istat (j) rfl (q5) (by omega) (by omega) ?_
      (try refine pb_Ex.run rfl ?_)
      refine ih (j + 1) _ _ (va_up c j (4 * min (j : Int) (12 - j))) (by omega) (by omega) q1 (by rw [pb_set_ne (by omega)]; exact q2) (by rw [pb_set_ne (by omega)]; exact q3) (by rw [pb_set_ne (by omega)]; exact q4) pb_set_same (fun i hi => ?_) (by rw [pb_set_ne (by omega)]; exact q7) (fun b b1 b2 => by rw [pb_set_ne (by omega)]; exact q9 b b1 b2)
      by_cases x1 : i = j
      · subst x1; exact va_upS _ _ _
      · rw [va_upN _ _ x1]; exact q6 i (by omega)
  exact loop1 12 0 _ h5 (fun _ => 0) (by omega) rfl hs5 k1 k2 k3 k4 (fun i hi => absurd hi (Nat.not_lt_zero _)) k6 k5
end YARD3
