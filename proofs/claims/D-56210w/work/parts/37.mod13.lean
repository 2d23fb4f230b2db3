set_option maxRecDepth 100000
def pa_x (x : Nat → Int) (s : Nat × Bool) : Nat → Int := va_up (va_up x 21 (s.1 : Nat)) 23 (pa_b s.2)
/-- the text and the words that are known -/
def mo_P (x : Nat → Int) (F : Nat → Nat → Int) (g : Nat → Int) (N : Nat) : Prop := F 10 = g ∧ F 17 = pa_let ∧ (∀ j, j < 12 → F 18 j = (pa_beg j : Nat)) ∧ x 22 = (N : Nat) ∧ N ≤ 60 ∧ ∀ j, j < 60 → 0 ≤ g j ∧ g j ≤ 126
theorem pa_b01 (w : Bool) : pa_b w = 0 ∨ pa_b w = 1 := by cases w <;> simp [pa_b]
theorem pa_brg (w : Bool) : pb_rg (pa_b w) := by have := pa_b01 w; omega
theorem pa_dwT {g : Nat → Int} {N p : Nat} {w : Bool} (h : ¬ (48 ≤ pa_hr g N p ∧ pa_hr g N p ≤ 57)) : pa_dw g N (p, w) = true := by
  cases w with
  | true => rfl
  | false =>
    show (false || !(decide (48 ≤ pa_hr g N p) && decide (pa_hr g N p ≤ 57))) = true
    rw [← Bool.decide_and, decide_eq_false h]
    rfl
theorem pa_dwF {g : Nat → Int} {N p : Nat} (h : 48 ≤ pa_hr g N p ∧ pa_hr g N p ≤ 57) : pa_dw g N (p, false) = false := by
  show (false || !(decide (48 ≤ pa_hr g N p) && decide (pa_hr g N p ≤ 57))) = false
  rw [← Bool.decide_and, decide_eq_true h]
  rfl
section MODEL13
variable {G : pb_G} {h : pb_H} {o : Nat} {A : Nat → Nat} {x : Nat → Int} {F : Nat → Nat → Int} {t : Nat} {g : Nat → Int} {N : Nat}
theorem pa_hr_rg (P : mo_P x F g N) (p : Nat) : -1 ≤ pa_hr g N p ∧ pa_hr g N p ≤ 126 := by
  have h1 := P.2.2.2.2.1
  unfold pa_hr
  split
  · have := P.2.2.2.2.2 p (by omega)
    omega
  · omega
theorem mo_here (P : mo_P x F g N) (s : Nat × Bool) (hs : s.1 ≤ N) (hW : mo_W h o A (pa_x x s) F) : pb_Ctr G mX4_here 1 0 0 [pb_r o] h (pb_P (some (pb_i (pa_hr g N s.1))) h) := by
  obtain ⟨p1, p2, p3, p4, p5, p6⟩ := P
  refine pb_Ctr.of rfl rfl rfl tX4_here_ok rfl ?_
  (try refine pb_Ex.run rfl ?_)
  refine pb_Ex.getf (v := pb_i (s.1 : Nat)) rfl rfl hW.1 rfl ?_
  (try refine pb_Ex.run rfl ?_)
  refine pb_Ex.getf (v := pb_i (x 22)) rfl rfl hW.1 rfl ?_
  (try refine pb_Ex.run rfl ?_)
  rw [p4]
  unfold pa_hr
  refine pb_Ex.icmp_ge rfl (by omega) (by omega) (fun c => ?_) (fun c => ?_)
  · rw [if_neg (by omega)]
    refine pb_Ex.run rfl ?_
    refine pb_Ex.iret rfl rfl (by omega) (by omega) (⟨rfl, rfl⟩)
  · rw [if_pos (by omega)]
    refine pb_Ex.run rfl ?_
    refine pb_Ex.getf rfl rfl hW.1 rfl ?_
    (try refine pb_Ex.run rfl ?_)
    refine pb_Ex.getf (v := pb_i (s.1 : Nat)) rfl rfl hW.1 rfl ?_
    (try refine pb_Ex.run rfl ?_)
    refine pb_Ex.iat (s.1) rfl hW.2.2.2.2.2.1 (by omega) (by omega) ?_
    (try refine pb_Ex.run rfl ?_)
    rw [p1]
    refine pb_Ex.iret rfl rfl (by omega) (by omega) (⟨rfl, rfl⟩)
theorem mo_expects (P : mo_P x F g N) (c : Int) (hc : 0 ≤ c ∧ c ≤ 126) (s : Nat × Bool) (hs : s.1 ≤ N) (hW : mo_W h o A (pa_x x s) F) : pb_Ctr G mX4_expects 2 0 0 [pb_r o, pb_i c] h (mo_Q o A h none (pa_x x (pa_ex g N c s)) F) := by
  have hf : mo_Fr o A h h := mo_Fr.rf
  have hN := P.2.2.2.2.1
  have hr := pa_hr_rg P s.1
  obtain ⟨p, w⟩ := s
  have hr : -1 ≤ pa_hr g N p ∧ pa_hr g N p ≤ 126 := hr
  have fin : ∀ (w' : Bool), w' = pa_xw g N c (p, w) → pb_Ex G mX4_expects 2 0 0 (mo_Q o A h none (pa_x x (pa_ex g N c (p, w))) F) 0 0 21 [some (pb_r o), some (pb_i c)] [pb_i (pa_b w'), pb_r o] h := by
    intro w' hw'
    have e9 : pa_ex g N c (p, w) = if w' then (p, true) else (p + 1, false) := by unfold pa_ex; rw [← hw']
    rw [e9]
    cases w' with
    | true =>
      refine pb_Ex.mput (x' := pa_x x (p, true)) rfl rfl hW hf rfl rfl (by first | trivial | exact Or.inl rfl | exact Or.inr rfl | (show _ ∨ _; omega)) (fun h1 hW hf => ?_)
      (try refine pb_Ex.run rfl ?_)
      refine pb_Ex.getf (v := pb_i (p : Nat)) rfl rfl hW.1 rfl ?_
      (try refine pb_Ex.run rfl ?_)
      refine pb_Ex.getf (v := pb_i 1) rfl rfl hW.1 rfl ?_
      (try refine pb_Ex.run rfl ?_)
      refine pb_Ex.ifF rfl (by omega) (by first | decide | (simp only [pb_cmp]; omega) | simp [pb_cmp]) ?_
      (try refine pb_Ex.run rfl ?_)
      refine pb_Ex.mput (x' := pa_x x (p, true)) rfl rfl hW hf rfl rfl (by first | trivial | exact Or.inl rfl | exact Or.inr rfl | (show _ ∨ _; omega)) (fun h1 hW hf => ?_)
      (try refine pb_Ex.run rfl ?_)
      refine pb_Ex.vret rfl rfl (by omega) (by omega) (⟨rfl, hW, hf⟩)
    | false =>
      refine pb_Ex.mput (x' := pa_x x (p, false)) rfl rfl hW hf rfl rfl (by first | trivial | exact Or.inl rfl | exact Or.inr rfl | (show _ ∨ _; omega)) (fun h1 hW hf => ?_)
      (try refine pb_Ex.run rfl ?_)
      refine pb_Ex.getf (v := pb_i (p : Nat)) rfl rfl hW.1 rfl ?_
      (try refine pb_Ex.run rfl ?_)
      refine pb_Ex.getf (v := pb_i 0) rfl rfl hW.1 rfl ?_
      (try refine pb_Ex.run rfl ?_)
      refine pb_Ex.ifT rfl (by omega) (by first | decide | (simp only [pb_cmp]; omega) | simp [pb_cmp]) ?_
      (try refine pb_Ex.run rfl ?_)
      refine pb_Ex.mput (x' := pa_x x (p + 1, false)) rfl rfl hW hf rfl rfl (by first | trivial | exact Or.inl rfl | exact Or.inr rfl | (show _ ∨ _; omega)) (fun h1 hW hf => ?_)
      (try refine pb_Ex.run rfl ?_)
      refine pb_Ex.vret rfl rfl (by omega) (by omega) (⟨rfl, hW, hf⟩)
  refine pb_Ctr.of rfl rfl rfl tX4_expects_ok rfl ?_
  (try refine pb_Ex.run rfl ?_)
  cases w with
  | true =>
    refine pb_Ex.getf (v := pb_i 1) rfl rfl hW.1 rfl ?_
    (try refine pb_Ex.run rfl ?_)
    refine pb_Ex.ifT rfl (by omega) (by first | decide | (simp only [pb_cmp]; omega) | simp [pb_cmp]) ?_
    (try refine pb_Ex.run rfl ?_)
    exact fin true (by simp [pa_xw])
  | false =>
    refine pb_Ex.getf (v := pb_i 0) rfl rfl hW.1 rfl ?_
    (try refine pb_Ex.run rfl ?_)
    refine pb_Ex.ifF rfl (by omega) (by first | decide | (simp only [pb_cmp]; omega) | simp [pb_cmp]) ?_
    (try refine pb_Ex.run rfl ?_)
    refine pb_Ex.pV rfl rfl rfl rfl hW.1 rfl rfl (mo_here P (p, false) hs hW) (by omega) (by omega) (by omega) ?_
    (try refine pb_Ex.run rfl ?_)
    refine pb_Ex.icmp_eq rfl (by omega) (by omega) (fun c9 => ?_) (fun c9 => ?_)
    · refine pb_Ex.run rfl ?_
      exact fin false (by simp [pa_xw, c9])
    · refine pb_Ex.run rfl ?_
      exact fin true (by simp [pa_xw, c9])
theorem mo_digit (P : mo_P x F g N) (s : Nat × Bool) (hs : s.1 ≤ N) (hW : mo_W h o A (pa_x x s) F) : pb_Ctr G mX4_digit 2 0 0 [pb_r o] h (mo_Q o A h (some (pb_i (pa_dg g N s).1)) (pa_x x (pa_dg g N s).2) F) := by
  have hf : mo_Fr o A h h := mo_Fr.rf
  have hN := P.2.2.2.2.1
  have hr := pa_hr_rg P s.1
  obtain ⟨p, w⟩ := s
  have hr : -1 ≤ pa_hr g N p ∧ pa_hr g N p ≤ 126 := hr
  have fin : ∀ (w' : Bool) (l1 : Option pb_V), w' = pa_dw g N (p, w) → pb_Ex G mX4_digit 2 0 0 (mo_Q o A h (some (pb_i (pa_dg g N (p, w)).1)) (pa_x x (pa_dg g N (p, w)).2) F) 0 0 30 [some (pb_r o), l1] [pb_i (pa_b w'), pb_r o] h := by
    intro w' l1 hw'
    have e9 : pa_dg g N (p, w) = if w' then (0, p, true) else (pa_hr g N p - 48, p + 1, false) := by unfold pa_dg; rw [← hw']
    rw [e9]
    cases w' with
    | true =>
      refine pb_Ex.mput (x' := pa_x x (p, true)) rfl rfl hW hf rfl rfl (by first | trivial | exact Or.inl rfl | exact Or.inr rfl | (show _ ∨ _; omega)) (fun h1 hW hf => ?_)
      (try refine pb_Ex.run rfl ?_)
      refine pb_Ex.getf (v := pb_i 1) rfl rfl hW.1 rfl ?_
      (try refine pb_Ex.run rfl ?_)
      refine pb_Ex.ifF rfl (by omega) (by first | decide | (simp only [pb_cmp]; omega) | simp [pb_cmp]) ?_
      (try refine pb_Ex.run rfl ?_)
      refine pb_Ex.getf (v := pb_i (p : Nat)) rfl rfl hW.1 rfl ?_
      (try refine pb_Ex.run rfl ?_)
      refine pb_Ex.getf (v := pb_i 1) rfl rfl hW.1 rfl ?_
      (try refine pb_Ex.run rfl ?_)
      refine pb_Ex.ifF rfl (by omega) (by first | decide | (simp only [pb_cmp]; omega) | simp [pb_cmp]) ?_
      (try refine pb_Ex.run rfl ?_)
      refine pb_Ex.mput (x' := pa_x x (p, true)) rfl rfl hW hf rfl rfl (by first | trivial | exact Or.inl rfl | exact Or.inr rfl | (show _ ∨ _; omega)) (fun h1 hW hf => ?_)
      (try refine pb_Ex.run rfl ?_)
      refine pb_Ex.iret rfl rfl (by omega) (by omega) (⟨rfl, hW, hf⟩)
    | false =>
      refine pb_Ex.mput (x' := pa_x x (p, false)) rfl rfl hW hf rfl rfl (by first | trivial | exact Or.inl rfl | exact Or.inr rfl | (show _ ∨ _; omega)) (fun h1 hW hf => ?_)
      (try refine pb_Ex.run rfl ?_)
      refine pb_Ex.getf (v := pb_i 0) rfl rfl hW.1 rfl ?_
      (try refine pb_Ex.run rfl ?_)
      refine pb_Ex.ifT rfl (by omega) (by first | decide | (simp only [pb_cmp]; omega) | simp [pb_cmp]) ?_
      (try refine pb_Ex.run rfl ?_)
      refine pb_Ex.pV rfl rfl rfl rfl hW.1 rfl rfl (mo_here P (p, false) hs hW) (by omega) (by omega) (by omega) ?_
      (try refine pb_Ex.run rfl ?_)
      refine pb_Ex.getf (v := pb_i (p : Nat)) rfl rfl hW.1 rfl ?_
      (try refine pb_Ex.run rfl ?_)
      refine pb_Ex.getf (v := pb_i 0) rfl rfl hW.1 rfl ?_
      (try refine pb_Ex.run rfl ?_)
      refine pb_Ex.ifT rfl (by omega) (by first | decide | (simp only [pb_cmp]; omega) | simp [pb_cmp]) ?_
      (try refine pb_Ex.run rfl ?_)
      refine pb_Ex.mput (x' := pa_x x (p + 1, false)) rfl rfl hW hf rfl rfl (by first | trivial | exact Or.inl rfl | exact Or.inr rfl | (show _ ∨ _; omega)) (fun h1 hW hf => ?_)
      (try refine pb_Ex.run rfl ?_)
      refine pb_Ex.iret rfl rfl (by omega) (by omega) (⟨rfl, hW, hf⟩)
  refine pb_Ctr.of rfl rfl rfl tX4_digit_ok rfl ?_
  (try refine pb_Ex.run rfl ?_)
  cases w with
  | true =>
    refine pb_Ex.getf (v := pb_i 1) rfl rfl hW.1 rfl ?_
    (try refine pb_Ex.run rfl ?_)
    refine pb_Ex.ifT rfl (by omega) (by first | decide | (simp only [pb_cmp]; omega) | simp [pb_cmp]) ?_
    (try refine pb_Ex.run rfl ?_)
    exact fin true _ (by simp [pa_dw])
  | false =>
    refine pb_Ex.getf (v := pb_i 0) rfl rfl hW.1 rfl ?_
    (try refine pb_Ex.run rfl ?_)
    refine pb_Ex.ifF rfl (by omega) (by first | decide | (simp only [pb_cmp]; omega) | simp [pb_cmp]) ?_
    (try refine pb_Ex.run rfl ?_)
    refine pb_Ex.pV rfl rfl rfl rfl hW.1 rfl rfl (mo_here P (p, false) hs hW) (by omega) (by omega) (by omega) ?_
    (try refine pb_Ex.run rfl ?_)
    refine pb_Ex.i2l rfl (by omega) ?_
    (try refine pb_Ex.run rfl ?_)
    refine pb_Ex.ldc2 rfl rfl rfl ?_
    (try refine pb_Ex.run rfl ?_)
    refine pb_Ex.ldc2 rfl rfl rfl ?_
    (try refine pb_Ex.run rfl ?_)
    refine pb_Ex.pS rfl rfl rfl rfl (mo_inn (pa_hr g N p) 48 57 (by omega) (by omega) (by omega)) (by omega) (by omega) (by omega) ?_
    (try refine pb_Ex.run rfl ?_)
    unfold mo_in
    by_cases c9 : 48 ≤ pa_hr g N p ∧ pa_hr g N p ≤ 57
    · rw [if_pos c9]
      refine pb_Ex.ifT rfl (by omega) (by first | decide | (simp only [pb_cmp]; omega) | simp [pb_cmp]) ?_
      (try refine pb_Ex.run rfl ?_)
      exact fin false _ (pa_dwF c9).symm
    · rw [if_neg c9]
      refine pb_Ex.ifF rfl (by omega) (by first | decide | (simp only [pb_cmp]; omega) | simp [pb_cmp]) ?_
      (try refine pb_Ex.run rfl ?_)
      exact fin true _ (pa_dwT c9).symm
theorem pa_dg_rg (P : mo_P x F g N) (s : Nat × Bool) : 0 ≤ (pa_dg g N s).1 ∧ (pa_dg g N s).1 ≤ 9 := by
  unfold pa_dg
  split
  · show (0 : Int) ≤ 0 ∧ (0 : Int) ≤ 9
    omega
  · next c =>
    simp only [pa_dw, pa_isd, Bool.or_eq_true, Bool.not_eq_true', Bool.and_eq_false_iff, decide_eq_false_iff_not] at c
    show 0 ≤ pa_hr g N s.1 - 48 ∧ pa_hr g N s.1 - 48 ≤ 9
    omega
theorem mo_number (P : mo_P x F g N) (s : Nat × Bool) (hs : s.1 ≤ N) (hW : mo_W h o A (pa_x x s) F) : pb_Ctr G mX4_number 3 0 0 [pb_r o] h (mo_Q o A h (some (pb_i (pa_nb g N s).1)) (pa_x x (pa_nb g N s).2) F) := by
  have hf : mo_Fr o A h h := mo_Fr.rf
  have loop : ∀ (m : Nat) (r : Int × Nat × Bool) (h2 : pb_H) (z2 : Int), r.2.1 ≤ N → z2 = 2 - (m : Int) → m ≤ 2 → mo_W h2 o A (pa_x x r.2) F → mo_Fr o A h h2 →
      pb_Ex G mX4_number 3 0 0 (mo_Q o A h (some (pb_i (pa_nbF g N m r).1)) (pa_x x (pa_nbF g N m r).2) F) 0 0 7 [some (pb_r o), some (pb_i r.1), some (pb_i z2)] [] h2 := by
    intro m
    induction m with
    | zero =>
      intro r h2 z2 hr h2z hm hW hf
      refine pb_Ex.run rfl ?_
      refine pb_Ex.icmpT rfl (by omega) (by omega) (by first | decide | (simp only [pb_cmp]; omega) | simp [pb_cmp]) ?_
      (try refine pb_Ex.run rfl ?_)
      refine pb_Ex.iret rfl rfl (by omega) (by omega) (⟨rfl, hW, hf⟩)
    | succ m ih =>
      intro r h1 z2 hr h2z hm hW hf
      obtain ⟨v, p, w⟩ := r
      have hh := pa_hr_rg P p
      have hwr := pa_brg w
      refine pb_Ex.run rfl ?_
      refine pb_Ex.icmpF rfl (by omega) (by omega) (by first | decide | (simp only [pb_cmp]; omega) | simp [pb_cmp]) ?_
      (try refine pb_Ex.run rfl ?_)
      unfold pa_nbF
      cases w with
      | true =>
        refine pb_Ex.getf (v := pb_i 1) rfl rfl hW.1 rfl ?_
        (try refine pb_Ex.run rfl ?_)
        refine pb_Ex.ifT rfl (by omega) (by first | decide | (simp only [pb_cmp]; omega) | simp [pb_cmp]) ?_
        (try refine pb_Ex.run rfl ?_)
        rw [if_pos (by simp [pa_dw])]
        refine pb_Ex.iret rfl rfl (by omega) (by omega) (⟨rfl, hW, hf⟩)
      | false =>
        refine pb_Ex.getf (v := pb_i 0) rfl rfl hW.1 rfl ?_
        (try refine pb_Ex.run rfl ?_)
        refine pb_Ex.ifF rfl (by omega) (by first | decide | (simp only [pb_cmp]; omega) | simp [pb_cmp]) ?_
        (try refine pb_Ex.run rfl ?_)
        refine pb_Ex.pV rfl rfl rfl rfl hW.1 rfl rfl ((show pb_Ctr G mX4_here 1 0 0 [pb_r o] h1 (pb_P (some (pb_i (pa_hr g N p))) h1) from mo_here P (p, false) hr hW)) (by omega) (by omega) (by omega) ?_
        (try refine pb_Ex.run rfl ?_)
        refine pb_Ex.i2l rfl (by omega) ?_
        (try refine pb_Ex.run rfl ?_)
        refine pb_Ex.ldc2 rfl rfl rfl ?_
        (try refine pb_Ex.run rfl ?_)
        refine pb_Ex.ldc2 rfl rfl rfl ?_
        (try refine pb_Ex.run rfl ?_)
        refine pb_Ex.pS rfl rfl rfl rfl (mo_inn (pa_hr g N p) 48 57 (by omega) (by omega) (by omega)) (by omega) (by omega) (by omega) ?_
        (try refine pb_Ex.run rfl ?_)
        unfold mo_in
        by_cases c9 : 48 ≤ pa_hr g N p ∧ pa_hr g N p ≤ 57
        · rw [if_pos c9]
          refine pb_Ex.ifF rfl (by omega) (by first | decide | (simp only [pb_cmp]; omega) | simp [pb_cmp]) ?_
          (try refine pb_Ex.run rfl ?_)
          rw [if_neg (by rw [pa_dwF c9]; decide)]
          refine pb_Ex.mc rfl rfl rfl rfl hW hf rfl rfl (mo_digit P (p, false) hr hW) (by omega) (by omega) (by omega) (fun h1 hW hf => ?_)
          (try refine pb_Ex.run rfl ?_)
          exact ih (10 * v + (pa_dg g N (p, false)).1, (pa_dg g N (p, false)).2) _ _ (pa_dg_p hr).2 (by omega) (by omega) hW hf
        · rw [if_neg c9]
          refine pb_Ex.ifT rfl (by omega) (by first | decide | (simp only [pb_cmp]; omega) | simp [pb_cmp]) ?_
          (try refine pb_Ex.run rfl ?_)
          rw [if_pos (pa_dwT c9)]
          refine pb_Ex.iret rfl rfl (by omega) (by omega) (⟨rfl, hW, hf⟩)
  refine pb_Ctr.of rfl rfl rfl tX4_number_ok rfl ?_
  (try refine pb_Ex.run rfl ?_)
  refine pb_Ex.mc rfl rfl rfl rfl hW hf rfl rfl (mo_digit P s hs hW) (by omega) (by omega) (by omega) (fun h1 hW hf => ?_)
  (try refine pb_Ex.run rfl ?_)
  exact loop 2 (pa_dg g N s) _ 0 (pa_dg_p hs).2 (by omega) (by omega) hW hf
theorem mo_numberBehind (P : mo_P x F g N) (c : Int) (hc : 0 ≤ c ∧ c ≤ 126) (s : Nat × Bool) (hs : s.1 ≤ N) (hW : mo_W h o A (pa_x x s) F) : pb_Ctr G mX4_numberBehind 4 0 0 [pb_r o, pb_i c] h (mo_Q o A h (some (pb_i (pa_nb g N (pa_ex g N c s)).1)) (pa_x x (pa_nb g N (pa_ex g N c s)).2) F) := by
  have hf : mo_Fr o A h h := mo_Fr.rf
  refine pb_Ctr.of rfl rfl rfl tX4_numberBehind_ok rfl ?_
  (try refine pb_Ex.run rfl ?_)
  refine pb_Ex.mc rfl rfl rfl rfl hW hf rfl rfl (mo_expects P c hc s hs hW) (by omega) (by omega) (by omega) (fun h1 hW hf => ?_)
  (try refine pb_Ex.run rfl ?_)
  refine pb_Ex.mc rfl rfl rfl rfl hW hf rfl rfl (mo_number P (pa_ex g N c s) (pa_ex_p hc.1 hs).2 hW) (by omega) (by omega) (by omega) (fun h1 hW hf => ?_)
  (try refine pb_Ex.run rfl ?_)
  refine pb_Ex.iret rfl rfl (by omega) (by omega) (⟨rfl, hW, hf⟩)
theorem mo_digitBehind (P : mo_P x F g N) (s : Nat × Bool) (hs : s.1 ≤ N) (hW : mo_W h o A (pa_x x s) F) : pb_Ctr G mX4_digitBehind 4 0 0 [pb_r o] h (mo_Q o A h (some (pb_i (pa_dg g N (pa_ex g N 32 s)).1)) (pa_x x (pa_dg g N (pa_ex g N 32 s)).2) F) := by
  have hf : mo_Fr o A h h := mo_Fr.rf
  refine pb_Ctr.of rfl rfl rfl tX4_digitBehind_ok rfl ?_
  (try refine pb_Ex.run rfl ?_)
  refine pb_Ex.mc rfl rfl rfl rfl hW hf rfl rfl (mo_expects P 32 (by omega) s hs hW) (by omega) (by omega) (by omega) (fun h1 hW hf => ?_)
  (try refine pb_Ex.run rfl ?_)
  refine pb_Ex.mc rfl rfl rfl rfl hW hf rfl rfl (mo_digit P (pa_ex g N 32 s) (pa_ex_p (by omega) hs).2 hW) (by omega) (by omega) (by omega) (fun h1 hW hf => ?_)
  (try refine pb_Ex.run rfl ?_)
  refine pb_Ex.iret rfl rfl (by omega) (by omega) (⟨rfl, hW, hf⟩)
end MODEL13
