set_option maxRecDepth 100000
section MODEL15
variable {G : pb_G} {h : pb_H} {o : Nat} {A : Nat → Nat} {x : Nat → Int} {F : Nat → Nat → Int} {t : Nat} {g : Nat → Int} {N : Nat}
theorem pa_mp {x : Nat → Int} {F : Nat → Nat → Int} {g : Nat → Int} {N : Nat} (P : mo_P x F g N) (n : Int) (cm : Nat → Int) : mo_P (va_up x 20 n) (va_up F 19 cm) g N := P
theorem mo_readCommand (P : mo_P x F g N) (n : Nat) (hn : n < 60) (cm : Nat → Int) (s : Nat × Bool) (hs : s.1 ≤ N) (hW : mo_W h o A (pa_x (va_up x 20 (n : Nat)) s) (va_up F 19 cm)) : pb_Ctr G mX4_readCommand 6 0 0 [pb_r o] h (mo_Q o A h none (pa_x (va_up x 20 ((pa_rc g N s.1 cm n).2 : Nat)) (pa_rc g N s.1 cm n).1.1) (va_up F 19 (pa_rc g N s.1 cm n).1.2)) := by
  have hf : mo_Fr o A h h := mo_Fr.rf
  have hN := P.2.2.2.2.1
  have p3 := P.2.2.1
  obtain ⟨p, w⟩ := s
  have hs : p ≤ N := hs
  show pb_Ctr G mX4_readCommand 6 0 0 [pb_r o] h (mo_Q o A h none (pa_x (va_up x 20 ((pa_rc g N p cm n).2 : Nat)) (pa_rc g N p cm n).1.1) (va_up F 19 (pa_rc g N p cm n).1.2))
  have lik : ∀ j : Nat, j ≤ 10 → pb_Ctr G mX4_likeness 1 0 0 [pb_r o, pb_i j] h (pb_P (some (pb_i (pa_lk g N p j : Nat))) h) := fun j hj => mo_likeness (pa_mp P n cm) j hj (p, w) hs hW
  refine pb_Ctr.of rfl rfl rfl tX4_readCommand_ok rfl ?_
  (try refine pb_Ex.run rfl ?_)
  refine pb_Ex.getf (v := pb_i (n : Nat)) rfl rfl hW.1 rfl ?_
  (try refine pb_Ex.run rfl ?_)
  have loop : ∀ (m j : Nat) (z2 z3 : Int), j + m = 10 → z2 = (pa_best g N p j : Nat) → z3 = (j + 1 : Nat) → pb_Ex G mX4_readCommand 6 0 0 (mo_Q o A h none (pa_x (va_up x 20 ((pa_rc g N p cm n).2 : Nat)) (pa_rc g N p cm n).1.1) (va_up F 19 (pa_rc g N p cm n).1.2)) 0 0 11 [some (pb_r o), some (pb_i (4 * (n : Nat))), some (pb_i z2), some (pb_i z3)] [] h := by
    intro m
    induction m with
    | zero =>
      intro j z2 z3 hj h2 h3
      have e : j = 10 := by omega
      subst e h3
      obtain ⟨b, hbd⟩ : ∃ b, b = pa_best g N p 10 := ⟨_, rfl⟩
      unfold pa_rc
      have hb := pa_best_le (g := g) (N := N) (p := p) 10
      rw [← hbd] at h2 hb ⊢
      subst h2
      have hl := pa_len_pos _ hb
      have h4 := pa_lkF_le (g := g) (N := N) (pa_len (b)) (pa_beg (b)) p
      have h5 : pa_lk g N p (b) ≤ 8 := by unfold pa_lk; omega
      have h6 : p + pa_lk g N p (b) ≤ N := h4.2 hs
      have b1 := pa_beg_le (b) (by omega)
      have b2 := pa_beg_le (b + 1) (by omega)
      have q1 := p3 (b) (by omega)
      have q2 := p3 (b + 1) (by omega)
      have e2 : pa_len (b) = pa_beg (b + 1) - pa_beg (b) := rfl
      refine pb_Ex.run rfl ?_
      refine pb_Ex.icmpT rfl (by omega) (by omega) (by first | decide | (simp only [pb_cmp]; omega) | simp [pb_cmp]) ?_
      (try refine pb_Ex.run rfl ?_)
      refine pb_Ex.pV rfl rfl rfl rfl hW.1 rfl rfl (lik b hb) (by omega) (by omega) (by omega) ?_
      (try refine pb_Ex.run rfl ?_)
      refine pb_Ex.getf (v := pb_i (p : Nat)) rfl rfl hW.1 rfl ?_
      (try refine pb_Ex.run rfl ?_)
      refine pb_Ex.mput (x' := pa_x (va_up x 20 (n : Nat)) (p + pa_lk g N p (b), w)) rfl rfl hW hf rfl rfl (by first | trivial | exact Or.inl rfl | exact Or.inr rfl | (show _ ∨ _; omega)) (fun h1 hW hf => ?_)
      (try refine pb_Ex.run rfl ?_)
      refine pb_Ex.getf (v := pb_r (A 18)) rfl rfl hW.1 rfl ?_
      (try refine pb_Ex.run rfl ?_)
      refine pb_Ex.iat (b + 1) rfl hW.a18 (by omega) (by omega) ?_
      refine pb_Ex.run rfl ?_
      refine pb_Ex.getf (v := pb_r (A 18)) rfl rfl hW.1 rfl ?_
      (try refine pb_Ex.run rfl ?_)
      refine pb_Ex.iat (b) rfl hW.a18 (by omega) (by omega) ?_
      show pb_Ex G _ _ _ _ _ _ _ _ _ (pb_i (F 18 (b)) :: pb_i (F 18 (b + 1)) :: _) _
      rw [q1, q2]
      refine pb_Ex.run rfl ?_
      refine pb_Ex.icmp_ge rfl (by omega) (by omega) (fun c => ?_) (fun c => ?_)
      · rw [if_neg (by omega)]
        refine pb_Ex.run rfl ?_
        refine pb_Ex.mput (x' := pa_x (va_up x 20 (n : Nat)) (p + pa_lk g N p (b), false)) rfl rfl hW hf rfl rfl (by first | trivial | exact Or.inl rfl | exact Or.inr rfl | (show _ ∨ _; omega)) (fun h1 hW hf => ?_)
        (try refine pb_Ex.run rfl ?_)
        refine pb_Ex.getf (v := pb_i 0) rfl rfl hW.1 rfl ?_
        (try refine pb_Ex.run rfl ?_)
        refine pb_Ex.ifF rfl (by omega) (by first | decide | (simp only [pb_cmp]; omega) | simp [pb_cmp]) ?_
        (try refine pb_Ex.run rfl ?_)
        refine pb_Ex.getf (v := pb_r (A 19)) rfl rfl hW.1 rfl ?_
        (try refine pb_Ex.run rfl ?_)
        refine pb_Ex.ms19 (4 * n) rfl hW hf (by omega) (by omega) (fun h1 hW hf => ?_)
        refine pb_Ex.run rfl ?_
        refine pb_Ex.getf (v := pb_i (n : Nat)) rfl rfl hW.1 rfl ?_
        (try refine pb_Ex.run rfl ?_)
        refine pb_Ex.mput (x' := pa_x (va_up x 20 (n + 1 : Nat)) (p + pa_lk g N p (b), false)) rfl rfl hW hf rfl rfl (by first | trivial | exact Or.inl rfl | exact Or.inr rfl | (show _ ∨ _; omega)) (fun h1 hW hf => ?_)
        (try refine pb_Ex.run rfl ?_)
        have e4 : 4 * (n : Int) + 1 = ((4 * n + 1 : Nat) : Int) := by push_cast; rfl
        rw [e4]
        refine pb_Ex.mc rfl rfl rfl rfl hW hf rfl rfl (mo_readArguments (pa_mp P (n + 1 : Nat) _) (b) hb (4 * n + 1) (by omega) (va_up cm (4 * n) (b)) (p + pa_lk g N p (b), false) h6 hW) (by omega) (by omega) (by omega) (fun h1 hW hf => ?_)
        (try refine pb_Ex.run rfl ?_)
        refine pb_Ex.vret rfl rfl (by omega) (by omega) (⟨rfl, hW, hf⟩)
      · rw [if_pos (by omega)]
        refine pb_Ex.run rfl ?_
        refine pb_Ex.mput (x' := pa_x (va_up x 20 (n : Nat)) (p + pa_lk g N p (b), true)) rfl rfl hW hf rfl rfl (by first | trivial | exact Or.inl rfl | exact Or.inr rfl | (show _ ∨ _; omega)) (fun h1 hW hf => ?_)
        (try refine pb_Ex.run rfl ?_)
        refine pb_Ex.getf (v := pb_i 1) rfl rfl hW.1 rfl ?_
        (try refine pb_Ex.run rfl ?_)
        refine pb_Ex.ifT rfl (by omega) (by first | decide | (simp only [pb_cmp]; omega) | simp [pb_cmp]) ?_
        (try refine pb_Ex.run rfl ?_)
        refine pb_Ex.vret rfl rfl (by omega) (by omega) (⟨rfl, hW, hf⟩)
    | succ m ih =>
      intro j z2 z3 hj h2 h3
      subst h2 h3
      have hb := pa_best_le (g := g) (N := N) (p := p) j
      have h4 := pa_lkF_le (g := g) (N := N) (pa_len (pa_best g N p j)) (pa_beg (pa_best g N p j)) p
      have h5 := pa_lkF_le (g := g) (N := N) (pa_len (j + 1)) (pa_beg (j + 1)) p
      have h6 := pa_len_pos (j + 1) (by omega)
      have h7 := pa_len_pos (pa_best g N p j) (by omega)
      have h8 : pa_lk g N p (pa_best g N p j) ≤ 8 := by unfold pa_lk; omega
      have h9 : pa_lk g N p (j + 1) ≤ 8 := by unfold pa_lk; omega
      refine pb_Ex.run rfl ?_
      refine pb_Ex.icmpF rfl (by omega) (by omega) (by first | decide | (simp only [pb_cmp]; omega) | simp [pb_cmp]) ?_
      (try refine pb_Ex.run rfl ?_)
      refine pb_Ex.pV rfl rfl rfl rfl hW.1 rfl rfl (lik (j + 1) (by omega)) (by omega) (by omega) (by omega) ?_
      (try refine pb_Ex.run rfl ?_)
      refine pb_Ex.pV rfl rfl rfl rfl hW.1 rfl rfl (lik (pa_best g N p j) (by omega)) (by omega) (by omega) (by omega) ?_
      (try refine pb_Ex.run rfl ?_)
      refine pb_Ex.icmp_le rfl (by omega) (by omega) (fun c => ?_) (fun c => ?_)
      · refine pb_Ex.run rfl ?_
        exact ih (j + 1) _ _ (by omega) (by rw [pa_best, if_neg (by omega)]) (by push_cast; omega)
      · refine pb_Ex.run rfl ?_
        exact ih (j + 1) _ _ (by omega) (by rw [pa_best, if_pos (by omega)]) (by push_cast; omega)
  exact loop 10 0 0 1 (by omega) rfl rfl
theorem mo_errorPosition (hW : mo_W h o A x F) (h6 : pb_rg (x 6)) : pb_Ctr G mX4_errorPosition 5 0 0 [pb_r o] h (mo_Q o A h (some (pb_i (x 6))) (va_up x 9 (if x 6 = -1 then 1 else 0)) F) := by
  have hf : mo_Fr o A h h := mo_Fr.rf
  refine pb_Ctr.of rfl rfl rfl tX4_errorPosition_ok rfl ?_
  (try refine pb_Ex.run rfl ?_)
  refine pb_Ex.mput (x' := va_up x 9 0) rfl rfl hW hf rfl rfl trivial (fun h1 hW hf => ?_)
  (try refine pb_Ex.run rfl ?_)
  refine pb_Ex.getf (v := pb_i (x 6)) rfl rfl hW.1 rfl ?_
  (try refine pb_Ex.run rfl ?_)
  refine pb_Ex.icmp_ne rfl (by omega) (by omega) (fun c => ?_) (fun c => ?_)
  · rw [if_neg c]
    refine pb_Ex.run rfl ?_
    refine pb_Ex.getf (v := pb_i (x 6)) rfl rfl hW.1 rfl ?_
    (try refine pb_Ex.run rfl ?_)
    refine pb_Ex.iret rfl rfl (by omega) (by omega) (⟨rfl, hW, hf⟩)
  · rw [if_pos c, c]
    refine pb_Ex.run rfl ?_
    refine pb_Ex.mc rfl rfl rfl rfl hW hf rfl rfl (mo_throwing hW (1)) (by omega) (by omega) (by omega) (fun h1 hW hf => ?_)
    (try refine pb_Ex.run rfl ?_)
    refine pb_Ex.iret rfl rfl (by omega) (by omega) ⟨rfl, hW.eqx (va_upup _ _ _ _), hf⟩
theorem mo_failedCommand (hW : mo_W h o A x F) (h7 : pb_rg (x 7)) : pb_Ctr G mX4_failedCommand 5 0 0 [pb_r o] h (mo_Q o A h (some (pb_i (x 7))) (va_up x 9 (if x 7 = -1 then 1 else 0)) F) := by
  have hf : mo_Fr o A h h := mo_Fr.rf
  refine pb_Ctr.of rfl rfl rfl tX4_failedCommand_ok rfl ?_
  (try refine pb_Ex.run rfl ?_)
  refine pb_Ex.mput (x' := va_up x 9 0) rfl rfl hW hf rfl rfl trivial (fun h1 hW hf => ?_)
  (try refine pb_Ex.run rfl ?_)
  refine pb_Ex.getf (v := pb_i (x 7)) rfl rfl hW.1 rfl ?_
  (try refine pb_Ex.run rfl ?_)
  refine pb_Ex.icmp_ne rfl (by omega) (by omega) (fun c => ?_) (fun c => ?_)
  · rw [if_neg c]
    refine pb_Ex.run rfl ?_
    refine pb_Ex.getf (v := pb_i (x 7)) rfl rfl hW.1 rfl ?_
    (try refine pb_Ex.run rfl ?_)
    refine pb_Ex.iret rfl rfl (by omega) (by omega) (⟨rfl, hW, hf⟩)
  · rw [if_pos c, c]
    refine pb_Ex.run rfl ?_
    refine pb_Ex.mc rfl rfl rfl rfl hW hf rfl rfl (mo_throwing hW (1)) (by omega) (by omega) (by omega) (fun h1 hW hf => ?_)
    (try refine pb_Ex.run rfl ?_)
    refine pb_Ex.iret rfl rfl (by omega) (by omega) ⟨rfl, hW.eqx (va_upup _ _ _ _), hf⟩
/-- a sign is typed -/
theorem mo_type (hW : mo_W h o A x F) (N : Nat) (hN : x 11 = (N : Nat)) (hN6 : N ≤ 60) (c : Int) (hc : pb_rg c) : pb_Ctr G mX4_type 5 0 0 [pb_r o, pb_i c] h (mo_Q o A h (some (pb_i (if ¬ (32 ≤ c ∧ c ≤ 126) then -1 else if N = 60 then -1 else (N + 1 : Nat)))) (if ¬ (32 ≤ c ∧ c ≤ 126) then va_up x 9 1 else if N = 60 then va_up x 9 2 else va_up (va_up x 9 0) 11 (N + 1 : Nat)) (if ¬ (32 ≤ c ∧ c ≤ 126) then F else if N = 60 then F else va_up F 10 (va_up (F 10) N c))) := by
  have hf : mo_Fr o A h h := mo_Fr.rf
  refine pb_Ctr.of rfl rfl rfl tX4_type_ok rfl ?_
  (try refine pb_Ex.run rfl ?_)
  refine pb_Ex.mput (x' := va_up x 9 0) rfl rfl hW hf rfl rfl trivial (fun h1 hW hf => ?_)
  (try refine pb_Ex.run rfl ?_)
  refine pb_Ex.i2l rfl (by omega) ?_
  (try refine pb_Ex.run rfl ?_)
  refine pb_Ex.ldc2 rfl rfl rfl ?_
  (try refine pb_Ex.run rfl ?_)
  refine pb_Ex.ldc2 rfl rfl rfl ?_
  (try refine pb_Ex.run rfl ?_)
  refine pb_Ex.pS rfl rfl rfl rfl (mo_inn c 32 126 (by omega) (by omega) (by omega)) (by omega) (by omega) (by omega) ?_
  (try refine pb_Ex.run rfl ?_)
  unfold mo_in
  by_cases c1 : 32 ≤ c ∧ c ≤ 126
  · have nn : ¬ ¬ (32 ≤ c ∧ c ≤ 126) := fun q => q c1
    rw [if_pos c1, if_neg nn, if_neg nn, if_neg nn]
    refine pb_Ex.ifT rfl (by omega) (by first | decide | (simp only [pb_cmp]; omega) | simp [pb_cmp]) ?_
    (try refine pb_Ex.run rfl ?_)
    refine pb_Ex.getf (v := pb_i (x 11)) rfl rfl hW.1 rfl ?_
    (try refine pb_Ex.run rfl ?_)
    rw [hN]
    refine pb_Ex.icmp_ne rfl (by omega) (by omega) (fun c2 => ?_) (fun c2 => ?_)
    · rw [if_neg (by omega), if_neg (by omega), if_neg (by omega)]
      refine pb_Ex.run rfl ?_
      refine pb_Ex.getf (v := pb_r (A 10)) rfl rfl hW.1 rfl ?_
      (try refine pb_Ex.run rfl ?_)
      refine pb_Ex.getf (v := pb_i (x 11)) rfl rfl hW.1 rfl ?_
      (try refine pb_Ex.run rfl ?_)
      rw [hN]
      refine pb_Ex.mst 10 N rfl hW hf (by decide) rfl rfl (by show N < 60; omega) (fun h1 hW hf => ?_)
      refine pb_Ex.run rfl ?_
      refine pb_Ex.getf (v := pb_i (x 11)) rfl rfl hW.1 rfl ?_
      (try refine pb_Ex.run rfl ?_)
      rw [hN]
      refine pb_Ex.mput (x' := va_up (va_up x 9 0) 11 (N + 1 : Nat)) rfl rfl hW hf rfl rfl (by first | trivial | exact Or.inl rfl | exact Or.inr rfl | (show _ ∨ _; omega)) (fun h1 hW hf => ?_)
      (try refine pb_Ex.run rfl ?_)
      refine pb_Ex.getf (v := pb_i (N + 1 : Nat)) rfl rfl hW.1 rfl ?_
      (try refine pb_Ex.run rfl ?_)
      refine pb_Ex.iret rfl rfl (by omega) (by omega) (⟨rfl, hW, hf⟩)
    · rw [if_pos (by omega), if_pos (by omega), if_pos (by omega)]
      refine pb_Ex.run rfl ?_
      refine pb_Ex.mc rfl rfl rfl rfl hW hf rfl rfl (mo_throwing hW (2)) (by omega) (by omega) (by omega) (fun h1 hW hf => ?_)
      (try refine pb_Ex.run rfl ?_)
      refine pb_Ex.iret rfl rfl (by omega) (by omega) ⟨rfl, hW.eqx (va_upup _ _ _ _), hf⟩
  · rw [if_neg c1, if_pos c1, if_pos c1, if_pos c1]
    refine pb_Ex.ifF rfl (by omega) (by first | decide | (simp only [pb_cmp]; omega) | simp [pb_cmp]) ?_
    (try refine pb_Ex.run rfl ?_)
    refine pb_Ex.mc rfl rfl rfl rfl hW hf rfl rfl (mo_throwing hW (1)) (by omega) (by omega) (by omega) (fun h1 hW hf => ?_)
    (try refine pb_Ex.run rfl ?_)
    refine pb_Ex.iret rfl rfl (by omega) (by omega) ⟨rfl, hW.eqx (va_upup _ _ _ _), hf⟩
end MODEL15
