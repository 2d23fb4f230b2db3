set_option maxRecDepth 100000
section MODEL8
variable {G : pb_G} {h : pb_H} {o : Nat} {A : Nat → Nat} {x : Nat → Int} {F : Nat → Nat → Int} {t : Nat}
theorem mo_isMirrored (hW : mo_W h o A x F) (ok : ya_ok t (F 0)) (a i b j : Nat) (ha : a < 6) (hi : i < 8) (hb : b < 6) (hj : j < 8) : pb_Ctr G mX4_isMirrored 3 0 0 [pb_r o, pb_i a, pb_i i, pb_i b, pb_i j] h (pb_P (some (pb_i (ya_mi (F 0) a i b j))) h) := by
  have q1 := ok.wid ha (j := 2 * i + 0) (by omega)
  have q2 := ok.wid ha (j := 2 * i + 1) (by omega)
  have q3 := ok.wid hb (j := 2 * j + 0) (by omega)
  have q4 := ok.wid hb (j := 2 * j + 1) (by omega)
  simp only [← Nat.add_assoc] at q1 q2 q3 q4
  unfold ya_mi
  refine pb_Ctr.of rfl rfl rfl tX4_isMirrored_ok rfl ?_
  (try refine pb_Ex.run rfl ?_)
  refine pb_Ex.pV rfl rfl rfl rfl hW.1 rfl rfl (mo_width hW a i 0 (by omega) (by omega) (by omega)) (by omega) (by omega) (by omega) ?_
  (try refine pb_Ex.run rfl ?_)
  refine pb_Ex.pV rfl rfl rfl rfl hW.1 rfl rfl (mo_width hW b j 1 (by omega) (by omega) (by omega)) (by omega) (by omega) (by omega) ?_
  (try refine pb_Ex.run rfl ?_)
  refine pb_Ex.icmp_ne rfl (by omega) (by omega) (fun c => ?_) (fun c => ?_)
  · refine pb_Ex.run rfl ?_
    rw [if_neg (fun z => c z.1)]
    refine pb_Ex.zret (ty := .boolean) rfl rfl (pb_nb (Or.inl rfl)).1 (by omega) (by omega) (⟨rfl, rfl⟩)
  · refine pb_Ex.run rfl ?_
    refine pb_Ex.pV rfl rfl rfl rfl hW.1 rfl rfl (mo_width hW a i 1 (by omega) (by omega) (by omega)) (by omega) (by omega) (by omega) ?_
    (try refine pb_Ex.run rfl ?_)
    refine pb_Ex.pV rfl rfl rfl rfl hW.1 rfl rfl (mo_width hW b j 0 (by omega) (by omega) (by omega)) (by omega) (by omega) (by omega) ?_
    (try refine pb_Ex.run rfl ?_)
    refine pb_Ex.icmp_ne rfl (by omega) (by omega) (fun c2 => ?_) (fun c2 => ?_)
    · refine pb_Ex.run rfl ?_
      rw [if_neg (fun z => c2 z.2)]
      refine pb_Ex.zret (ty := .boolean) rfl rfl (pb_nb (Or.inl rfl)).1 (by omega) (by omega) (⟨rfl, rfl⟩)
    · refine pb_Ex.run rfl ?_
      rw [if_pos ⟨c, c2⟩]
      refine pb_Ex.zret (ty := .boolean) rfl rfl (pb_nb (Or.inr rfl)).1 (by omega) (by omega) (⟨rfl, rfl⟩)
theorem mo_isReflection (hW : mo_W h o A x F) (ok : ya_ok t (F 0)) (a b : Nat) (ha : a < 6) (hb : b < 6) : pb_Ctr G mX4_isReflection 4 0 0 [pb_r o, pb_i a, pb_i b] h (pb_P (some (pb_i (ya_re (F 0) a b))) h) := by
  have ka := ok.fr (k := a) (by omega)
  have kb := ok.fr (k := b) (by omega)
  have na := ka.nn
  have nb := kb.nn
  have re01 : ∀ (n j : Nat), ya_reF (F 0) a b j n = 0 ∨ ya_reF (F 0) a b j n = 1 := by
    intro n
    induction n with
    | zero => intro j; exact Or.inr rfl
    | succ n ih =>
      intro j
      unfold ya_reF
      split
      · exact ih _
      · exact Or.inl rfl
  have stop : ∀ (j z : Int), j = 0 → z = 0 → pb_Ex G mX4_isReflection 4 0 0 (pb_P (some (pb_i 0)) h) 0 0 22 [some (pb_r o), some (pb_i a), some (pb_i b), some (pb_i z), some (pb_i j)] [] h := by
    intro j z hj hz
    subst hj hz
    refine pb_Ex.run rfl ?_
    refine pb_Ex.pV rfl rfl rfl rfl hW.1 rfl rfl (mo_frames hW a (by omega)) (by omega) (by omega) (by omega) ?_
    (try refine pb_Ex.run rfl ?_)
    refine pb_Ex.icmp_ge rfl (by omega) (by omega) (fun c => ?_) (fun c => ?_)
    · refine pb_Ex.run rfl ?_
      refine pb_Ex.zret (ty := .boolean) rfl rfl (pb_nb (Or.inl rfl)).1 (by omega) (by omega) (⟨rfl, rfl⟩)
    · refine pb_Ex.run rfl ?_
      refine pb_Ex.ifT rfl (by omega) (by first | decide | (simp only [pb_cmp]; omega) | simp [pb_cmp]) ?_
      (try refine pb_Ex.run rfl ?_)
      refine pb_Ex.zret (ty := .boolean) rfl rfl (pb_nb (Or.inl rfl)).1 (by omega) (by omega) (⟨rfl, rfl⟩)
  have loop : ∀ (m j : Nat) (s z : Int), j + m = ya_n (F 0) a → ya_n (F 0) a = ya_n (F 0) b → z = j → s = 1 → pb_Ex G mX4_isReflection 4 0 0 (pb_P (some (pb_i (ya_reF (F 0) a b j m))) h) 0 0 22 [some (pb_r o), some (pb_i a), some (pb_i b), some (pb_i s), some (pb_i z)] [] h := by
    intro m
    induction m with
    | zero =>
      intro j s z hj hab hz hs
      subst hs
      refine pb_Ex.run rfl ?_
      refine pb_Ex.pV rfl rfl rfl rfl hW.1 rfl rfl (mo_frames hW a (by omega)) (by omega) (by omega) (by omega) ?_
      (try refine pb_Ex.run rfl ?_)
      refine pb_Ex.icmpT rfl (by omega) (by omega) (by first | decide | (simp only [pb_cmp]; omega) | simp [pb_cmp]) ?_
      (try refine pb_Ex.run rfl ?_)
      refine pb_Ex.zret (ty := .boolean) rfl rfl (pb_nb (Or.inr rfl)).1 (by omega) (by omega) (⟨rfl, rfl⟩)
    | succ m ih =>
      intro j s z hj hab hz hs
      subst hs hz
      refine pb_Ex.run rfl ?_
      refine pb_Ex.pV rfl rfl rfl rfl hW.1 rfl rfl (mo_frames hW a (by omega)) (by omega) (by omega) (by omega) ?_
      (try refine pb_Ex.run rfl ?_)
      refine pb_Ex.icmpF rfl (by omega) (by omega) (by first | decide | (simp only [pb_cmp]; omega) | simp [pb_cmp]) ?_
      (try refine pb_Ex.run rfl ?_)
      refine pb_Ex.ifF rfl (by omega) (by first | decide | (simp only [pb_cmp]; omega) | simp [pb_cmp]) ?_
      (try refine pb_Ex.run rfl ?_)
      refine pb_Ex.pV rfl rfl rfl rfl hW.1 rfl rfl (mo_isMirrored hW ok a j b j (by omega) (by omega) (by omega) (by omega)) (by omega) (by omega) (by omega) ?_
      (try refine pb_Ex.run rfl ?_)
      rcases ya_mi01 (F 0) a j b j with c | c
      · have e : ya_reF (F 0) a b j (m + 1) = 0 := by rw [ya_reF, if_neg (by omega)]
        rw [e, c]
        refine pb_Ex.run rfl ?_
        refine pb_Ex.pV rfl rfl rfl rfl hW.1 rfl rfl (mo_frames hW a (by omega)) (by omega) (by omega) (by omega) ?_
        (try refine pb_Ex.run rfl ?_)
        refine pb_Ex.icmp_ge rfl (by omega) (by omega) (fun c => ?_) (fun c => ?_)
        · refine pb_Ex.run rfl ?_
          refine pb_Ex.zret (ty := .boolean) rfl rfl (pb_nb (Or.inl rfl)).1 (by omega) (by omega) (⟨rfl, rfl⟩)
        · refine pb_Ex.run rfl ?_
          refine pb_Ex.ifT rfl (by omega) (by first | decide | (simp only [pb_cmp]; omega) | simp [pb_cmp]) ?_
          (try refine pb_Ex.run rfl ?_)
          refine pb_Ex.zret (ty := .boolean) rfl rfl (pb_nb (Or.inl rfl)).1 (by omega) (by omega) (⟨rfl, rfl⟩)
      · have e : ya_reF (F 0) a b j (m + 1) = ya_reF (F 0) a b (j + 1) m := by rw [ya_reF, if_pos (by omega)]
        rw [e]
        exact ih (j + 1) _ _ (by omega) hab (by omega) c
  unfold ya_re
  refine pb_Ctr.of rfl rfl rfl tX4_isReflection_ok rfl ?_
  (try refine pb_Ex.run rfl ?_)
  refine pb_Ex.pV rfl rfl rfl rfl hW.1 rfl rfl (mo_frames hW a (by omega)) (by omega) (by omega) (by omega) ?_
  (try refine pb_Ex.run rfl ?_)
  refine pb_Ex.pV rfl rfl rfl rfl hW.1 rfl rfl (mo_frames hW b (by omega)) (by omega) (by omega) (by omega) ?_
  (try refine pb_Ex.run rfl ?_)
  refine pb_Ex.icmp_ne rfl (by omega) (by omega) (fun c => ?_) (fun c => ?_)
  · refine pb_Ex.run rfl ?_
    rw [if_neg (by omega)]
    exact stop _ _ rfl rfl
  · refine pb_Ex.run rfl ?_
    rw [if_pos (by omega)]
    exact loop (ya_n (F 0) a) 0 _ _ (by omega) (by omega) rfl rfl
theorem ya_re01 (f : Nat → Int) (a b : Nat) : ya_re f a b = 0 ∨ ya_re f a b = 1 := by
  have re01 : ∀ (n j : Nat), ya_reF f a b j n = 0 ∨ ya_reF f a b j n = 1 := by
    intro n
    induction n with
    | zero => intro j; exact Or.inr rfl
    | succ n ih =>
      intro j
      unfold ya_reF
      split
      · exact ih _
      · exact Or.inl rfl
  unfold ya_re
  split
  · exact re01 _ _
  · exact Or.inl rfl
theorem mo_isReflectionOf (hW : mo_W h o A x F) (ok : ya_ok t (F 0)) (z y : Int) (hz : pb_rg z) (hy : pb_rg y) : pb_Ctr G mX4_isReflectionOf 5 0 0 [pb_r o, pb_i z, pb_i y] h (mo_Q o A h (some (pb_i (qs_refl (F 0) z y).2)) (va_up x 9 (qs_refl (F 0) z y).1) F) := by
  have := ok.num
  unfold qs_refl
  have hf : mo_Fr o A h h := mo_Fr.rf
  refine pb_Ctr.of rfl rfl rfl tX4_isReflectionOf_ok rfl ?_
  (try refine pb_Ex.run rfl ?_)
  refine pb_Ex.mput (x' := va_up x 9 0) rfl rfl hW hf rfl rfl trivial (fun h1 hW hf => ?_)
  (try refine pb_Ex.run rfl ?_)
  refine pb_Ex.pV rfl rfl rfl rfl hW.1 rfl rfl (mo_isHull hW ok z hz) (by omega) (by omega) (by omega) ?_
  (try refine pb_Ex.run rfl ?_)
  unfold mo_in
  by_cases c : 0 ≤ z ∧ z ≤ F 0 0 - 1
  · rw [if_pos c]
    refine pb_Ex.ifF rfl (by omega) (by first | decide | (simp only [pb_cmp]; omega) | simp [pb_cmp]) ?_
    (try refine pb_Ex.run rfl ?_)
    refine pb_Ex.pV rfl rfl rfl rfl hW.1 rfl rfl (mo_isHull hW ok y hy) (by omega) (by omega) (by omega) ?_
    (try refine pb_Ex.run rfl ?_)
    unfold mo_in
    by_cases c2 : 0 ≤ y ∧ y ≤ F 0 0 - 1
    · rw [if_pos c2, if_pos (by omega)]
      obtain ⟨a, rfl⟩ := Int.eq_ofNat_of_zero_le c.1
      obtain ⟨b, rfl⟩ := Int.eq_ofNat_of_zero_le c2.1
      rw [Int.toNat_natCast, Int.toNat_natCast]
      refine pb_Ex.ifT rfl (by omega) (by first | decide | (simp only [pb_cmp]; omega) | simp [pb_cmp]) ?_
      (try refine pb_Ex.run rfl ?_)
      refine pb_Ex.pV rfl rfl rfl rfl hW.1 rfl rfl (mo_isReflection hW ok a b (by omega) (by omega)) (by omega) (by omega) (by omega) ?_
      (try refine pb_Ex.run rfl ?_)
      refine pb_Ex.zret (ty := .boolean) rfl rfl (pb_nb (ya_re01 _ _ _)).1 (by omega) (by omega) (⟨rfl, hW, hf⟩)
    · rw [if_neg c2, if_neg (by omega)]
      refine pb_Ex.ifF rfl (by omega) (by first | decide | (simp only [pb_cmp]; omega) | simp [pb_cmp]) ?_
      (try refine pb_Ex.run rfl ?_)
      refine pb_Ex.mc rfl rfl rfl rfl hW hf rfl rfl (mo_throwing hW 1) (by omega) (by omega) (by omega) (fun h1 hW hf => ?_)
      refine pb_Ex.run rfl ?_
      refine pb_Ex.zret (ty := .boolean) rfl rfl (pb_nb (Or.inl rfl)).1 (by omega) (by omega) (⟨rfl, hW.eqx (va_upup _ _ _ _), hf⟩)
  · rw [if_neg c, if_neg (by omega)]
    refine pb_Ex.ifT rfl (by omega) (by first | decide | (simp only [pb_cmp]; omega) | simp [pb_cmp]) ?_
    (try refine pb_Ex.run rfl ?_)
    refine pb_Ex.mc rfl rfl rfl rfl hW hf rfl rfl (mo_throwing hW 1) (by omega) (by omega) (by omega) (fun h1 hW hf => ?_)
    refine pb_Ex.run rfl ?_
    refine pb_Ex.zret (ty := .boolean) rfl rfl (pb_nb (Or.inl rfl)).1 (by omega) (by omega) (⟨rfl, hW.eqx (va_upup _ _ _ _), hf⟩)
theorem mo_isSymmetric (hW : mo_W h o A x F) (ok : ya_ok t (F 0)) (z : Int) (hz : pb_rg z) : pb_Ctr G mX4_isSymmetric 6 0 0 [pb_r o, pb_i z] h (mo_Q o A h (some (pb_i (qs_refl (F 0) z z).2)) (va_up x 9 (qs_refl (F 0) z z).1) F) := by
  have hf : mo_Fr o A h h := mo_Fr.rf
  refine pb_Ctr.of rfl rfl rfl tX4_isSymmetric_ok rfl ?_
  (try refine pb_Ex.run rfl ?_)
  refine pb_Ex.mc rfl rfl rfl rfl hW hf rfl rfl (mo_isReflectionOf hW ok z z hz hz) (by omega) (by omega) (by omega) (fun h1 hW hf => ?_)
  (try refine pb_Ex.run rfl ?_)
  refine pb_Ex.zret (ty := .boolean) rfl rfl (pb_nb ?_).1 (by omega) (by omega) ⟨rfl, hW, hf⟩
  unfold qs_refl
  split
  · exact ya_re01 _ _ _
  · exact Or.inl rfl
end MODEL8
