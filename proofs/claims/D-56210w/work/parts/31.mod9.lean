set_option maxRecDepth 100000
section MODEL9
variable {G : pb_G} {h : pb_H} {o : Nat} {A : Nat → Nat} {x : Nat → Int} {F : Nat → Nat → Int} {t : Nat}
theorem ya_ru_le (f : Nat → Int) (a b : Nat) : ∀ (m i j : Nat), ya_ru f a b i j m ≤ m
  | 0, _, _ => Nat.le_refl _
  | m + 1, i, j => by
    have := ya_ru_le f a b m (i + 1) (j + 1)
    unfold ya_ru
    split <;> omega
theorem ya_mx_rg {s : Int} {g : Nat → Int} (hs : 0 ≤ s ∧ s ≤ 8) (hg : ∀ j, 0 ≤ g j ∧ g j ≤ 8) : ∀ n : Nat, 0 ≤ ya_mx s g n ∧ ya_mx s g n ≤ 8
  | 0 => hs
  | n + 1 => by
    have h1 := ya_mx_rg hs hg n
    have h2 := hg n
    show 0 ≤ max (ya_mx s g n) (g n) ∧ max (ya_mx s g n) (g n) ≤ 8
    omega
theorem ya_cs_rg {f : Nat → Int} {a b : Nat} (hn : ya_n f a ≤ 8) : ∀ i : Nat, 0 ≤ ya_cs f a b i ∧ ya_cs f a b i ≤ 8
  | 0 => by simp [ya_cs]
  | i + 1 => ya_mx_rg (ya_cs_rg hn i) (fun j => by
      have := ya_ru_le f a b (ya_n f a - i) i j
      show (0 : Int) ≤ (ya_ru f a b i j (ya_n f a - i) : Nat) ∧ ((ya_ru f a b i j (ya_n f a - i) : Nat) : Int) ≤ 8
      omega) _
theorem mo_commonStretch (hW : mo_W h o A x F) (ok : ya_ok t (F 0)) (z y : Int) (hz : pb_rg z) (hy : pb_rg y) : pb_Ctr G mX4_commonStretch 5 0 0 [pb_r o, pb_i z, pb_i y] h (mo_Q o A h (some (pb_i (qs_common (F 0) z y).2)) (va_up x 9 (qs_common (F 0) z y).1) F) := by
  have := ok.num
  unfold qs_common
  have hf : mo_Fr o A h h := mo_Fr.rf
  refine pb_Ctr.of rfl rfl rfl tX4_commonStretch_ok rfl ?_
  (try refine pb_Ex.run rfl ?_)
  refine pb_Ex.mput (x' := va_up x 9 0) rfl rfl hW hf rfl rfl trivial (fun h1 hW hf => ?_)
  (try refine pb_Ex.run rfl ?_)
  refine pb_Ex.pV rfl rfl rfl rfl hW.1 rfl rfl (mo_isHull hW ok z hz) (by omega) (by omega) (by omega) ?_
  (try refine pb_Ex.run rfl ?_)
  unfold mo_in
  by_cases c : 0 ≤ z ∧ z ≤ F 0 0 - 1
  · rw [if_pos c]
    refine pb_Ex.ifF rfl (by omega) (by first | decide | (simp only [pb_cmp]; omega) | simp [pb_cmp]) ?_
    (try refine pb_Ex.run rfl ?_)
    refine pb_Ex.pV rfl rfl rfl rfl hW.1 rfl rfl (mo_isHull hW ok y hy) (by omega) (by omega) (by omega) ?_
    (try refine pb_Ex.run rfl ?_)
    unfold mo_in
    by_cases c2 : 0 ≤ y ∧ y ≤ F 0 0 - 1
    · rw [if_pos c2, if_pos (by omega)]
      obtain ⟨a, rfl⟩ := Int.eq_ofNat_of_zero_le c.1
      obtain ⟨b, rfl⟩ := Int.eq_ofNat_of_zero_le c2.1
      rw [Int.toNat_natCast, Int.toNat_natCast]
      have na := (ok.fr (k := a) (by omega)).nn
      have nb := (ok.fr (k := b) (by omega)).nn
      refine pb_Ex.ifT rfl (by omega) (by first | decide | (simp only [pb_cmp]; omega) | simp [pb_cmp]) ?_
      (try refine pb_Ex.run rfl ?_)
      have run : ∀ (m i j l : Nat) (s z5 z6 z4 : Int), i + l + m = ya_n (F 0) a → j < ya_n (F 0) b → z6 = l → z5 = j → z4 = i →
          pb_Ex G mX4_commonStretch 5 0 0 (mo_Q o A h (some (pb_i (ya_cs (F 0) a b (ya_n (F 0) a)))) (va_up x 9 0) F) 0 0 112 [some (pb_r o), some (pb_i a), some (pb_i b), some (pb_i s), some (pb_i z4), some (pb_i z5), some (pb_i (l + ya_ru (F 0) a b (i + l) (j + l) m : Nat))] [pb_i (l + ya_ru (F 0) a b (i + l) (j + l) m : Nat), pb_i s] h1 →
          pb_Ex G mX4_commonStretch 5 0 0 (mo_Q o A h (some (pb_i (ya_cs (F 0) a b (ya_n (F 0) a)))) (va_up x 9 0) F) 0 0 58 [some (pb_r o), some (pb_i a), some (pb_i b), some (pb_i s), some (pb_i z4), some (pb_i z5), some (pb_i z6)] [] h1 := by
        intro m
        induction m with
        | zero =>
          intro i j l s z5 z6 z4 hl hj h6 h5 h4 kk
          subst h6 h5 h4
          refine pb_Ex.run rfl ?_
          refine pb_Ex.pV rfl rfl rfl rfl hW.1 rfl rfl (mo_frames hW a (by omega)) (by omega) (by omega) (by omega) ?_
          (try refine pb_Ex.run rfl ?_)
          refine pb_Ex.icmpT rfl (by omega) (by omega) (by first | decide | (simp only [pb_cmp]; omega) | simp [pb_cmp]) ?_
          (try refine pb_Ex.run rfl ?_)
          exact kk
        | succ m ih =>
          intro i j l s z5 z6 z4 hl hj h6 h5 h4 kk
          subst h6 h5 h4
          refine pb_Ex.run rfl ?_
          refine pb_Ex.pV rfl rfl rfl rfl hW.1 rfl rfl (mo_frames hW a (by omega)) (by omega) (by omega) (by omega) ?_
          (try refine pb_Ex.run rfl ?_)
          refine pb_Ex.icmpF rfl (by omega) (by omega) (by first | decide | (simp only [pb_cmp]; omega) | simp [pb_cmp]) ?_
          (try refine pb_Ex.run rfl ?_)
          refine pb_Ex.pV rfl rfl rfl rfl hW.1 rfl rfl (mo_frames hW b (by omega)) (by omega) (by omega) (by omega) ?_
          (try refine pb_Ex.run rfl ?_)
          rw [ya_ru] at kk
          refine pb_Ex.icmp_ge rfl (by omega) (by omega) (fun c3 => ?_) (fun c3 => ?_)
          · rw [if_neg (by omega)] at kk
            refine pb_Ex.run rfl ?_
            exact kk
          · refine pb_Ex.run rfl ?_
            refine pb_Ex.pV rfl rfl rfl rfl hW.1 rfl rfl (mo_isMirrored hW ok a (i + l) b (j + l) (by omega) (by omega) (by omega) (by omega)) (by omega) (by omega) (by omega) ?_
            (try refine pb_Ex.run rfl ?_)
            rcases ya_mi01 (F 0) a (i + l) b (j + l) with c4 | c4
            · rw [c4]
              refine pb_Ex.ifT rfl (by omega) (by first | decide | (simp only [pb_cmp]; omega) | simp [pb_cmp]) ?_
              (try refine pb_Ex.run rfl ?_)
              rw [if_neg (by omega)] at kk
              exact kk
            · rw [c4]
              refine pb_Ex.ifF rfl (by omega) (by first | decide | (simp only [pb_cmp]; omega) | simp [pb_cmp]) ?_
              (try refine pb_Ex.run rfl ?_)
              rw [if_pos (by omega)] at kk
              refine ih i j (l + 1) s _ _ _ (by omega) hj (by omega) rfl rfl ?_
              have e : l + 1 + ya_ru (F 0) a b (i + (l + 1)) (j + (l + 1)) m = l + (1 + ya_ru (F 0) a b (i + l + 1) (j + l + 1) m) := by
                rw [Nat.add_assoc, Nat.add_assoc i, Nat.add_assoc j]
              rw [e]
              exact kk
      have inner : ∀ (m i j : Nat) (s z4 z5 : Int) (l6 : Option pb_V), i < ya_n (F 0) a → j + m = ya_n (F 0) b → z4 = i → z5 = j → s = ya_mx (ya_cs (F 0) a b i) (fun j => ya_ru (F 0) a b i j (ya_n (F 0) a - i)) j →
          (∀ (s : Int) (l5 l6 : Option pb_V), s = ya_cs (F 0) a b (i + 1) → pb_Ex G mX4_commonStretch 5 0 0 (mo_Q o A h (some (pb_i (ya_cs (F 0) a b (ya_n (F 0) a)))) (va_up x 9 0) F) 0 0 32 [some (pb_r o), some (pb_i a), some (pb_i b), some (pb_i s), some (pb_i ((i : Int) + 1)), l5, l6] [] h1) →
          pb_Ex G mX4_commonStretch 5 0 0 (mo_Q o A h (some (pb_i (ya_cs (F 0) a b (ya_n (F 0) a)))) (va_up x 9 0) F) 0 0 45 [some (pb_r o), some (pb_i a), some (pb_i b), some (pb_i s), some (pb_i z4), some (pb_i z5), l6] [] h1 := by
        intro m
        induction m with
        | zero =>
          intro i j s z4 z5 l6 hi hj h4 h5 hs kk
          subst h5 h4
          refine pb_Ex.run rfl ?_
          refine pb_Ex.pV rfl rfl rfl rfl hW.1 rfl rfl (mo_frames hW b (by omega)) (by omega) (by omega) (by omega) ?_
          (try refine pb_Ex.run rfl ?_)
          refine pb_Ex.icmpT rfl (by omega) (by omega) (by first | decide | (simp only [pb_cmp]; omega) | simp [pb_cmp]) ?_
          (try refine pb_Ex.run rfl ?_)
          have e : j = ya_n (F 0) b := by omega
          subst e
          exact kk s _ _ hs
        | succ m ih =>
          intro i j s z4 z5 l6 hi hj h4 h5 hs kk
          subst h5 h4
          refine pb_Ex.run rfl ?_
          refine pb_Ex.pV rfl rfl rfl rfl hW.1 rfl rfl (mo_frames hW b (by omega)) (by omega) (by omega) (by omega) ?_
          (try refine pb_Ex.run rfl ?_)
          refine pb_Ex.icmpF rfl (by omega) (by omega) (by first | decide | (simp only [pb_cmp]; omega) | simp [pb_cmp]) ?_
          (try refine pb_Ex.run rfl ?_)
          refine run (ya_n (F 0) a - i) i j 0 s _ _ _ (by omega) (by omega) rfl rfl rfl ?_
          rw [Nat.zero_add, Nat.add_zero, Nat.add_zero]
          have h8 := ya_ru_le (F 0) a b (ya_n (F 0) a - i) i j
          have h9 := ya_mx_rg (g := fun j => ya_ru (F 0) a b i j (ya_n (F 0) a - i)) (ya_cs_rg (b := b) na.2 i) (fun j => by
            have := ya_ru_le (F 0) a b (ya_n (F 0) a - i) i j
            show (0 : Int) ≤ (ya_ru (F 0) a b i j (ya_n (F 0) a - i) : Nat) ∧ ((ya_ru (F 0) a b i j (ya_n (F 0) a - i) : Nat) : Int) ≤ 8
            omega) j
          rw [← hs] at h9
          refine pb_Ex.mmax rfl rfl (by omega) (by omega) rfl (by omega) (by omega) (by omega) ?_
          (try refine pb_Ex.run rfl ?_)
          exact ih i (j + 1) _ _ _ _ hi (by omega) rfl (by omega) (by rw [hs]; rfl) kk
      have outer : ∀ (m i : Nat) (s z4 : Int) (l5 l6 : Option pb_V), i + m = ya_n (F 0) a → z4 = i → s = ya_cs (F 0) a b i → pb_Ex G mX4_commonStretch 5 0 0 (mo_Q o A h (some (pb_i (ya_cs (F 0) a b (ya_n (F 0) a)))) (va_up x 9 0) F) 0 0 32 [some (pb_r o), some (pb_i a), some (pb_i b), some (pb_i s), some (pb_i z4), l5, l6] [] h1 := by
        intro m
        induction m with
        | zero =>
          intro i s z4 l5 l6 hi h4 hs
          subst h4
          refine pb_Ex.run rfl ?_
          refine pb_Ex.pV rfl rfl rfl rfl hW.1 rfl rfl (mo_frames hW a (by omega)) (by omega) (by omega) (by omega) ?_
          (try refine pb_Ex.run rfl ?_)
          refine pb_Ex.icmpT rfl (by omega) (by omega) (by first | decide | (simp only [pb_cmp]; omega) | simp [pb_cmp]) ?_
          (try refine pb_Ex.run rfl ?_)
          have e : i = ya_n (F 0) a := by omega
          subst e hs
          refine pb_Ex.iret rfl rfl (by omega) (by omega) (⟨rfl, hW, hf⟩)
        | succ m ih =>
          intro i s z4 l5 l6 hi h4 hs
          subst h4
          refine pb_Ex.run rfl ?_
          refine pb_Ex.pV rfl rfl rfl rfl hW.1 rfl rfl (mo_frames hW a (by omega)) (by omega) (by omega) (by omega) ?_
          (try refine pb_Ex.run rfl ?_)
          refine pb_Ex.icmpF rfl (by omega) (by omega) (by first | decide | (simp only [pb_cmp]; omega) | simp [pb_cmp]) ?_
          (try refine pb_Ex.run rfl ?_)
          exact inner (ya_n (F 0) b) i 0 s _ _ _ (by omega) (by omega) rfl rfl hs (fun s l5 l6 hs => ih (i + 1) s _ _ _ (by omega) (by omega) hs)
      exact outer (ya_n (F 0) a) 0 0 0 _ _ (by omega) rfl rfl
    · rw [if_neg c2, if_neg (by omega)]
      refine pb_Ex.ifF rfl (by omega) (by first | decide | (simp only [pb_cmp]; omega) | simp [pb_cmp]) ?_
      (try refine pb_Ex.run rfl ?_)
      refine pb_Ex.mc rfl rfl rfl rfl hW hf rfl rfl (mo_throwing hW (1)) (by omega) (by omega) (by omega) (fun h1 hW hf => ?_)
      (try refine pb_Ex.run rfl ?_)
      refine pb_Ex.iret rfl rfl (by omega) (by omega) ⟨rfl, hW.eqx (va_upup _ _ _ _), hf⟩
  · rw [if_neg c, if_neg (by omega)]
    refine pb_Ex.ifT rfl (by omega) (by first | decide | (simp only [pb_cmp]; omega) | simp [pb_cmp]) ?_
    (try refine pb_Ex.run rfl ?_)
    refine pb_Ex.mc rfl rfl rfl rfl hW hf rfl rfl (mo_throwing hW (1)) (by omega) (by omega) (by omega) (fun h1 hW hf => ?_)
    (try refine pb_Ex.run rfl ?_)
    refine pb_Ex.iret rfl rfl (by omega) (by omega) ⟨rfl, hW.eqx (va_upup _ _ _ _), hf⟩
theorem mo_commonStretchByTrying (hW : mo_W h o A x F) (ok : ya_ok t (F 0)) (z y : Int) (hz : pb_rg z) (hy : pb_rg y) : pb_Ctr G mX4_commonStretchByTrying 6 0 0 [pb_r o, pb_i z, pb_i y] h (mo_Q o A h (some (pb_i (qs_common (F 0) z y).2)) (va_up x 9 (qs_common (F 0) z y).1) F) := by
  have hf : mo_Fr o A h h := mo_Fr.rf
  refine pb_Ctr.of rfl rfl rfl tX4_commonStretchByTrying_ok rfl ?_
  (try refine pb_Ex.run rfl ?_)
  refine pb_Ex.mc rfl rfl rfl rfl hW hf rfl rfl (mo_commonStretch hW ok z y hz hy) (by omega) (by omega) (by omega) (fun h1 hW hf => ?_)
  (try refine pb_Ex.run rfl ?_)
  refine pb_Ex.iret rfl rfl (by omega) (by omega) (⟨rfl, hW, hf⟩)
theorem mo_tideAfter (hW : mo_W h o A x F) (ok : ya_ok t (F 0)) (v : Int) (hv : pb_rg v) : pb_Ctr G mX4_tideAfter 5 0 0 [pb_r o, pb_i v] h (mo_Q o A h (some (pb_i (qs_tide (F 0) v).2)) (va_up x 9 (qs_tide (F 0) v).1) F) := by
  have := ok.num
  unfold qs_tide
  have hf : mo_Fr o A h h := mo_Fr.rf
  refine pb_Ctr.of rfl rfl rfl tX4_tideAfter_ok rfl ?_
  (try refine pb_Ex.run rfl ?_)
  refine pb_Ex.mput (x' := va_up x 9 0) rfl rfl hW hf rfl rfl trivial (fun h1 hW hf => ?_)
  (try refine pb_Ex.run rfl ?_)
  refine pb_Ex.i2l rfl (by omega) ?_
  (try refine pb_Ex.run rfl ?_)
  refine pb_Ex.ldc2 rfl rfl rfl ?_
  (try refine pb_Ex.run rfl ?_)
  refine pb_Ex.pS rfl rfl rfl rfl (mo_inn v 0 999 (by omega) (by omega) (by omega)) (by omega) (by omega) (by omega) ?_
  (try refine pb_Ex.run rfl ?_)
  unfold mo_in
  by_cases c : 0 ≤ v ∧ v ≤ 999
  · rw [if_pos c, if_pos c]
    refine pb_Ex.ifF rfl (by omega) (by first | decide | (simp only [pb_cmp]; omega) | simp [pb_cmp]) ?_
    (try refine pb_Ex.run rfl ?_)
    refine pb_Ex.getf rfl rfl hW.1 rfl ?_
    (try refine pb_Ex.run rfl ?_)
    refine pb_Ex.iat (1) rfl hW.2.1 (by omega) (by omega) ?_
    (try refine pb_Ex.run rfl ?_)
    refine pb_Ex.pV rfl rfl rfl rfl hW.1 rfl rfl (mo_tide hW (F 0 1 + v) (by omega)) (by omega) (by omega) (by omega) ?_
    (try refine pb_Ex.run rfl ?_)
    refine pb_Ex.iret rfl rfl (by omega) (by omega) (⟨rfl, hW, hf⟩)
  · rw [if_neg c, if_neg c]
    refine pb_Ex.ifT rfl (by omega) (by first | decide | (simp only [pb_cmp]; omega) | simp [pb_cmp]) ?_
    (try refine pb_Ex.run rfl ?_)
    refine pb_Ex.mc rfl rfl rfl rfl hW hf rfl rfl (mo_throwing hW (1)) (by omega) (by omega) (by omega) (fun h1 hW hf => ?_)
    (try refine pb_Ex.run rfl ?_)
    refine pb_Ex.iret rfl rfl (by omega) (by omega) ⟨rfl, hW.eqx (va_upup _ _ _ _), hf⟩
theorem mo_slipLength (hW : mo_W h o A x F) (v : Int) (hv : pb_rg v) : pb_Ctr G mX4_slipLength 5 0 0 [pb_r o, pb_i v] h (mo_Q o A h (some (pb_i (qs_slip (F 0) v).2)) (va_up x 9 (qs_slip (F 0) v).1) F) := by
  unfold qs_slip
  have hf : mo_Fr o A h h := mo_Fr.rf
  refine pb_Ctr.of rfl rfl rfl tX4_slipLength_ok rfl ?_
  (try refine pb_Ex.run rfl ?_)
  refine pb_Ex.mput (x' := va_up x 9 0) rfl rfl hW hf rfl rfl trivial (fun h1 hW hf => ?_)
  (try refine pb_Ex.run rfl ?_)
  refine pb_Ex.i2l rfl (by omega) ?_
  (try refine pb_Ex.run rfl ?_)
  refine pb_Ex.ldc2 rfl rfl rfl ?_
  (try refine pb_Ex.run rfl ?_)
  refine pb_Ex.pS rfl rfl rfl rfl (mo_inn v 0 3 (by omega) (by omega) (by omega)) (by omega) (by omega) (by omega) ?_
  (try refine pb_Ex.run rfl ?_)
  unfold mo_in
  by_cases c : 0 ≤ v ∧ v ≤ 3
  · rw [if_pos c, if_pos c]
    obtain ⟨k, rfl⟩ := Int.eq_ofNat_of_zero_le c.1
    rw [Int.toNat_natCast]
    refine pb_Ex.ifF rfl (by omega) (by first | decide | (simp only [pb_cmp]; omega) | simp [pb_cmp]) ?_
    (try refine pb_Ex.run rfl ?_)
    refine pb_Ex.getf rfl rfl hW.1 rfl ?_
    (try refine pb_Ex.run rfl ?_)
    refine pb_Ex.iat (17 + k) rfl hW.2.1 (by omega) (by omega) ?_
    (try refine pb_Ex.run rfl ?_)
    refine pb_Ex.iret rfl rfl (by omega) (by omega) (⟨rfl, hW, hf⟩)
  · rw [if_neg c, if_neg c]
    refine pb_Ex.ifT rfl (by omega) (by first | decide | (simp only [pb_cmp]; omega) | simp [pb_cmp]) ?_
    (try refine pb_Ex.run rfl ?_)
    refine pb_Ex.mc rfl rfl rfl rfl hW hf rfl rfl (mo_throwing hW (1)) (by omega) (by omega) (by omega) (fun h1 hW hf => ?_)
    (try refine pb_Ex.run rfl ?_)
    refine pb_Ex.iret rfl rfl (by omega) (by omega) ⟨rfl, hW.eqx (va_upup _ _ _ _), hf⟩
theorem mo_orderAt (hW : mo_W h o A x F) (ok : ya_ok t (F 0)) (v : Int) (hv : pb_rg v) : pb_Ctr G mX4_orderAt 5 0 0 [pb_r o, pb_i v] h (mo_Q o A h (some (pb_i (qs_order (F 0) v).2)) (va_up x 9 (qs_order (F 0) v).1) F) := by
  have := ok.num
  unfold qs_order
  have hf : mo_Fr o A h h := mo_Fr.rf
  refine pb_Ctr.of rfl rfl rfl tX4_orderAt_ok rfl ?_
  (try refine pb_Ex.run rfl ?_)
  refine pb_Ex.mput (x' := va_up x 9 0) rfl rfl hW hf rfl rfl trivial (fun h1 hW hf => ?_)
  (try refine pb_Ex.run rfl ?_)
  refine pb_Ex.i2l rfl (by omega) ?_
  (try refine pb_Ex.run rfl ?_)
  refine pb_Ex.getf rfl rfl hW.1 rfl ?_
  (try refine pb_Ex.run rfl ?_)
  refine pb_Ex.iat (2) rfl hW.2.1 (by omega) (by omega) ?_
  (try refine pb_Ex.run rfl ?_)
  refine pb_Ex.i2l rfl (by omega) ?_
  (try refine pb_Ex.run rfl ?_)
  refine pb_Ex.pS rfl rfl rfl rfl (mo_inn v 0 (F 0 2 - 1) (by omega) (by omega) (by omega)) (by omega) (by omega) (by omega) ?_
  (try refine pb_Ex.run rfl ?_)
  unfold mo_in
  by_cases c : 0 ≤ v ∧ v ≤ F 0 2 - 1
  · rw [if_pos c, if_pos (by omega)]
    obtain ⟨k, rfl⟩ := Int.eq_ofNat_of_zero_le c.1
    rw [Int.toNat_natCast]
    refine pb_Ex.ifF rfl (by omega) (by first | decide | (simp only [pb_cmp]; omega) | simp [pb_cmp]) ?_
    (try refine pb_Ex.run rfl ?_)
    refine pb_Ex.getf rfl rfl hW.1 rfl ?_
    (try refine pb_Ex.run rfl ?_)
    refine pb_Ex.iat (189 + 4 * k) rfl hW.2.1 (by omega) (by omega) ?_
    (try refine pb_Ex.run rfl ?_)
    refine pb_Ex.iret rfl rfl (by omega) (by omega) (⟨rfl, hW, hf⟩)
  · rw [if_neg c, if_neg (by omega)]
    refine pb_Ex.ifT rfl (by omega) (by first | decide | (simp only [pb_cmp]; omega) | simp [pb_cmp]) ?_
    (try refine pb_Ex.run rfl ?_)
    refine pb_Ex.mc rfl rfl rfl rfl hW hf rfl rfl (mo_throwing hW (1)) (by omega) (by omega) (by omega) (fun h1 hW hf => ?_)
    (try refine pb_Ex.run rfl ?_)
    refine pb_Ex.iret rfl rfl (by omega) (by omega) ⟨rfl, hW.eqx (va_upup _ _ _ _), hf⟩
theorem mo_coinsFor (hW : mo_W h o A x F) (ok : ya_ok t (F 0)) (id : Int) (hid : pb_rg id) : pb_Ctr G mX4_coinsFor 5 0 0 [pb_r o, pb_i id] h (mo_Q o A h (some (pb_i (qs_coins (F 0) id).2)) (va_up x 9 (qs_coins (F 0) id).1) F) := by
  have := ok.num
  have hrg := sp_find_rg ok id
  unfold qs_coins
  have hf : mo_Fr o A h h := mo_Fr.rf
  refine pb_Ctr.of rfl rfl rfl tX4_coinsFor_ok rfl ?_
  (try refine pb_Ex.run rfl ?_)
  refine pb_Ex.mput (x' := va_up x 9 0) rfl rfl hW hf rfl rfl trivial (fun h1 hW hf => ?_)
  (try refine pb_Ex.run rfl ?_)
  refine pb_Ex.pV rfl rfl rfl rfl hW.1 rfl rfl (mo_find hW ok id hid) (by omega) (by omega) (by omega) ?_
  (try refine pb_Ex.run rfl ?_)
  refine pb_Ex.icmp_ne rfl (by omega) (by omega) (fun c => ?_) (fun c => ?_)
  · rw [if_neg c]
    refine pb_Ex.run rfl ?_
    obtain ⟨k, hk⟩ := Int.eq_ofNat_of_zero_le (show 0 ≤ sp_find (F 0) id by omega)
    rw [hk, Int.toNat_natCast]
    refine pb_Ex.pV rfl rfl rfl rfl hW.1 rfl rfl (mo_coins hW ok k (by omega) (by omega)) (by omega) (by omega) (by omega) ?_
    (try refine pb_Ex.run rfl ?_)
    refine pb_Ex.iret rfl rfl (by omega) (by omega) (⟨rfl, hW, hf⟩)
  · rw [if_pos c]
    refine pb_Ex.run rfl ?_
    refine pb_Ex.mc rfl rfl rfl rfl hW hf rfl rfl (mo_throwing hW (1)) (by omega) (by omega) (by omega) (fun h1 hW hf => ?_)
    (try refine pb_Ex.run rfl ?_)
    refine pb_Ex.iret rfl rfl (by omega) (by omega) ⟨rfl, hW.eqx (va_upup _ _ _ _), hf⟩
theorem mo_hullsIn (hW : mo_W h o A x F) (ok : ya_ok t (F 0)) (v : Int) (hv : pb_rg v) : pb_Ctr G mX4_hullsIn 5 0 0 [pb_r o, pb_i v] h (mo_Q o A h (some (pb_i (qs_hulls (F 0) v).2)) (va_up x 9 (qs_hulls (F 0) v).1) F) := by
  have := ok.num
  unfold qs_hulls
  have hf : mo_Fr o A h h := mo_Fr.rf
  refine pb_Ctr.of rfl rfl rfl tX4_hullsIn_ok rfl ?_
  (try refine pb_Ex.run rfl ?_)
  refine pb_Ex.mput (x' := va_up x 9 0) rfl rfl hW hf rfl rfl trivial (fun h1 hW hf => ?_)
  (try refine pb_Ex.run rfl ?_)
  refine pb_Ex.i2l rfl (by omega) ?_
  (try refine pb_Ex.run rfl ?_)
  refine pb_Ex.ldc2 rfl rfl rfl ?_
  (try refine pb_Ex.run rfl ?_)
  refine pb_Ex.pS rfl rfl rfl rfl (mo_inn v 0 3 (by omega) (by omega) (by omega)) (by omega) (by omega) (by omega) ?_
  (try refine pb_Ex.run rfl ?_)
  unfold mo_in
  by_cases c : 0 ≤ v ∧ v ≤ 3
  · rw [if_pos c, if_pos c]
    refine pb_Ex.ifT rfl (by omega) (by first | decide | (simp only [pb_cmp]; omega) | simp [pb_cmp]) ?_
    (try refine pb_Ex.run rfl ?_)
    have loop : ∀ (m k : Nat) (s z : Int), k + m = (F 0 0).toNat → z = k → s = ya_sum (ya_hin (F 0) v) k → pb_Ex G mX4_hullsIn 5 0 0 (mo_Q o A h (some (pb_i (ya_sum (ya_hin (F 0) v) (F 0 0).toNat))) (va_up x 9 0) F) 0 0 27 [some (pb_r o), some (pb_i v), some (pb_i s), some (pb_i z)] [] h1 := by
      intro m
      induction m with
      | zero =>
        intro k s z hk hz hs
        refine pb_Ex.run rfl ?_
        refine pb_Ex.getf rfl rfl hW.1 rfl ?_
        (try refine pb_Ex.run rfl ?_)
        refine pb_Ex.iat (0) rfl hW.2.1 (by omega) (by omega) ?_
        (try refine pb_Ex.run rfl ?_)
        refine pb_Ex.icmpT rfl (by omega) (by omega) (by first | decide | (simp only [pb_cmp]; omega) | simp [pb_cmp]) ?_
        (try refine pb_Ex.run rfl ?_)
        have e : k = (F 0 0).toNat := by omega
        subst e hs
        refine pb_Ex.iret rfl rfl (by omega) (by omega) (⟨rfl, hW, hf⟩)
      | succ m ih =>
        intro k s z hk hz hs
        subst hz
        refine pb_Ex.run rfl ?_
        refine pb_Ex.getf rfl rfl hW.1 rfl ?_
        (try refine pb_Ex.run rfl ?_)
        refine pb_Ex.iat (0) rfl hW.2.1 (by omega) (by omega) ?_
        (try refine pb_Ex.run rfl ?_)
        refine pb_Ex.icmpF rfl (by omega) (by omega) (by first | decide | (simp only [pb_cmp]; omega) | simp [pb_cmp]) ?_
        (try refine pb_Ex.run rfl ?_)
        have q := ok.hull (k := k) (by omega)
        refine pb_Ex.pV rfl rfl rfl rfl hW.1 rfl rfl (mo_state hW k (by omega)) (by omega) (by omega) (by omega) ?_
        (try refine pb_Ex.run rfl ?_)
        refine pb_Ex.icmp_ne rfl (by omega) (by omega) (fun c2 => ?_) (fun c2 => ?_)
        · refine pb_Ex.run rfl ?_
          exact ih (k + 1) _ _ (by omega) (by omega) (by rw [ya_sum_s, hs]; unfold ya_hin; rw [if_neg c2])
        · refine pb_Ex.run rfl ?_
          exact ih (k + 1) _ _ (by omega) (by omega) (by rw [ya_sum_s, hs]; unfold ya_hin; rw [if_pos c2])
    exact loop (F 0 0).toNat 0 0 0 (by omega) rfl rfl
  · rw [if_neg c, if_neg c]
    refine pb_Ex.ifF rfl (by omega) (by first | decide | (simp only [pb_cmp]; omega) | simp [pb_cmp]) ?_
    (try refine pb_Ex.run rfl ?_)
    refine pb_Ex.mc rfl rfl rfl rfl hW hf rfl rfl (mo_throwing hW (1)) (by omega) (by omega) (by omega) (fun h1 hW hf => ?_)
    (try refine pb_Ex.run rfl ?_)
    refine pb_Ex.iret rfl rfl (by omega) (by omega) ⟨rfl, hW.eqx (va_upup _ _ _ _), hf⟩
theorem mo_refusalReason (hW : mo_W h o A x F) (h8 : pb_rg (x 8)) : pb_Ctr G mX4_refusalReason 5 0 0 [pb_r o] h (mo_Q o A h (some (pb_i (if x 8 = 0 then -1 else x 8))) (va_up x 9 (if x 8 = 0 then 1 else 0)) F) := by
  have hf : mo_Fr o A h h := mo_Fr.rf
  refine pb_Ctr.of rfl rfl rfl tX4_refusalReason_ok rfl ?_
  (try refine pb_Ex.run rfl ?_)
  refine pb_Ex.mput (x' := va_up x 9 0) rfl rfl hW hf rfl rfl trivial (fun h1 hW hf => ?_)
  (try refine pb_Ex.run rfl ?_)
  refine pb_Ex.getf rfl rfl hW.1 rfl ?_
  (try refine pb_Ex.run rfl ?_)
  show pb_Ex G _ _ _ _ _ _ _ _ _ [pb_i (x 8)] _
  refine pb_Ex.if_ne rfl (by omega) (fun c => ?_) (fun c => ?_)
  · rw [if_neg c, if_neg c]
    refine pb_Ex.run rfl ?_
    refine pb_Ex.getf rfl rfl hW.1 rfl ?_
    (try refine pb_Ex.run rfl ?_)
    refine pb_Ex.iret rfl rfl (by omega) (by omega) (⟨rfl, hW, hf⟩)
  · rw [if_pos c, if_pos c]
    refine pb_Ex.run rfl ?_
    refine pb_Ex.mc rfl rfl rfl rfl hW hf rfl rfl (mo_throwing hW (1)) (by omega) (by omega) (by omega) (fun h1 hW hf => ?_)
    (try refine pb_Ex.run rfl ?_)
    refine pb_Ex.iret rfl rfl (by omega) (by omega) ⟨rfl, hW.eqx (va_upup _ _ _ _), hf⟩
end MODEL9
