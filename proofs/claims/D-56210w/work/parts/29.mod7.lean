set_option maxRecDepth 100000
section MODEL7
variable {G : pb_G} {h : pb_H} {o : Nat} {A : Nat → Nat} {x : Nat → Int} {F : Nat → Nat → Int} {t : Nat}
theorem mo_hullCount (hW : mo_W h o A x F) : pb_Ctr G mX4_hullCount 2 0 0 [pb_r o] h (mo_Q o A h (some (pb_i (F 0 0))) (va_up x 9 0) F) := by
  have hf : mo_Fr o A h h := mo_Fr.rf
  refine pb_Ctr.of rfl rfl rfl tX4_hullCount_ok rfl ?_
  (try refine pb_Ex.run rfl ?_)
  refine pb_Ex.mput (x' := va_up x 9 0) rfl rfl hW hf rfl rfl trivial (fun h1 hW hf => ?_)
  (try refine pb_Ex.run rfl ?_)
  refine pb_Ex.getf rfl rfl hW.1 rfl ?_
  (try refine pb_Ex.run rfl ?_)
  refine pb_Ex.iat (0) rfl hW.2.1 (by omega) (by omega) ?_
  (try refine pb_Ex.run rfl ?_)
  refine pb_Ex.iret rfl rfl (by omega) (by omega) (⟨rfl, hW, hf⟩)
theorem mo_hour (hW : mo_W h o A x F) : pb_Ctr G mX4_hour 2 0 0 [pb_r o] h (mo_Q o A h (some (pb_i (F 0 1))) (va_up x 9 0) F) := by
  have hf : mo_Fr o A h h := mo_Fr.rf
  refine pb_Ctr.of rfl rfl rfl tX4_hour_ok rfl ?_
  (try refine pb_Ex.run rfl ?_)
  refine pb_Ex.mput (x' := va_up x 9 0) rfl rfl hW hf rfl rfl trivial (fun h1 hW hf => ?_)
  (try refine pb_Ex.run rfl ?_)
  refine pb_Ex.getf rfl rfl hW.1 rfl ?_
  (try refine pb_Ex.run rfl ?_)
  refine pb_Ex.iat (1) rfl hW.2.1 (by omega) (by omega) ?_
  (try refine pb_Ex.run rfl ?_)
  refine pb_Ex.iret rfl rfl (by omega) (by omega) (⟨rfl, hW, hf⟩)
theorem mo_orderCount (hW : mo_W h o A x F) : pb_Ctr G mX4_orderCount 2 0 0 [pb_r o] h (mo_Q o A h (some (pb_i (F 0 2))) (va_up x 9 0) F) := by
  have hf : mo_Fr o A h h := mo_Fr.rf
  refine pb_Ctr.of rfl rfl rfl tX4_orderCount_ok rfl ?_
  (try refine pb_Ex.run rfl ?_)
  refine pb_Ex.mput (x' := va_up x 9 0) rfl rfl hW hf rfl rfl trivial (fun h1 hW hf => ?_)
  (try refine pb_Ex.run rfl ?_)
  refine pb_Ex.getf rfl rfl hW.1 rfl ?_
  (try refine pb_Ex.run rfl ?_)
  refine pb_Ex.iat (2) rfl hW.2.1 (by omega) (by omega) ?_
  (try refine pb_Ex.run rfl ?_)
  refine pb_Ex.iret rfl rfl (by omega) (by omega) (⟨rfl, hW, hf⟩)
theorem mo_paidCoins (hW : mo_W h o A x F) (ok : ya_ok t (F 0)) : pb_Ctr G mX4_paidCoins 2 0 0 [pb_r o] h (mo_Q o A h (some (pb_j (F 0 4))) (va_up x 9 0) F) := by
  have := ok.num
  have hf : mo_Fr o A h h := mo_Fr.rf
  refine pb_Ctr.of rfl rfl rfl tX4_paidCoins_ok rfl ?_
  (try refine pb_Ex.run rfl ?_)
  refine pb_Ex.mput (x' := va_up x 9 0) rfl rfl hW hf rfl rfl trivial (fun h1 hW hf => ?_)
  (try refine pb_Ex.run rfl ?_)
  refine pb_Ex.getf rfl rfl hW.1 rfl ?_
  (try refine pb_Ex.run rfl ?_)
  refine pb_Ex.iat (4) rfl hW.2.1 (by omega) (by omega) ?_
  (try refine pb_Ex.run rfl ?_)
  refine pb_Ex.i2l rfl (by omega) ?_
  (try refine pb_Ex.run rfl ?_)
  exact pb_Ex.lret rfl rfl (by omega) (by omega) ⟨rfl, hW, hf⟩
theorem mo_ofHull (hW : mo_W h o A x F) (ok : ya_ok t (F 0)) (z : Int) (hz : pb_rg z) (w : Nat) (hw : w < 4) : pb_Ctr G mX4_ofHull 3 0 0 [pb_r o, pb_i z, pb_i w] h (mo_Q o A h (some (pb_i (qs_of (F 0) z w).2)) (va_up x 9 (qs_of (F 0) z w).1) F) := by
  have := ok.num
  unfold qs_of
  have hf : mo_Fr o A h h := mo_Fr.rf
  refine pb_Ctr.of rfl rfl rfl tX4_ofHull_ok rfl ?_
  (try refine pb_Ex.run rfl ?_)
  refine pb_Ex.mput (x' := va_up x 9 0) rfl rfl hW hf rfl rfl trivial (fun h1 hW hf => ?_)
  (try refine pb_Ex.run rfl ?_)
  refine pb_Ex.pV rfl rfl rfl rfl hW.1 rfl rfl (mo_isHull hW ok z hz) (by omega) (by omega) (by omega) ?_
  (try refine pb_Ex.run rfl ?_)
  unfold mo_in
  by_cases c : 0 ≤ z ∧ z ≤ F 0 0 - 1
  · rw [if_pos c, if_pos (by omega)]
    obtain ⟨k, rfl⟩ := Int.eq_ofNat_of_zero_le c.1
    rw [Int.toNat_natCast]
    refine pb_Ex.ifF rfl (by omega) (by first | decide | (simp only [pb_cmp]; omega) | simp [pb_cmp]) ?_
    (try refine pb_Ex.run rfl ?_)
    refine pb_Ex.getf rfl rfl hW.1 rfl ?_
    (try refine pb_Ex.run rfl ?_)
    refine pb_Ex.pS rfl rfl rfl rfl (mo_hullAt (k : Int)) (by omega) (by omega) (by omega) ?_
    (try refine pb_Ex.run rfl ?_)
    refine pb_Ex.iat (21 + 28 * k + w) rfl hW.2.1 (by omega) (by omega) ?_
    (try refine pb_Ex.run rfl ?_)
    refine pb_Ex.iret rfl rfl (by omega) (by omega) (⟨rfl, hW, hf⟩)
  · rw [if_neg c, if_neg (by omega)]
    refine pb_Ex.ifT rfl (by omega) (by first | decide | (simp only [pb_cmp]; omega) | simp [pb_cmp]) ?_
    (try refine pb_Ex.run rfl ?_)
    refine pb_Ex.mc rfl rfl rfl rfl hW hf rfl rfl (mo_throwing hW (1)) (by omega) (by omega) (by omega) (fun h1 hW hf => ?_)
    (try refine pb_Ex.run rfl ?_)
    refine pb_Ex.iret rfl rfl (by omega) (by omega) ⟨rfl, hW.eqx (va_upup _ _ _ _), hf⟩
theorem mo_stateOf (hW : mo_W h o A x F) (ok : ya_ok t (F 0)) (z : Int) (hz : pb_rg z) : pb_Ctr G mX4_stateOf 4 0 0 [pb_r o, pb_i z] h (mo_Q o A h (some (pb_i (qs_of (F 0) z 0).2)) (va_up x 9 (qs_of (F 0) z 0).1) F) := by
  have hf : mo_Fr o A h h := mo_Fr.rf
  refine pb_Ctr.of rfl rfl rfl tX4_stateOf_ok rfl ?_
  (try refine pb_Ex.run rfl ?_)
  refine pb_Ex.mc rfl rfl rfl rfl hW hf rfl rfl (mo_ofHull hW ok z hz 0 (by omega)) (by omega) (by omega) (by omega) (fun h1 hW hf => ?_)
  (try refine pb_Ex.run rfl ?_)
  refine pb_Ex.iret rfl rfl (by omega) (by omega) (⟨rfl, hW, hf⟩)
theorem mo_frameCount (hW : mo_W h o A x F) (ok : ya_ok t (F 0)) (z : Int) (hz : pb_rg z) : pb_Ctr G mX4_frameCount 4 0 0 [pb_r o, pb_i z] h (mo_Q o A h (some (pb_i (qs_of (F 0) z 1).2)) (va_up x 9 (qs_of (F 0) z 1).1) F) := by
  have hf : mo_Fr o A h h := mo_Fr.rf
  refine pb_Ctr.of rfl rfl rfl tX4_frameCount_ok rfl ?_
  (try refine pb_Ex.run rfl ?_)
  refine pb_Ex.mc rfl rfl rfl rfl hW hf rfl rfl (mo_ofHull hW ok z hz 1 (by omega)) (by omega) (by omega) (by omega) (fun h1 hW hf => ?_)
  (try refine pb_Ex.run rfl ?_)
  refine pb_Ex.iret rfl rfl (by omega) (by omega) (⟨rfl, hW, hf⟩)
theorem mo_waterIn (hW : mo_W h o A x F) (ok : ya_ok t (F 0)) (z : Int) (hz : pb_rg z) : pb_Ctr G mX4_waterIn 4 0 0 [pb_r o, pb_i z] h (mo_Q o A h (some (pb_i (qs_of (F 0) z 3).2)) (va_up x 9 (qs_of (F 0) z 3).1) F) := by
  have hf : mo_Fr o A h h := mo_Fr.rf
  refine pb_Ctr.of rfl rfl rfl tX4_waterIn_ok rfl ?_
  (try refine pb_Ex.run rfl ?_)
  refine pb_Ex.mc rfl rfl rfl rfl hW hf rfl rfl (mo_ofHull hW ok z hz 3 (by omega)) (by omega) (by omega) (by omega) (fun h1 hW hf => ?_)
  (try refine pb_Ex.run rfl ?_)
  refine pb_Ex.iret rfl rfl (by omega) (by omega) (⟨rfl, hW, hf⟩)
theorem mo_widthOf (hW : mo_W h o A x F) (ok : ya_ok t (F 0)) (z y b : Int) (hz : pb_rg z) (hy : pb_rg y) (hb : pb_rg b) : pb_Ctr G mX4_widthOf 4 0 0 [pb_r o, pb_i z, pb_i y, pb_i b] h (mo_Q o A h (some (pb_i (qs_width (F 0) z y b).2)) (va_up x 9 (qs_width (F 0) z y b).1) F) := by
  have := ok.num
  unfold qs_width
  have hf : mo_Fr o A h h := mo_Fr.rf
  refine pb_Ctr.of rfl rfl rfl tX4_widthOf_ok rfl ?_
  (try refine pb_Ex.run rfl ?_)
  refine pb_Ex.mput (x' := va_up x 9 0) rfl rfl hW hf rfl rfl trivial (fun h1 hW hf => ?_)
  (try refine pb_Ex.run rfl ?_)
  refine pb_Ex.pV rfl rfl rfl rfl hW.1 rfl rfl (mo_isHull hW ok z hz) (by omega) (by omega) (by omega) ?_
  (try refine pb_Ex.run rfl ?_)
  unfold mo_in
  by_cases c : 0 ≤ z ∧ z ≤ F 0 0 - 1
  · rw [if_pos c]
    obtain ⟨k, rfl⟩ := Int.eq_ofNat_of_zero_le c.1
    rw [Int.toNat_natCast]
    have hh := ok.hull (k := k) (by omega)
    have hn := (ok.fr (k := k) (by omega)).nn
    refine pb_Ex.ifF rfl (by omega) (by first | decide | (simp only [pb_cmp]; omega) | simp [pb_cmp]) ?_
    (try refine pb_Ex.run rfl ?_)
    refine pb_Ex.i2l rfl (by omega) ?_
    (try refine pb_Ex.run rfl ?_)
    refine pb_Ex.pV rfl rfl rfl rfl hW.1 rfl rfl (mo_frames hW k (by omega)) (by omega) (by omega) (by omega) ?_
    (try refine pb_Ex.run rfl ?_)
    refine pb_Ex.i2l rfl (by omega) ?_
    (try refine pb_Ex.run rfl ?_)
    refine pb_Ex.pS rfl rfl rfl rfl (mo_inn y 0 (F 0 (22 + 28 * k) - 1) (by omega) (by omega) (by omega)) (by omega) (by omega) (by omega) ?_
    (try refine pb_Ex.run rfl ?_)
    unfold mo_in
    by_cases c2 : 0 ≤ y ∧ y ≤ F 0 (22 + 28 * k) - 1
    · rw [if_pos c2, if_pos (by omega)]
      obtain ⟨j, rfl⟩ := Int.eq_ofNat_of_zero_le c2.1
      rw [Int.toNat_natCast]
      refine pb_Ex.ifF rfl (by omega) (by first | decide | (simp only [pb_cmp]; omega) | simp [pb_cmp]) ?_
      (try refine pb_Ex.run rfl ?_)
      refine pb_Ex.ifF rfl (by omega) (by first | decide | (simp only [pb_cmp]; omega) | simp [pb_cmp]) ?_
      (try refine pb_Ex.run rfl ?_)
      refine pb_Ex.if_eq rfl hb (fun c3 => ?_) (fun c3 => ?_)
      · refine pb_Ex.run rfl ?_
        refine pb_Ex.pV rfl rfl rfl rfl hW.1 rfl rfl (mo_width hW k j 1 (by omega) (by omega) (by omega)) (by omega) (by omega) (by omega) ?_
        (try refine pb_Ex.run rfl ?_)
        rw [if_pos c3]
        refine pb_Ex.iret rfl rfl (by omega) (by omega) (⟨rfl, hW, hf⟩)
      · refine pb_Ex.run rfl ?_
        refine pb_Ex.pV rfl rfl rfl rfl hW.1 rfl rfl (mo_width hW k j 0 (by omega) (by omega) (by omega)) (by omega) (by omega) (by omega) ?_
        (try refine pb_Ex.run rfl ?_)
        rw [if_neg c3]
        refine pb_Ex.iret rfl rfl (by omega) (by omega) (⟨rfl, hW, hf⟩)
    · rw [if_neg c2, if_neg (by omega)]
      refine pb_Ex.ifT rfl (by omega) (by first | decide | (simp only [pb_cmp]; omega) | simp [pb_cmp]) ?_
      (try refine pb_Ex.run rfl ?_)
      refine pb_Ex.ifT rfl (by omega) (by first | decide | (simp only [pb_cmp]; omega) | simp [pb_cmp]) ?_
      (try refine pb_Ex.run rfl ?_)
      refine pb_Ex.mc rfl rfl rfl rfl hW hf rfl rfl (mo_throwing hW (1)) (by omega) (by omega) (by omega) (fun h1 hW hf => ?_)
      (try refine pb_Ex.run rfl ?_)
      refine pb_Ex.iret rfl rfl (by omega) (by omega) ⟨rfl, hW.eqx (va_upup _ _ _ _), hf⟩
  · rw [if_neg c, if_neg (by omega)]
    refine pb_Ex.ifT rfl (by omega) (by first | decide | (simp only [pb_cmp]; omega) | simp [pb_cmp]) ?_
    (try refine pb_Ex.run rfl ?_)
    refine pb_Ex.ifT rfl (by omega) (by first | decide | (simp only [pb_cmp]; omega) | simp [pb_cmp]) ?_
    (try refine pb_Ex.run rfl ?_)
    refine pb_Ex.mc rfl rfl rfl rfl hW hf rfl rfl (mo_throwing hW (1)) (by omega) (by omega) (by omega) (fun h1 hW hf => ?_)
    (try refine pb_Ex.run rfl ?_)
    refine pb_Ex.iret rfl rfl (by omega) (by omega) ⟨rfl, hW.eqx (va_upup _ _ _ _), hf⟩
theorem mo_caulkingOf (hW : mo_W h o A x F) (ok : ya_ok t (F 0)) (z y : Int) (hz : pb_rg z) (hy : pb_rg y) : pb_Ctr G mX4_caulkingOf 5 0 0 [pb_r o, pb_i z, pb_i y] h (mo_Q o A h (some (pb_i (qs_caulk (F 0) z y).2)) (va_up x 9 (qs_caulk (F 0) z y).1) F) := by
  have := ok.num
  unfold qs_caulk
  have hf : mo_Fr o A h h := mo_Fr.rf
  refine pb_Ctr.of rfl rfl rfl tX4_caulkingOf_ok rfl ?_
  (try refine pb_Ex.run rfl ?_)
  refine pb_Ex.mput (x' := va_up x 9 0) rfl rfl hW hf rfl rfl trivial (fun h1 hW hf => ?_)
  (try refine pb_Ex.run rfl ?_)
  refine pb_Ex.pV rfl rfl rfl rfl hW.1 rfl rfl (mo_isSeam hW ok z y hz hy) (by omega) (by omega) (by omega) ?_
  (try refine pb_Ex.run rfl ?_)
  by_cases c : (0 ≤ z ∧ z < F 0 0) ∧ 0 ≤ y ∧ y < ya_se (F 0) z.toNat
  · rw [if_pos c, if_pos c]
    obtain ⟨k, rfl⟩ := Int.eq_ofNat_of_zero_le c.1.1
    obtain ⟨s, rfl⟩ := Int.eq_ofNat_of_zero_le c.2.1
    rw [Int.toNat_natCast] at c ⊢
    rw [Int.toNat_natCast]
    have h9 := (ok.fr (k := k) (by omega)).se
    refine pb_Ex.ifF rfl (by omega) (by first | decide | (simp only [pb_cmp]; omega) | simp [pb_cmp]) ?_
    (try refine pb_Ex.run rfl ?_)
    refine pb_Ex.getf rfl rfl hW.1 rfl ?_
    (try refine pb_Ex.run rfl ?_)
    refine pb_Ex.pS rfl rfl rfl rfl (mo_hullAt (k : Int)) (by omega) (by omega) (by omega) ?_
    (try refine pb_Ex.run rfl ?_)
    refine pb_Ex.iat (41 + 28 * k + s) rfl hW.2.1 (by omega) (by omega) ?_
    (try refine pb_Ex.run rfl ?_)
    refine pb_Ex.iret rfl rfl (by omega) (by omega) (⟨rfl, hW, hf⟩)
  · rw [if_neg c, if_neg c]
    refine pb_Ex.ifT rfl (by omega) (by first | decide | (simp only [pb_cmp]; omega) | simp [pb_cmp]) ?_
    (try refine pb_Ex.run rfl ?_)
    refine pb_Ex.mc rfl rfl rfl rfl hW hf rfl rfl (mo_throwing hW (1)) (by omega) (by omega) (by omega) (fun h1 hW hf => ?_)
    (try refine pb_Ex.run rfl ?_)
    refine pb_Ex.iret rfl rfl (by omega) (by omega) ⟨rfl, hW.eqx (va_upup _ _ _ _), hf⟩
theorem mo_weightOf (hW : mo_W h o A x F) (ok : ya_ok t (F 0)) (z : Int) (hz : pb_rg z) : pb_Ctr G mX4_weightOf 5 0 0 [pb_r o, pb_i z] h (mo_Q o A h (some (pb_i (qs_weight (F 0) z).2)) (va_up x 9 (qs_weight (F 0) z).1) F) := by
  have := ok.num
  unfold qs_weight
  have hf : mo_Fr o A h h := mo_Fr.rf
  refine pb_Ctr.of rfl rfl rfl tX4_weightOf_ok rfl ?_
  (try refine pb_Ex.run rfl ?_)
  refine pb_Ex.mput (x' := va_up x 9 0) rfl rfl hW hf rfl rfl trivial (fun h1 hW hf => ?_)
  (try refine pb_Ex.run rfl ?_)
  refine pb_Ex.pV rfl rfl rfl rfl hW.1 rfl rfl (mo_isHull hW ok z hz) (by omega) (by omega) (by omega) ?_
  (try refine pb_Ex.run rfl ?_)
  unfold mo_in
  by_cases c : 0 ≤ z ∧ z ≤ F 0 0 - 1
  · rw [if_pos c, if_pos (by omega)]
    obtain ⟨k, rfl⟩ := Int.eq_ofNat_of_zero_le c.1
    rw [Int.toNat_natCast]
    refine pb_Ex.ifF rfl (by omega) (by first | decide | (simp only [pb_cmp]; omega) | simp [pb_cmp]) ?_
    (try refine pb_Ex.run rfl ?_)
    refine pb_Ex.pV rfl rfl rfl rfl hW.1 rfl rfl (mo_weight hW k (by omega) (ok.fr (by omega))) (by omega) (by omega) (by omega) ?_
    (try refine pb_Ex.run rfl ?_)
    refine pb_Ex.iret rfl rfl (by omega) (by omega) (⟨rfl, hW, hf⟩)
  · rw [if_neg c, if_neg (by omega)]
    refine pb_Ex.ifT rfl (by omega) (by first | decide | (simp only [pb_cmp]; omega) | simp [pb_cmp]) ?_
    (try refine pb_Ex.run rfl ?_)
    refine pb_Ex.mc rfl rfl rfl rfl hW hf rfl rfl (mo_throwing hW (1)) (by omega) (by omega) (by omega) (fun h1 hW hf => ?_)
    (try refine pb_Ex.run rfl ?_)
    refine pb_Ex.iret rfl rfl (by omega) (by omega) ⟨rfl, hW.eqx (va_upup _ _ _ _), hf⟩
theorem mo_draughtOf (hW : mo_W h o A x F) (ok : ya_ok t (F 0)) (z : Int) (hz : pb_rg z) : pb_Ctr G mX4_draughtOf 5 0 0 [pb_r o, pb_i z] h (mo_Q o A h (some (pb_i (qs_draught (F 0) z).2)) (va_up x 9 (qs_draught (F 0) z).1) F) := by
  have := ok.num
  unfold qs_draught
  have hf : mo_Fr o A h h := mo_Fr.rf
  refine pb_Ctr.of rfl rfl rfl tX4_draughtOf_ok rfl ?_
  (try refine pb_Ex.run rfl ?_)
  refine pb_Ex.mput (x' := va_up x 9 0) rfl rfl hW hf rfl rfl trivial (fun h1 hW hf => ?_)
  (try refine pb_Ex.run rfl ?_)
  refine pb_Ex.pV rfl rfl rfl rfl hW.1 rfl rfl (mo_isHull hW ok z hz) (by omega) (by omega) (by omega) ?_
  (try refine pb_Ex.run rfl ?_)
  unfold mo_in
  by_cases c : 0 ≤ z ∧ z ≤ F 0 0 - 1
  · rw [if_pos c, if_pos (by omega)]
    obtain ⟨k, rfl⟩ := Int.eq_ofNat_of_zero_le c.1
    rw [Int.toNat_natCast]
    have hw := ok.wt (k := k) (by omega)
    have hwd := ok.wd (k := k) (by omega)
    have hdr := ya_dr_rg (ya_wd (F 0) k) (ya_wt (F 0) k)
    refine pb_Ex.ifT rfl (by omega) (by first | decide | (simp only [pb_cmp]; omega) | simp [pb_cmp]) ?_
    (try refine pb_Ex.run rfl ?_)
    refine pb_Ex.pV rfl rfl rfl rfl hW.1 rfl rfl (mo_weight hW k (by omega) (ok.fr (by omega))) (by omega) (by omega) (by omega) ?_
    (try refine pb_Ex.run rfl ?_)
    refine pb_Ex.pV rfl rfl rfl rfl hW.1 rfl rfl (mo_draught hW k (by omega) (ok.fr (by omega)) hwd (ya_wt (F 0) k) (by omega)) (by omega) (by omega) (by omega) ?_
    (try refine pb_Ex.run rfl ?_)
    refine pb_Ex.icmp_ne rfl (by omega) (by omega) (fun c2 => ?_) (fun c2 => ?_)
    · rw [if_neg c2]
      refine pb_Ex.run rfl ?_
      refine pb_Ex.iret rfl rfl (by omega) (by omega) (⟨rfl, hW, hf⟩)
    · rw [if_pos c2]
      refine pb_Ex.run rfl ?_
      refine pb_Ex.mc rfl rfl rfl rfl hW hf rfl rfl (mo_throwing hW (2)) (by omega) (by omega) (by omega) (fun h1 hW hf => ?_)
      (try refine pb_Ex.run rfl ?_)
      refine pb_Ex.iret rfl rfl (by omega) (by omega) ⟨rfl, hW.eqx (va_upup _ _ _ _), hf⟩
  · rw [if_neg c, if_neg (by omega)]
    refine pb_Ex.ifF rfl (by omega) (by first | decide | (simp only [pb_cmp]; omega) | simp [pb_cmp]) ?_
    (try refine pb_Ex.run rfl ?_)
    refine pb_Ex.mc rfl rfl rfl rfl hW hf rfl rfl (mo_throwing hW (1)) (by omega) (by omega) (by omega) (fun h1 hW hf => ?_)
    (try refine pb_Ex.run rfl ?_)
    refine pb_Ex.iret rfl rfl (by omega) (by omega) ⟨rfl, hW.eqx (va_upup _ _ _ _), hf⟩
theorem mo_draughtByHalving (hW : mo_W h o A x F) (ok : ya_ok t (F 0)) (z : Int) (hz : pb_rg z) : pb_Ctr G mX4_draughtByHalving 6 0 0 [pb_r o, pb_i z] h (mo_Q o A h (some (pb_i (qs_draught (F 0) z).2)) (va_up x 9 (qs_draught (F 0) z).1) F) := by
  have hf : mo_Fr o A h h := mo_Fr.rf
  refine pb_Ctr.of rfl rfl rfl tX4_draughtByHalving_ok rfl ?_
  (try refine pb_Ex.run rfl ?_)
  refine pb_Ex.mc rfl rfl rfl rfl hW hf rfl rfl (mo_draughtOf hW ok z hz) (by omega) (by omega) (by omega) (fun h1 hW hf => ?_)
  (try refine pb_Ex.run rfl ?_)
  refine pb_Ex.iret rfl rfl (by omega) (by omega) (⟨rfl, hW, hf⟩)
theorem mo_heelOf (hW : mo_W h o A x F) (ok : ya_ok t (F 0)) (z : Int) (hz : pb_rg z) : pb_Ctr G mX4_heelOf 5 0 0 [pb_r o, pb_i z] h (mo_Q o A h (some (pb_i (qs_heel (F 0) z).2)) (va_up x 9 (qs_heel (F 0) z).1) F) := by
  have := ok.num
  unfold qs_heel
  have hf : mo_Fr o A h h := mo_Fr.rf
  refine pb_Ctr.of rfl rfl rfl tX4_heelOf_ok rfl ?_
  (try refine pb_Ex.run rfl ?_)
  refine pb_Ex.mput (x' := va_up x 9 0) rfl rfl hW hf rfl rfl trivial (fun h1 hW hf => ?_)
  (try refine pb_Ex.run rfl ?_)
  refine pb_Ex.pV rfl rfl rfl rfl hW.1 rfl rfl (mo_isHull hW ok z hz) (by omega) (by omega) (by omega) ?_
  (try refine pb_Ex.run rfl ?_)
  unfold mo_in
  by_cases c : 0 ≤ z ∧ z ≤ F 0 0 - 1
  · rw [if_pos c, if_pos (by omega)]
    obtain ⟨k, rfl⟩ := Int.eq_ofNat_of_zero_le c.1
    rw [Int.toNat_natCast]
    have hn := (ok.fr (k := k) (by omega)).nn
    refine pb_Ex.ifT rfl (by omega) (by first | decide | (simp only [pb_cmp]; omega) | simp [pb_cmp]) ?_
    (try refine pb_Ex.run rfl ?_)
    have loop : ∀ (m j : Nat) (s z : Int), j + m = ya_n (F 0) k → z = j → s = ya_sum (ya_hd (F 0) k) j → pb_Ex G mX4_heelOf 5 0 0 (mo_Q o A h (some (pb_i (ya_sum (ya_hd (F 0) k) (ya_n (F 0) k)))) (va_up x 9 0) F) 0 0 23 [some (pb_r o), some (pb_i k), some (pb_i s), some (pb_i z)] [] h1 := by
      intro m
      induction m with
      | zero =>
        intro j s z hj hz hs
        refine pb_Ex.run rfl ?_
        refine pb_Ex.pV rfl rfl rfl rfl hW.1 rfl rfl (mo_frames hW k (by omega)) (by omega) (by omega) (by omega) ?_
        (try refine pb_Ex.run rfl ?_)
        refine pb_Ex.icmpT rfl (by omega) (by omega) (by first | decide | (simp only [pb_cmp]; omega) | simp [pb_cmp]) ?_
        (try refine pb_Ex.run rfl ?_)
        have e1 : j = ya_n (F 0) k := by omega
        subst e1 hs
        refine pb_Ex.iret rfl rfl (by omega) (by omega) (⟨rfl, hW, hf⟩)
      | succ m ih =>
        intro j s z hj hz hs
        refine pb_Ex.run rfl ?_
        refine pb_Ex.pV rfl rfl rfl rfl hW.1 rfl rfl (mo_frames hW k (by omega)) (by omega) (by omega) (by omega) ?_
        (try refine pb_Ex.run rfl ?_)
        refine pb_Ex.icmpF rfl (by omega) (by omega) (by first | decide | (simp only [pb_cmp]; omega) | simp [pb_cmp]) ?_
        (try refine pb_Ex.run rfl ?_)
        subst hz
        refine pb_Ex.pV rfl rfl rfl rfl hW.1 rfl rfl (mo_width hW k j 0 (by omega) (by omega) (by omega)) (by omega) (by omega) (by omega) ?_
        (try refine pb_Ex.run rfl ?_)
        refine pb_Ex.pV rfl rfl rfl rfl hW.1 rfl rfl (mo_width hW k j 1 (by omega) (by omega) (by omega)) (by omega) (by omega) (by omega) ?_
        (try refine pb_Ex.run rfl ?_)
        exact ih (j + 1) _ _ (by omega) (by omega) (by rw [ya_sum_s, hs]; rfl)
    exact loop (ya_n (F 0) k) 0 0 0 (by omega) rfl rfl
  · rw [if_neg c, if_neg (by omega)]
    refine pb_Ex.ifF rfl (by omega) (by first | decide | (simp only [pb_cmp]; omega) | simp [pb_cmp]) ?_
    (try refine pb_Ex.run rfl ?_)
    refine pb_Ex.mc rfl rfl rfl rfl hW hf rfl rfl (mo_throwing hW (1)) (by omega) (by omega) (by omega) (fun h1 hW hf => ?_)
    (try refine pb_Ex.run rfl ?_)
    refine pb_Ex.iret rfl rfl (by omega) (by omega) ⟨rfl, hW.eqx (va_upup _ _ _ _), hf⟩
theorem ya_sum01 {g : Nat → Int} (hg : ∀ j, g j = 0 ∨ g j = 1) : ∀ n : Nat, 0 ≤ ya_sum g n ∧ ya_sum g n ≤ n
  | 0 => by simp [ya_sum]
  | n + 1 => by
    have := ya_sum01 hg n
    have := hg n
    rw [ya_sum_s]
    omega
theorem ya_ah01 (f : Nat → Int) (k j : Nat) : ya_ah f k j = 0 ∨ ya_ah f k j = 1 := by unfold ya_ah; split <;> omega
theorem ya_rkF_rg (f : Nat → Int) (r : Int) : ∀ (n k : Nat), ya_rkF f r k n = -1 ∨ (k ≤ ya_rkF f r k n ∧ ya_rkF f r k n < k + n)
  | 0, _ => Or.inl rfl
  | n + 1, k => by
    unfold ya_rkF
    split
    · exact Or.inr (by omega)
    · rcases ya_rkF_rg f r n (k + 1) with h | h
      · exact Or.inl h
      · refine Or.inr ?_
        push_cast at h
        omega
theorem mo_hullAtRank (hW : mo_W h o A x F) (ok : ya_ok t (F 0)) (r : Int) (hr : pb_rg r) : pb_Ctr G mX4_hullAtRank 5 0 0 [pb_r o, pb_i r] h (mo_Q o A h (some (pb_i (qs_rank (F 0) r).2)) (va_up x 9 (qs_rank (F 0) r).1) F) := by
  have h0 := ok.num
  have hf : mo_Fr o A h h := mo_Fr.rf
  refine pb_Ctr.of rfl rfl rfl tX4_hullAtRank_ok rfl ?_
  (try refine pb_Ex.run rfl ?_)
  refine pb_Ex.mput (x' := va_up x 9 0) rfl rfl hW hf rfl rfl trivial (fun h1 hW hf => ?_)
  (try refine pb_Ex.run rfl ?_)
  have outer : ∀ (m k : Nat) (z : Int) (l3 l4 l5 : Option pb_V), k + m = (F 0 0).toNat → z = k → pb_Ex G mX4_hullAtRank 5 0 0 (mo_Q o A h (some (pb_i (if ya_rkF (F 0) r k m = -1 then ((1 : Int), (-1 : Int)) else (0, ya_rkF (F 0) r k m)).2)) (va_up x 9 (if ya_rkF (F 0) r k m = -1 then ((1 : Int), (-1 : Int)) else (0, ya_rkF (F 0) r k m)).1) F) 0 0 7 [some (pb_r o), some (pb_i r), some (pb_i z), l3, l4, l5] [] h1 := by
    intro m
    induction m with
    | zero =>
      intro k z l3 l4 l5 hk hz
      refine pb_Ex.run rfl ?_
      refine pb_Ex.getf rfl rfl hW.1 rfl ?_
      (try refine pb_Ex.run rfl ?_)
      refine pb_Ex.iat (0) rfl hW.2.1 (by omega) (by omega) ?_
      (try refine pb_Ex.run rfl ?_)
      refine pb_Ex.icmpT rfl (by omega) (by omega) (by first | decide | (simp only [pb_cmp]; omega) | simp [pb_cmp]) ?_
      (try refine pb_Ex.run rfl ?_)
      refine pb_Ex.mc rfl rfl rfl rfl hW hf rfl rfl (mo_throwing hW (1)) (by omega) (by omega) (by omega) (fun h1 hW hf => ?_)
      (try refine pb_Ex.run rfl ?_)
      refine pb_Ex.iret rfl rfl (by omega) (by omega) ⟨rfl, hW.eqx (va_upup _ _ _ _), hf⟩
    | succ m ih =>
      intro k z l3 l4 l5 hk hz
      refine pb_Ex.run rfl ?_
      refine pb_Ex.getf rfl rfl hW.1 rfl ?_
      (try refine pb_Ex.run rfl ?_)
      refine pb_Ex.iat (0) rfl hW.2.1 (by omega) (by omega) ?_
      (try refine pb_Ex.run rfl ?_)
      refine pb_Ex.icmpF rfl (by omega) (by omega) (by first | decide | (simp only [pb_cmp]; omega) | simp [pb_cmp]) ?_
      (try refine pb_Ex.run rfl ?_)
      subst hz
      have inner : ∀ (m2 j : Nat) (s z : Int) (l5 : Option pb_V), j + m2 = (F 0 0).toNat → z = j → s = ya_sum (ya_ah (F 0) k) j → pb_Ex G mX4_hullAtRank 5 0 0 (mo_Q o A h (some (pb_i (if ya_rkF (F 0) r k (m + 1) = -1 then ((1 : Int), (-1 : Int)) else (0, ya_rkF (F 0) r k (m + 1))).2)) (va_up x 9 (if ya_rkF (F 0) r k (m + 1) = -1 then ((1 : Int), (-1 : Int)) else (0, ya_rkF (F 0) r k (m + 1))).1) F) 0 0 22 [some (pb_r o), some (pb_i r), some (pb_i k), some (pb_i s), some (pb_i z), l5] [] h1 := by
        intro m2
        induction m2 with
        | zero =>
          intro j s z l5 hj hz hs
          refine pb_Ex.run rfl ?_
          refine pb_Ex.getf rfl rfl hW.1 rfl ?_
          (try refine pb_Ex.run rfl ?_)
          refine pb_Ex.iat (0) rfl hW.2.1 (by omega) (by omega) ?_
          (try refine pb_Ex.run rfl ?_)
          refine pb_Ex.icmpT rfl (by omega) (by omega) (by first | decide | (simp only [pb_cmp]; omega) | simp [pb_cmp]) ?_
          (try refine pb_Ex.run rfl ?_)
          have e1 : j = (F 0 0).toNat := by omega
          have hsr := ya_sum01 (ya_ah01 (F 0) k) j
          subst e1
          refine pb_Ex.icmp_ne rfl (by omega) (by omega) (fun c => ?_) (fun c => ?_)
          · refine pb_Ex.run rfl ?_
            have e2 : ya_rkF (F 0) r k (m + 1) = ya_rkF (F 0) r (k + 1) m := by
              rw [ya_rkF, if_neg]
              unfold ya_bef
              rw [← hs]; exact c
            rw [e2]
            exact ih (k + 1) _ _ _ _ (by omega) (by omega)
          · refine pb_Ex.run rfl ?_
            have e2 : ya_rkF (F 0) r k (m + 1) = k := by
              rw [ya_rkF, if_pos]
              unfold ya_bef
              rw [← hs]; exact c
            rw [e2, if_neg (by omega)]
            refine pb_Ex.iret rfl rfl (by omega) (by omega) (⟨rfl, hW, hf⟩)
        | succ m2 ih2 =>
          intro j s z l5 hj hz hs
          refine pb_Ex.run rfl ?_
          refine pb_Ex.getf rfl rfl hW.1 rfl ?_
          (try refine pb_Ex.run rfl ?_)
          refine pb_Ex.iat (0) rfl hW.2.1 (by omega) (by omega) ?_
          (try refine pb_Ex.run rfl ?_)
          refine pb_Ex.icmpF rfl (by omega) (by omega) (by first | decide | (simp only [pb_cmp]; omega) | simp [pb_cmp]) ?_
          (try refine pb_Ex.run rfl ?_)
          subst hz
          have w1 := ok.wt (k := k) (by omega)
          have w2 := ok.wt (k := j) (by omega)
          refine pb_Ex.pV rfl rfl rfl rfl hW.1 rfl rfl (mo_weight hW k (by omega) (ok.fr (by omega))) (by omega) (by omega) (by omega) ?_
          (try refine pb_Ex.run rfl ?_)
          refine pb_Ex.pV rfl rfl rfl rfl hW.1 rfl rfl (mo_weight hW j (by omega) (ok.fr (by omega))) (by omega) (by omega) (by omega) ?_
          (try refine pb_Ex.run rfl ?_)
          refine pb_Ex.if_gt rfl (by omega) (fun c => ?_) (fun c => ?_)
          · refine pb_Ex.run rfl ?_
            exact ih2 (j + 1) _ _ _ (by omega) (by omega) (by rw [ya_sum_s, hs]; unfold ya_ah; rw [if_pos (Or.inl c)])
          · refine pb_Ex.run rfl ?_
            refine pb_Ex.if_ne rfl (by omega) (fun c2 => ?_) (fun c2 => ?_)
            · refine pb_Ex.run rfl ?_
              exact ih2 (j + 1) _ _ _ (by omega) (by omega) (by rw [ya_sum_s, hs]; unfold ya_ah; rw [if_neg (by omega)])
            · refine pb_Ex.run rfl ?_
              refine pb_Ex.icmp_ge rfl (by omega) (by omega) (fun c3 => ?_) (fun c3 => ?_)
              · refine pb_Ex.run rfl ?_
                exact ih2 (j + 1) _ _ _ (by omega) (by omega) (by rw [ya_sum_s, hs]; unfold ya_ah; rw [if_neg (by omega)])
              · refine pb_Ex.run rfl ?_
                exact ih2 (j + 1) _ _ _ (by omega) (by omega) (by rw [ya_sum_s, hs]; unfold ya_ah; rw [if_pos (Or.inr ⟨c2, by omega⟩)])
      exact inner (F 0 0).toNat 0 0 0 _ (by omega) rfl rfl
  exact outer (F 0 0).toNat 0 0 _ _ _ (by omega) rfl
end MODEL7
