set_option maxRecDepth 100000
theorem sp_miF_out (f : Nat → Int) (k : Nat) : ∀ (j i : Nat), (i < 25 + 28 * k ∨ 25 + 28 * k + 2 * j ≤ i) → sp_miF f k j i = f i
  | 0, _, _ => rfl
  | j + 1, i, h => by
    rw [sp_miF, va_upN _ _ (by omega), va_upN _ _ (by omega)]
    exact sp_miF_out f k j i (by omega)
section MODEL2
variable {G : pb_G} {h : pb_H} {o : Nat} {A : Nat → Nat} {x : Nat → Int} {F : Nat → Nat → Int} {t : Nat}
theorem mo_hullIt (hW : mo_W h o A x F) (ok : ya_ok t (F 0)) : pb_Ctr G mX4_hullIt 3 0 0 [pb_r o] h (mo_Q o A h (some (pb_i (sp_hull (F 0)).2.1)) (mo_S x (sp_hull (F 0)).1) (va_up F 0 (sp_hull (F 0)).2.2)) := by
  have hf : mo_Fr o A h h := mo_Fr.rf
  have := ok.num
  unfold sp_hull
  refine pb_Ctr.of rfl rfl rfl tX4_hullIt_ok rfl ?_
  (try refine pb_Ex.run rfl ?_)
  refine pb_Ex.getf rfl rfl hW.1 rfl ?_
  (try refine pb_Ex.run rfl ?_)
  refine pb_Ex.iat (0) rfl hW.2.1 (by omega) (by omega) ?_
  (try refine pb_Ex.run rfl ?_)
  have hW := hW.s0
  refine pb_Ex.icmp_ne rfl (by omega) (by omega) (fun c => ?_) (fun c => ?_)
  · rw [if_neg c]
    refine pb_Ex.run rfl ?_
    refine pb_Ex.getf rfl rfl hW.1 rfl ?_
    (try refine pb_Ex.run rfl ?_)
    refine pb_Ex.iat (0) rfl hW.m0 (by omega) (by omega) ?_
    (try refine pb_Ex.run rfl ?_)
    refine pb_Ex.ms0 (0) rfl hW hf (by omega) (by omega) (fun h1 hW hf => ?_)
    (try refine pb_Ex.run rfl ?_)
    refine pb_Ex.getf rfl rfl hW.1 rfl ?_
    (try refine pb_Ex.run rfl ?_)
    refine pb_Ex.iat (0) rfl hW.m0 (by omega) (by omega) ?_
    (try refine pb_Ex.run rfl ?_)
    refine pb_Ex.iret rfl rfl (by omega) (by omega) (⟨by rw [va_upS]; show _ = Sum.inl (some (Sum.inl (F 0 0))); congr 3; omega, hW, hf⟩)
  · rw [if_pos c]
    refine pb_Ex.run rfl ?_
    refine pb_Ex.mc rfl rfl rfl rfl hW hf rfl rfl (mo_throwing hW (1)) (by omega) (by omega) (by omega) (fun h1 hW hf => ?_)
    (try refine pb_Ex.run rfl ?_)
    refine pb_Ex.iret rfl rfl (by omega) (by omega) ⟨rfl, hW, hf⟩
theorem mo_cargoIt (hW : mo_W h o A x F) (ok : ya_ok t (F 0)) (z v : Int) (hz : pb_rg z) (hv : pb_rg v) : pb_Ctr G mX4_cargoIt 5 0 0 [pb_r o, pb_i z, pb_i v] h (mo_Q o A h (some (pb_i (sp_cargo (F 0) z v).2.1)) (mo_S x (sp_cargo (F 0) z v).1) (va_up F 0 (sp_cargo (F 0) z v).2.2)) := by
  have hf : mo_Fr o A h h := mo_Fr.rf
  have := ok.num
  unfold sp_cargo
  refine pb_Ctr.of rfl rfl rfl tX4_cargoIt_ok rfl ?_
  (try refine pb_Ex.run rfl ?_)
  refine pb_Ex.pV rfl rfl rfl rfl hW.1 rfl rfl (mo_isHull hW ok z hz) (by omega) (by omega) (by omega) ?_
  (try refine pb_Ex.run rfl ?_)
  unfold mo_in
  by_cases c : 0 ≤ z ∧ z ≤ F 0 0 - 1
  · rw [if_pos c, if_neg (by omega)]
    obtain ⟨k, rfl⟩ := Int.eq_ofNat_of_zero_le c.1
    rw [Int.toNat_natCast]
    refine pb_Ex.ifT rfl (by omega) (by first | decide | (simp only [pb_cmp]; omega) | simp [pb_cmp]) ?_
    (try refine pb_Ex.run rfl ?_)
    refine pb_Ex.i2l rfl (by omega) ?_
    (try refine pb_Ex.run rfl ?_)
    refine pb_Ex.ldc2 rfl rfl rfl ?_
    (try refine pb_Ex.run rfl ?_)
    refine pb_Ex.pS rfl rfl rfl rfl (mo_inn v 0 999 (by omega) (by omega) (by omega)) (by omega) (by omega) (by omega) ?_
    (try refine pb_Ex.run rfl ?_)
    unfold mo_in
    by_cases c2 : 0 ≤ v ∧ v ≤ 999
    · rw [if_pos c2, if_neg (by omega)]
      refine pb_Ex.ifT rfl (by omega) (by first | decide | (simp only [pb_cmp]; omega) | simp [pb_cmp]) ?_
      (try refine pb_Ex.run rfl ?_)
      refine pb_Ex.pV rfl rfl rfl rfl hW.1 rfl rfl (mo_isWorked hW ok k (by omega)) (by omega) (by omega) (by omega) ?_
      (try refine pb_Ex.run rfl ?_)
      by_cases c3 : F 0 (21 + 28 * k) = 0 ∨ F 0 (21 + 28 * k) = 1
      · rw [if_pos c3, if_neg (by omega)]
        refine pb_Ex.ifT rfl (by omega) (by first | decide | (simp only [pb_cmp]; omega) | simp [pb_cmp]) ?_
        (try refine pb_Ex.run rfl ?_)
        refine pb_Ex.getf rfl rfl hW.1 rfl ?_
        (try refine pb_Ex.run rfl ?_)
        refine pb_Ex.pS rfl rfl rfl rfl (mo_hullAt (k : Int)) (by omega) (by omega) (by omega) ?_
        (try refine pb_Ex.run rfl ?_)
        refine pb_Ex.iat (23 + 28 * k) rfl hW.2.1 (by omega) (by omega) ?_
        (try refine pb_Ex.run rfl ?_)
        refine pb_Ex.getf rfl rfl hW.1 rfl ?_
        (try refine pb_Ex.run rfl ?_)
        refine pb_Ex.pS rfl rfl rfl rfl (mo_hullAt (k : Int)) (by omega) (by omega) (by omega) ?_
        (try refine pb_Ex.run rfl ?_)
        have hW := hW.s0
        refine pb_Ex.ms0 (23 + 28 * k) rfl hW hf (by omega) (by omega) (fun h1 hW hf => ?_)
        (try refine pb_Ex.run rfl ?_)
        refine pb_Ex.iret rfl rfl (by omega) (by omega) (⟨rfl, hW, hf⟩)
      · rw [if_neg c3, if_pos c3]
        refine pb_Ex.ifF rfl (by omega) (by first | decide | (simp only [pb_cmp]; omega) | simp [pb_cmp]) ?_
        (try refine pb_Ex.run rfl ?_)
        have hW := hW.s0
        refine pb_Ex.mc rfl rfl rfl rfl hW hf rfl rfl (mo_throwing hW (3)) (by omega) (by omega) (by omega) (fun h1 hW hf => ?_)
        (try refine pb_Ex.run rfl ?_)
        refine pb_Ex.iret rfl rfl (by omega) (by omega) ⟨rfl, hW, hf⟩
    · rw [if_neg c2, if_pos (by omega)]
      refine pb_Ex.ifF rfl (by omega) (by first | decide | (simp only [pb_cmp]; omega) | simp [pb_cmp]) ?_
      (try refine pb_Ex.run rfl ?_)
      have hW := hW.s0
      refine pb_Ex.mc rfl rfl rfl rfl hW hf rfl rfl (mo_throwing hW (2)) (by omega) (by omega) (by omega) (fun h1 hW hf => ?_)
      (try refine pb_Ex.run rfl ?_)
      refine pb_Ex.iret rfl rfl (by omega) (by omega) ⟨rfl, hW, hf⟩
  · rw [if_neg c, if_pos (by omega)]
    refine pb_Ex.ifF rfl (by omega) (by first | decide | (simp only [pb_cmp]; omega) | simp [pb_cmp]) ?_
    (try refine pb_Ex.run rfl ?_)
    have hW := hW.s0
    refine pb_Ex.mc rfl rfl rfl rfl hW hf rfl rfl (mo_throwing hW (1)) (by omega) (by omega) (by omega) (fun h1 hW hf => ?_)
    (try refine pb_Ex.run rfl ?_)
    refine pb_Ex.iret rfl rfl (by omega) (by omega) ⟨rfl, hW, hf⟩
theorem mo_caulkIt (hW : mo_W h o A x F) (ok : ya_ok t (F 0)) (z y : Int) (hz : pb_rg z) (hy : pb_rg y) : pb_Ctr G mX4_caulkIt 6 0 0 [pb_r o, pb_i z, pb_i y] h (mo_Q o A h (some (pb_i (sp_caulk (F 0) z y).2.1)) (mo_S x (sp_caulk (F 0) z y).1) (va_up F 0 (sp_caulk (F 0) z y).2.2)) := by
  have hf : mo_Fr o A h h := mo_Fr.rf
  have := ok.num
  unfold sp_caulk
  refine pb_Ctr.of rfl rfl rfl tX4_caulkIt_ok rfl ?_
  (try refine pb_Ex.run rfl ?_)
  refine pb_Ex.pV rfl rfl rfl rfl hW.1 rfl rfl (mo_isSeam hW ok z y hz hy) (by omega) (by omega) (by omega) ?_
  (try refine pb_Ex.run rfl ?_)
  by_cases c : (0 ≤ z ∧ z < F 0 0) ∧ 0 ≤ y ∧ y < ya_se (F 0) z.toNat
  · rw [if_pos c, if_neg (by omega)]
    obtain ⟨k, rfl⟩ := Int.eq_ofNat_of_zero_le c.1.1
    obtain ⟨s, rfl⟩ := Int.eq_ofNat_of_zero_le c.2.1
    rw [Int.toNat_natCast] at c ⊢
    rw [Int.toNat_natCast]
    have h9 := (ok.fr (k := k) (by omega)).se
    refine pb_Ex.ifT rfl (by omega) (by first | decide | (simp only [pb_cmp]; omega) | simp [pb_cmp]) ?_
    (try refine pb_Ex.run rfl ?_)
    refine pb_Ex.pV rfl rfl rfl rfl hW.1 rfl rfl (mo_isWorked hW ok k (by omega)) (by omega) (by omega) (by omega) ?_
    (try refine pb_Ex.run rfl ?_)
    by_cases c3 : F 0 (21 + 28 * k) = 0 ∨ F 0 (21 + 28 * k) = 1
    · rw [if_pos c3, if_neg (by omega)]
      refine pb_Ex.ifT rfl (by omega) (by first | decide | (simp only [pb_cmp]; omega) | simp [pb_cmp]) ?_
      (try refine pb_Ex.run rfl ?_)
      refine pb_Ex.getf rfl rfl hW.1 rfl ?_
      (try refine pb_Ex.run rfl ?_)
      refine pb_Ex.pS rfl rfl rfl rfl (mo_hullAt (k : Int)) (by omega) (by omega) (by omega) ?_
      (try refine pb_Ex.run rfl ?_)
      refine pb_Ex.iat (41 + 28 * k + s) rfl hW.2.1 (by omega) (by omega) ?_
      (try refine pb_Ex.run rfl ?_)
      refine pb_Ex.getf rfl rfl hW.1 rfl ?_
      (try refine pb_Ex.run rfl ?_)
      refine pb_Ex.pS rfl rfl rfl rfl (mo_hullAt (k : Int)) (by omega) (by omega) (by omega) ?_
      (try refine pb_Ex.run rfl ?_)
      have hW := hW.s0
      refine pb_Ex.ms0 (41 + 28 * k + s) rfl hW hf (by omega) (by omega) (fun h1 hW hf => ?_)
      (try refine pb_Ex.run rfl ?_)
      refine pb_Ex.iret rfl rfl (by omega) (by omega) (⟨rfl, hW, hf⟩)
    · rw [if_neg c3, if_pos c3]
      refine pb_Ex.ifF rfl (by omega) (by first | decide | (simp only [pb_cmp]; omega) | simp [pb_cmp]) ?_
      (try refine pb_Ex.run rfl ?_)
      have hW := hW.s0
      refine pb_Ex.mc rfl rfl rfl rfl hW hf rfl rfl (mo_throwing hW (2)) (by omega) (by omega) (by omega) (fun h1 hW hf => ?_)
      (try refine pb_Ex.run rfl ?_)
      refine pb_Ex.iret rfl rfl (by omega) (by omega) ⟨rfl, hW, hf⟩
  · rw [if_neg c, if_pos c]
    refine pb_Ex.ifF rfl (by omega) (by first | decide | (simp only [pb_cmp]; omega) | simp [pb_cmp]) ?_
    (try refine pb_Ex.run rfl ?_)
    have hW := hW.s0
    refine pb_Ex.mc rfl rfl rfl rfl hW hf rfl rfl (mo_throwing hW (1)) (by omega) (by omega) (by omega) (fun h1 hW hf => ?_)
    (try refine pb_Ex.run rfl ?_)
    refine pb_Ex.iret rfl rfl (by omega) (by omega) ⟨rfl, hW, hf⟩
theorem mo_pumpIt (hW : mo_W h o A x F) (ok : ya_ok t (F 0)) (z v : Int) (hz : pb_rg z) (hv : pb_rg v) : pb_Ctr G mX4_pumpIt 5 0 0 [pb_r o, pb_i z, pb_i v] h (mo_Q o A h (some (pb_i (sp_pump (F 0) z v).2.1)) (mo_S x (sp_pump (F 0) z v).1) (va_up F 0 (sp_pump (F 0) z v).2.2)) := by
  have hf : mo_Fr o A h h := mo_Fr.rf
  have := ok.num
  unfold sp_pump
  refine pb_Ctr.of rfl rfl rfl tX4_pumpIt_ok rfl ?_
  (try refine pb_Ex.run rfl ?_)
  refine pb_Ex.pV rfl rfl rfl rfl hW.1 rfl rfl (mo_isHull hW ok z hz) (by omega) (by omega) (by omega) ?_
  (try refine pb_Ex.run rfl ?_)
  unfold mo_in
  by_cases c : 0 ≤ z ∧ z ≤ F 0 0 - 1
  · rw [if_pos c, if_neg (by omega)]
    obtain ⟨k, rfl⟩ := Int.eq_ofNat_of_zero_le c.1
    rw [Int.toNat_natCast]
    have hh := ok.hull (k := k) (by omega)
    refine pb_Ex.ifT rfl (by omega) (by first | decide | (simp only [pb_cmp]; omega) | simp [pb_cmp]) ?_
    (try refine pb_Ex.run rfl ?_)
    refine pb_Ex.i2l rfl (by omega) ?_
    (try refine pb_Ex.run rfl ?_)
    refine pb_Ex.ldc2 rfl rfl rfl ?_
    (try refine pb_Ex.run rfl ?_)
    refine pb_Ex.pS rfl rfl rfl rfl (mo_inn v 1 999 (by omega) (by omega) (by omega)) (by omega) (by omega) (by omega) ?_
    (try refine pb_Ex.run rfl ?_)
    unfold mo_in
    by_cases c2 : 1 ≤ v ∧ v ≤ 999
    · rw [if_pos c2, if_neg (by omega)]
      refine pb_Ex.ifT rfl (by omega) (by first | decide | (simp only [pb_cmp]; omega) | simp [pb_cmp]) ?_
      (try refine pb_Ex.run rfl ?_)
      refine pb_Ex.pV rfl rfl rfl rfl hW.1 rfl rfl (mo_state hW k (by omega)) (by omega) (by omega) (by omega) ?_
      (try refine pb_Ex.run rfl ?_)
      refine pb_Ex.icmp_eq rfl (by omega) (by omega) (fun c3 => ?_) (fun c3 => ?_)
      · rw [if_neg (by omega)]
        refine pb_Ex.run rfl ?_
        refine pb_Ex.getf rfl rfl hW.1 rfl ?_
        (try refine pb_Ex.run rfl ?_)
        refine pb_Ex.pS rfl rfl rfl rfl (mo_hullAt (k : Int)) (by omega) (by omega) (by omega) ?_
        (try refine pb_Ex.run rfl ?_)
        refine pb_Ex.getf rfl rfl hW.1 rfl ?_
        (try refine pb_Ex.run rfl ?_)
        refine pb_Ex.pS rfl rfl rfl rfl (mo_hullAt (k : Int)) (by omega) (by omega) (by omega) ?_
        (try refine pb_Ex.run rfl ?_)
        refine pb_Ex.iat (24 + 28 * k) rfl hW.2.1 (by omega) (by omega) ?_
        (try refine pb_Ex.run rfl ?_)
        refine pb_Ex.mmax rfl rfl (by omega) (by omega) rfl (by omega) (by omega) (by omega) ?_
        (try refine pb_Ex.run rfl ?_)
        have hW := hW.s0
        refine pb_Ex.ms0 (24 + 28 * k) rfl hW hf (by omega) (by omega) (fun h1 hW hf => ?_)
        (try refine pb_Ex.run rfl ?_)
        refine pb_Ex.getf rfl rfl hW.1 rfl ?_
        (try refine pb_Ex.run rfl ?_)
        refine pb_Ex.pS rfl rfl rfl rfl (mo_hullAt (k : Int)) (by omega) (by omega) (by omega) ?_
        (try refine pb_Ex.run rfl ?_)
        refine pb_Ex.iat (24 + 28 * k) rfl hW.m0 (by omega) (by omega) ?_
        (try refine pb_Ex.run rfl ?_)
        refine pb_Ex.iret rfl rfl (by omega) (by omega) (⟨by rw [va_upS], hW, hf⟩)
      · rw [if_pos (by omega)]
        refine pb_Ex.run rfl ?_
        have hW := hW.s0
        refine pb_Ex.mc rfl rfl rfl rfl hW hf rfl rfl (mo_throwing hW (3)) (by omega) (by omega) (by omega) (fun h1 hW hf => ?_)
        (try refine pb_Ex.run rfl ?_)
        refine pb_Ex.iret rfl rfl (by omega) (by omega) ⟨rfl, hW, hf⟩
    · rw [if_neg c2, if_pos (by omega)]
      refine pb_Ex.ifF rfl (by omega) (by first | decide | (simp only [pb_cmp]; omega) | simp [pb_cmp]) ?_
      (try refine pb_Ex.run rfl ?_)
      have hW := hW.s0
      refine pb_Ex.mc rfl rfl rfl rfl hW hf rfl rfl (mo_throwing hW (2)) (by omega) (by omega) (by omega) (fun h1 hW hf => ?_)
      (try refine pb_Ex.run rfl ?_)
      refine pb_Ex.iret rfl rfl (by omega) (by omega) ⟨rfl, hW, hf⟩
  · rw [if_neg c, if_pos (by omega)]
    refine pb_Ex.ifF rfl (by omega) (by first | decide | (simp only [pb_cmp]; omega) | simp [pb_cmp]) ?_
    (try refine pb_Ex.run rfl ?_)
    have hW := hW.s0
    refine pb_Ex.mc rfl rfl rfl rfl hW hf rfl rfl (mo_throwing hW (1)) (by omega) (by omega) (by omega) (fun h1 hW hf => ?_)
    (try refine pb_Ex.run rfl ?_)
    refine pb_Ex.iret rfl rfl (by omega) (by omega) ⟨rfl, hW, hf⟩
theorem mo_tideIt (hW : mo_W h o A x F) (i v : Int) (hi : pb_rg i) (hv : pb_rg v) : pb_Ctr G mX4_tideIt 5 0 0 [pb_r o, pb_i i, pb_i v] h (mo_Q o A h (some (pb_i (sp_tide (F 0) i v).2.1)) (mo_S x (sp_tide (F 0) i v).1) (va_up F 0 (sp_tide (F 0) i v).2.2)) := by
  have hf : mo_Fr o A h h := mo_Fr.rf
  unfold sp_tide
  refine pb_Ctr.of rfl rfl rfl tX4_tideIt_ok rfl ?_
  (try refine pb_Ex.run rfl ?_)
  refine pb_Ex.i2l rfl (by omega) ?_
  (try refine pb_Ex.run rfl ?_)
  refine pb_Ex.ldc2 rfl rfl rfl ?_
  (try refine pb_Ex.run rfl ?_)
  refine pb_Ex.pS rfl rfl rfl rfl (mo_inn i 0 11 (by omega) (by omega) (by omega)) (by omega) (by omega) (by omega) ?_
  (try refine pb_Ex.run rfl ?_)
  unfold mo_in
  by_cases c : 0 ≤ i ∧ i ≤ 11
  · rw [if_pos c]
    obtain ⟨k, rfl⟩ := Int.eq_ofNat_of_zero_le c.1
    rw [Int.toNat_natCast]
    refine pb_Ex.ifF rfl (by omega) (by first | decide | (simp only [pb_cmp]; omega) | simp [pb_cmp]) ?_
    (try refine pb_Ex.run rfl ?_)
    refine pb_Ex.i2l rfl (by omega) ?_
    (try refine pb_Ex.run rfl ?_)
    refine pb_Ex.ldc2 rfl rfl rfl ?_
    (try refine pb_Ex.run rfl ?_)
    refine pb_Ex.pS rfl rfl rfl rfl (mo_inn v 0 50 (by omega) (by omega) (by omega)) (by omega) (by omega) (by omega) ?_
    (try refine pb_Ex.run rfl ?_)
    unfold mo_in
    by_cases c2 : 0 ≤ v ∧ v ≤ 50
    · rw [if_pos c2, if_neg (by omega)]
      refine pb_Ex.ifT rfl (by omega) (by first | decide | (simp only [pb_cmp]; omega) | simp [pb_cmp]) ?_
      (try refine pb_Ex.run rfl ?_)
      refine pb_Ex.getf rfl rfl hW.1 rfl ?_
      (try refine pb_Ex.run rfl ?_)
      refine pb_Ex.iat (5 + k) rfl hW.2.1 (by omega) (by omega) ?_
      (try refine pb_Ex.run rfl ?_)
      refine pb_Ex.getf rfl rfl hW.1 rfl ?_
      (try refine pb_Ex.run rfl ?_)
      have hW := hW.s0
      refine pb_Ex.ms0 (5 + k) rfl hW hf (by omega) (by omega) (fun h1 hW hf => ?_)
      (try refine pb_Ex.run rfl ?_)
      refine pb_Ex.iret rfl rfl (by omega) (by omega) (⟨rfl, hW, hf⟩)
    · rw [if_neg c2, if_pos (by omega)]
      refine pb_Ex.ifF rfl (by omega) (by first | decide | (simp only [pb_cmp]; omega) | simp [pb_cmp]) ?_
      (try refine pb_Ex.run rfl ?_)
      have hW := hW.s0
      refine pb_Ex.mc rfl rfl rfl rfl hW hf rfl rfl (mo_throwing hW (1)) (by omega) (by omega) (by omega) (fun h1 hW hf => ?_)
      (try refine pb_Ex.run rfl ?_)
      refine pb_Ex.iret rfl rfl (by omega) (by omega) ⟨rfl, hW, hf⟩
  · rw [if_neg c, if_pos (by omega)]
    refine pb_Ex.ifT rfl (by omega) (by first | decide | (simp only [pb_cmp]; omega) | simp [pb_cmp]) ?_
    (try refine pb_Ex.run rfl ?_)
    have hW := hW.s0
    refine pb_Ex.mc rfl rfl rfl rfl hW hf rfl rfl (mo_throwing hW (1)) (by omega) (by omega) (by omega) (fun h1 hW hf => ?_)
    (try refine pb_Ex.run rfl ?_)
    refine pb_Ex.iret rfl rfl (by omega) (by omega) ⟨rfl, hW, hf⟩
theorem mo_frameIt (hW : mo_W h o A x F) (ok : ya_ok t (F 0)) (z l r : Int) (hz : pb_rg z) (hl : pb_rg l) (hr : pb_rg r) : pb_Ctr G mX4_frameIt 5 0 0 [pb_r o, pb_i z, pb_i l, pb_i r] h (mo_Q o A h (some (pb_i (sp_frame (F 0) z l r).2.1)) (mo_S x (sp_frame (F 0) z l r).1) (va_up F 0 (sp_frame (F 0) z l r).2.2)) := by
  have hf : mo_Fr o A h h := mo_Fr.rf
  have := ok.num
  unfold sp_frame
  refine pb_Ctr.of rfl rfl rfl tX4_frameIt_ok rfl ?_
  (try refine pb_Ex.run rfl ?_)
  refine pb_Ex.pV rfl rfl rfl rfl hW.1 rfl rfl (mo_isHull hW ok z hz) (by omega) (by omega) (by omega) ?_
  (try refine pb_Ex.run rfl ?_)
  unfold mo_in
  by_cases c : 0 ≤ z ∧ z ≤ F 0 0 - 1
  · rw [if_pos c, if_neg (by omega)]
    obtain ⟨k, rfl⟩ := Int.eq_ofNat_of_zero_le c.1
    rw [Int.toNat_natCast]
    have hh := ok.hull (k := k) (by omega)
    have hn := (ok.fr (k := k) (by omega)).nn
    refine pb_Ex.ifT rfl (by omega) (by first | decide | (simp only [pb_cmp]; omega) | simp [pb_cmp]) ?_
    (try refine pb_Ex.run rfl ?_)
    refine pb_Ex.i2l rfl (by omega) ?_
    (try refine pb_Ex.run rfl ?_)
    refine pb_Ex.ldc2 rfl rfl rfl ?_
    (try refine pb_Ex.run rfl ?_)
    refine pb_Ex.pS rfl rfl rfl rfl (mo_inn l 1 30 (by omega) (by omega) (by omega)) (by omega) (by omega) (by omega) ?_
    (try refine pb_Ex.run rfl ?_)
    unfold mo_in
    by_cases c2 : 1 ≤ l ∧ l ≤ 30
    · rw [if_pos c2]
      refine pb_Ex.ifF rfl (by omega) (by first | decide | (simp only [pb_cmp]; omega) | simp [pb_cmp]) ?_
      (try refine pb_Ex.run rfl ?_)
      refine pb_Ex.i2l rfl (by omega) ?_
      (try refine pb_Ex.run rfl ?_)
      refine pb_Ex.ldc2 rfl rfl rfl ?_
      (try refine pb_Ex.run rfl ?_)
      refine pb_Ex.pS rfl rfl rfl rfl (mo_inn r 1 30 (by omega) (by omega) (by omega)) (by omega) (by omega) (by omega) ?_
      (try refine pb_Ex.run rfl ?_)
      unfold mo_in
      by_cases c3 : 1 ≤ r ∧ r ≤ 30
      · rw [if_pos c3, if_neg (by omega)]
        refine pb_Ex.ifT rfl (by omega) (by first | decide | (simp only [pb_cmp]; omega) | simp [pb_cmp]) ?_
        (try refine pb_Ex.run rfl ?_)
        refine pb_Ex.pV rfl rfl rfl rfl hW.1 rfl rfl (mo_state hW k (by omega)) (by omega) (by omega) (by omega) ?_
        (try refine pb_Ex.run rfl ?_)
        refine pb_Ex.if_ne rfl (by omega) (fun c4 => ?_) (fun c4 => ?_)
        · rw [if_pos (Or.inl c4)]
          refine pb_Ex.run rfl ?_
          have hW := hW.s0
          refine pb_Ex.mc rfl rfl rfl rfl hW hf rfl rfl (mo_throwing hW (3)) (by omega) (by omega) (by omega) (fun h1 hW hf => ?_)
          (try refine pb_Ex.run rfl ?_)
          refine pb_Ex.iret rfl rfl (by omega) (by omega) ⟨rfl, hW, hf⟩
        · refine pb_Ex.run rfl ?_
          refine pb_Ex.pV rfl rfl rfl rfl hW.1 rfl rfl (mo_frames hW k (by omega)) (by omega) (by omega) (by omega) ?_
          (try refine pb_Ex.run rfl ?_)
          refine pb_Ex.icmp_ne rfl (by omega) (by omega) (fun c5 => ?_) (fun c5 => ?_)
          · rw [if_neg (by omega)]
            refine pb_Ex.run rfl ?_
            refine pb_Ex.pV rfl rfl rfl rfl hW.1 rfl rfl (mo_frames hW k (by omega)) (by omega) (by omega) (by omega) ?_
            (try refine pb_Ex.run rfl ?_)
            refine pb_Ex.getf rfl rfl hW.1 rfl ?_
            (try refine pb_Ex.run rfl ?_)
            refine pb_Ex.pS rfl rfl rfl rfl (mo_hullAt (k : Int)) (by omega) (by omega) (by omega) ?_
            (try refine pb_Ex.run rfl ?_)
            have hW := hW.s0
            rw [hn.1]
            refine pb_Ex.ms0 (25 + 28 * k + 2 * ya_n (F 0) k) rfl hW hf (by omega) (by omega) (fun h1 hW hf => ?_)
            (try refine pb_Ex.run rfl ?_)
            refine pb_Ex.getf rfl rfl hW.1 rfl ?_
            (try refine pb_Ex.run rfl ?_)
            refine pb_Ex.pS rfl rfl rfl rfl (mo_hullAt (k : Int)) (by omega) (by omega) (by omega) ?_
            (try refine pb_Ex.run rfl ?_)
            refine pb_Ex.ms0 (26 + 28 * k + 2 * ya_n (F 0) k) rfl hW hf (by omega) (by omega) (fun h1 hW hf => ?_)
            (try refine pb_Ex.run rfl ?_)
            refine pb_Ex.getf rfl rfl hW.1 rfl ?_
            (try refine pb_Ex.run rfl ?_)
            refine pb_Ex.pS rfl rfl rfl rfl (mo_hullAt (k : Int)) (by omega) (by omega) (by omega) ?_
            (try refine pb_Ex.run rfl ?_)
            refine pb_Ex.iat (22 + 28 * k) rfl hW.m0 (by omega) (by omega) ?_
            (try refine pb_Ex.run rfl ?_)
            rw [va_upN _ _ (by omega), va_upN _ _ (by omega), hn.1]
            refine pb_Ex.ms0 (22 + 28 * k) rfl hW hf (by omega) (by omega) (fun h1 hW hf => ?_)
            (try refine pb_Ex.run rfl ?_)
            refine pb_Ex.if_le rfl (by omega) (fun c6 => ?_) (fun c6 => ?_)
            · rw [if_neg (by omega)]
              refine pb_Ex.run rfl ?_
              refine pb_Ex.iret rfl rfl (by omega) (by omega) (⟨rfl, hW, hf⟩)
            · rw [if_pos (by omega)]
              refine pb_Ex.run rfl ?_
              refine pb_Ex.getf rfl rfl hW.1 rfl ?_
              (try refine pb_Ex.run rfl ?_)
              refine pb_Ex.pS rfl rfl rfl rfl (mo_hullAt (k : Int)) (by omega) (by omega) (by omega) ?_
              (try refine pb_Ex.run rfl ?_)
              refine pb_Ex.ms0 (40 + 28 * k + ya_n (F 0) k) rfl hW hf (by omega) (by omega) (fun h1 hW hf => ?_)
              (try refine pb_Ex.run rfl ?_)
              refine pb_Ex.iret rfl rfl (by omega) (by omega) (⟨rfl, hW, hf⟩)
          · rw [if_pos (Or.inr c5)]
            refine pb_Ex.run rfl ?_
            have hW := hW.s0
            refine pb_Ex.mc rfl rfl rfl rfl hW hf rfl rfl (mo_throwing hW (3)) (by omega) (by omega) (by omega) (fun h1 hW hf => ?_)
            (try refine pb_Ex.run rfl ?_)
            refine pb_Ex.iret rfl rfl (by omega) (by omega) ⟨rfl, hW, hf⟩
      · rw [if_neg c3, if_pos (by omega)]
        refine pb_Ex.ifF rfl (by omega) (by first | decide | (simp only [pb_cmp]; omega) | simp [pb_cmp]) ?_
        (try refine pb_Ex.run rfl ?_)
        have hW := hW.s0
        refine pb_Ex.mc rfl rfl rfl rfl hW hf rfl rfl (mo_throwing hW (2)) (by omega) (by omega) (by omega) (fun h1 hW hf => ?_)
        (try refine pb_Ex.run rfl ?_)
        refine pb_Ex.iret rfl rfl (by omega) (by omega) ⟨rfl, hW, hf⟩
    · rw [if_neg c2, if_pos (by omega)]
      refine pb_Ex.ifT rfl (by omega) (by first | decide | (simp only [pb_cmp]; omega) | simp [pb_cmp]) ?_
      (try refine pb_Ex.run rfl ?_)
      have hW := hW.s0
      refine pb_Ex.mc rfl rfl rfl rfl hW hf rfl rfl (mo_throwing hW (2)) (by omega) (by omega) (by omega) (fun h1 hW hf => ?_)
      (try refine pb_Ex.run rfl ?_)
      refine pb_Ex.iret rfl rfl (by omega) (by omega) ⟨rfl, hW, hf⟩
  · rw [if_neg c, if_pos (by omega)]
    refine pb_Ex.ifF rfl (by omega) (by first | decide | (simp only [pb_cmp]; omega) | simp [pb_cmp]) ?_
    (try refine pb_Ex.run rfl ?_)
    have hW := hW.s0
    refine pb_Ex.mc rfl rfl rfl rfl hW hf rfl rfl (mo_throwing hW (1)) (by omega) (by omega) (by omega) (fun h1 hW hf => ?_)
    (try refine pb_Ex.run rfl ?_)
    refine pb_Ex.iret rfl rfl (by omega) (by omega) ⟨rfl, hW, hf⟩
theorem mo_mirrorIt (hW : mo_W h o A x F) (ok : ya_ok t (F 0)) (z : Int) (hz : pb_rg z) : pb_Ctr G mX4_mirrorIt 5 0 0 [pb_r o, pb_i z] h (mo_Q o A h (some (pb_i (sp_mirror (F 0) z).2.1)) (mo_S x (sp_mirror (F 0) z).1) (va_up F 0 (sp_mirror (F 0) z).2.2)) := by
  have hf : mo_Fr o A h h := mo_Fr.rf
  have := ok.num
  unfold sp_mirror
  refine pb_Ctr.of rfl rfl rfl tX4_mirrorIt_ok rfl ?_
  (try refine pb_Ex.run rfl ?_)
  refine pb_Ex.pV rfl rfl rfl rfl hW.1 rfl rfl (mo_isHull hW ok z hz) (by omega) (by omega) (by omega) ?_
  (try refine pb_Ex.run rfl ?_)
  unfold mo_in
  by_cases c : 0 ≤ z ∧ z ≤ F 0 0 - 1
  · rw [if_pos c, if_neg (by omega)]
    obtain ⟨k, rfl⟩ := Int.eq_ofNat_of_zero_le c.1
    rw [Int.toNat_natCast]
    have hh := ok.hull (k := k) (by omega)
    have hn := (ok.fr (k := k) (by omega)).nn
    refine pb_Ex.ifT rfl (by omega) (by first | decide | (simp only [pb_cmp]; omega) | simp [pb_cmp]) ?_
    (try refine pb_Ex.run rfl ?_)
    refine pb_Ex.pV rfl rfl rfl rfl hW.1 rfl rfl (mo_state hW k (by omega)) (by omega) (by omega) (by omega) ?_
    (try refine pb_Ex.run rfl ?_)
    refine pb_Ex.if_eq rfl (by omega) (fun c4 => ?_) (fun c4 => ?_)
    · rw [if_neg (by omega)]
      refine pb_Ex.run rfl ?_
      have loop : ∀ (m j : Nat) (h' : pb_H) (F' : Nat → Nat → Int) (s z : Int) (l4 l5 : Option pb_V), j + m = ya_n (F 0) k → z = j → s = sp_miC (F 0) k j → F' = va_up F 0 (sp_miF (F 0) k j) → mo_W h' o A x F' → mo_Fr o A h h' → pb_Ex G mX4_mirrorIt 5 0 0 (mo_Q o A h (some (pb_i (sp_miC (F 0) k (ya_n (F 0) k)))) x (va_up F 0 (sp_miF (F 0) k (ya_n (F 0) k)))) 0 0 32 [some (pb_r o), some (pb_i k), some (pb_i s), some (pb_i z), l4, l5] [] h' := by
        intro m
        induction m with
        | zero =>
          intro j h' F' s z l4 l5 hj hz hs hF' hW hf
          have e0 : F' 0 = sp_miF (F 0) k j := by rw [hF', va_upS]
          refine pb_Ex.run rfl ?_
          refine pb_Ex.pV rfl rfl rfl rfl hW.1 rfl rfl (mo_frames hW k (by omega)) (by omega) (by omega) (by omega) ?_
          (try refine pb_Ex.run rfl ?_)
          rw [e0, sp_miF_out _ _ _ _ (by omega), hn.1]
          refine pb_Ex.icmpT rfl (by omega) (by omega) (by first | decide | (simp only [pb_cmp]; omega) | simp [pb_cmp]) ?_
          (try refine pb_Ex.run rfl ?_)
          have e1 : j = ya_n (F 0) k := by omega
          subst e1 hF' hs
          refine pb_Ex.iret rfl rfl (by omega) (by omega) (⟨rfl, hW, hf⟩)
        | succ m ih =>
          intro j h' F' s z l4 l5 hj hz hs hF' hW hf
          have e0 : F' 0 = sp_miF (F 0) k j := by rw [hF', va_upS]
          refine pb_Ex.run rfl ?_
          refine pb_Ex.pV rfl rfl rfl rfl hW.1 rfl rfl (mo_frames hW k (by omega)) (by omega) (by omega) (by omega) ?_
          (try refine pb_Ex.run rfl ?_)
          rw [e0, sp_miF_out _ _ _ _ (by omega), hn.1]
          refine pb_Ex.icmpF rfl (by omega) (by omega) (by first | decide | (simp only [pb_cmp]; omega) | simp [pb_cmp]) ?_
          (try refine pb_Ex.run rfl ?_)
          subst hz
          refine pb_Ex.pV rfl rfl rfl rfl hW.1 rfl rfl (mo_width hW k j 0 (by omega) (by omega) (by omega)) (by omega) (by omega) (by omega) ?_
          (try refine pb_Ex.run rfl ?_)
          refine pb_Ex.pV rfl rfl rfl rfl hW.1 rfl rfl (mo_width hW k j 1 (by omega) (by omega) (by omega)) (by omega) (by omega) (by omega) ?_
          (try refine pb_Ex.run rfl ?_)
          rw [e0]
          refine pb_Ex.getf rfl rfl hW.1 rfl ?_
          (try refine pb_Ex.run rfl ?_)
          refine pb_Ex.pS rfl rfl rfl rfl (mo_hullAt (k : Int)) (by omega) (by omega) (by omega) ?_
          (try refine pb_Ex.run rfl ?_)
          subst hF'
          refine pb_Ex.ms0 (25 + 28 * k + 2 * j) rfl hW hf (by omega) (by omega) (fun h1 hW hf => ?_)
          (try refine pb_Ex.run rfl ?_)
          refine pb_Ex.getf rfl rfl hW.1 rfl ?_
          (try refine pb_Ex.run rfl ?_)
          refine pb_Ex.pS rfl rfl rfl rfl (mo_hullAt (k : Int)) (by omega) (by omega) (by omega) ?_
          (try refine pb_Ex.run rfl ?_)
          refine pb_Ex.ms0 (26 + 28 * k + 2 * j) rfl hW hf (by omega) (by omega) (fun h1 hW hf => ?_)
          (try refine pb_Ex.run rfl ?_)
          have w1 := ok.wid (k := k) (by omega) (j := 2 * j) (by omega)
          have w2 := ok.wid (k := k) (by omega) (j := 2 * j + 1) (by omega)
          have q1 : sp_miF (F 0) k j (25 + 28 * k + 2 * j + 0) = F 0 (25 + 28 * k + 2 * j) := sp_miF_out _ _ _ _ (by omega)
          have q2 : sp_miF (F 0) k j (25 + 28 * k + 2 * j + 1) = F 0 (25 + 28 * k + (2 * j + 1)) := sp_miF_out _ _ _ _ (by omega)
          have r1 : pb_rg (sp_miF (F 0) k j (25 + 28 * k + 2 * j + 0)) := by rw [q1]; omega
          have r2 : pb_rg (sp_miF (F 0) k j (25 + 28 * k + 2 * j + 1)) := by rw [q2]; omega
          refine pb_Ex.icmp_ne rfl r1 r2 (fun c9 => ?_) (fun c9 => ?_)
          · refine pb_Ex.run rfl ?_
            exact ih (j + 1) _ _ _ _ _ _ (by omega) (by omega) (by rw [sp_miC, if_neg c9, hs]) rfl hW hf
          · refine pb_Ex.run rfl ?_
            exact ih (j + 1) _ _ _ _ _ _ (by omega) (by omega) (by rw [sp_miC, if_pos c9, hs]) rfl hW hf
      exact loop (ya_n (F 0) k) 0 h (va_up F 0 (F 0)) 0 0 _ _ (by omega) rfl rfl rfl hW.s0 mo_Fr.rf
    · rw [if_pos (by omega)]
      refine pb_Ex.run rfl ?_
      have hW := hW.s0
      refine pb_Ex.mc rfl rfl rfl rfl hW hf rfl rfl (mo_throwing hW (2)) (by omega) (by omega) (by omega) (fun h1 hW hf => ?_)
      (try refine pb_Ex.run rfl ?_)
      refine pb_Ex.iret rfl rfl (by omega) (by omega) ⟨rfl, hW, hf⟩
  · rw [if_neg c, if_pos (by omega)]
    refine pb_Ex.ifF rfl (by omega) (by first | decide | (simp only [pb_cmp]; omega) | simp [pb_cmp]) ?_
    (try refine pb_Ex.run rfl ?_)
    have hW := hW.s0
    refine pb_Ex.mc rfl rfl rfl rfl hW hf rfl rfl (mo_throwing hW (1)) (by omega) (by omega) (by omega) (fun h1 hW hf => ?_)
    (try refine pb_Ex.run rfl ?_)
    refine pb_Ex.iret rfl rfl (by omega) (by omega) ⟨rfl, hW, hf⟩
end MODEL2
