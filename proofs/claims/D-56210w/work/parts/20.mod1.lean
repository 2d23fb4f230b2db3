set_option maxRecDepth 100000
section MODEL1
variable {G : pb_G} {h : pb_H} {o : Nat} {A : Nat → Nat} {x : Nat → Int} {F : Nat → Nat → Int} {t : Nat}
theorem mo_thrown (hW : mo_W h o A x F) : pb_Ctr G mX4_thrown 1 0 0 [pb_r o] h (pb_P (some (pb_i (x 9))) h) := by
  refine pb_Ctr.of rfl rfl rfl tX4_thrown_ok rfl ?_
  (try refine pb_Ex.run rfl ?_)
  refine pb_Ex.getf rfl rfl hW.1 rfl ?_
  (try refine pb_Ex.run rfl ?_)
  refine pb_Ex.iret rfl rfl (by omega) (by omega) (⟨rfl, rfl⟩)
theorem mo_throwing (hW : mo_W h o A x F) (z : Int) : pb_Ctr G mX4_throwing 1 0 0 [pb_r o, pb_i z] h (mo_Q o A h (some (pb_i (-1))) (va_up x 9 z) F) := by
  have hf : mo_Fr o A h h := mo_Fr.rf
  refine pb_Ctr.of rfl rfl rfl tX4_throwing_ok rfl ?_
  (try refine pb_Ex.run rfl ?_)
  refine pb_Ex.mput (x' := va_up x 9 z) rfl rfl hW hf rfl rfl (by first | trivial | exact Or.inl rfl | exact Or.inr rfl | (show _ ∨ _; omega)) (fun h1 hW hf => ?_)
  (try refine pb_Ex.run rfl ?_)
  refine pb_Ex.iret rfl rfl (by omega) (by omega) (⟨rfl, hW, hf⟩)
theorem mo_hullAt (z : Int) : pb_Ctr G mX4_hullAt 1 0 0 [pb_i z] h (pb_P (some (pb_i (21 + 28 * z))) h) := by
  refine pb_Ctr.of rfl rfl rfl tX4_hullAt_ok rfl ?_
  (try refine pb_Ex.run rfl ?_)
  refine pb_Ex.iret rfl rfl (by omega) (by omega) (⟨rfl, rfl⟩)
/-- in(v, low, high) -/
def mo_in (v a b : Int) : Int := if a ≤ v ∧ v ≤ b then 1 else 0
theorem mo_in01 (v a b : Int) : mo_in v a b = 0 ∨ mo_in v a b = 1 := by unfold mo_in; split <;> omega
theorem mo_inn (v a b : Int) (hv : pb_rgJ v) (ha : pb_rgJ a) (hb : pb_rgJ b) : pb_Ctr G mX4_in 1 0 0 [pb_j v, pb_j a, pb_j b] h (pb_P (some (pb_i (mo_in v a b))) h) := by
  refine pb_Ctr.of rfl rfl rfl tX4_in_ok rfl ?_
  (try refine pb_Ex.run rfl ?_)
  refine pb_Ex.lcmp rfl (by omega) (by omega) ?_
  (try refine pb_Ex.run rfl ?_)
  refine pb_Ex.if_lt rfl (pb_lc_rg _ _) (fun c => ?_) (fun c => ?_)
  · rw [pb_lc_lt] at c
    refine pb_Ex.run rfl ?_
    refine pb_Ex.zret (ty := .boolean) rfl rfl (pb_nb (Or.inl rfl)).1 (by omega) (by omega) (⟨by unfold mo_in; rw [if_neg (by omega)], rfl⟩)
  · have c : ¬ v < a := fun q => by rw [← pb_lc_lt] at q; omega
    refine pb_Ex.run rfl ?_
    refine pb_Ex.lcmp rfl (by omega) (by omega) ?_
    (try refine pb_Ex.run rfl ?_)
    refine pb_Ex.if_gt rfl (pb_lc_rg _ _) (fun c2 => ?_) (fun c2 => ?_)
    · rw [pb_lc_gt] at c2
      refine pb_Ex.run rfl ?_
      refine pb_Ex.zret (ty := .boolean) rfl rfl (pb_nb (Or.inl rfl)).1 (by omega) (by omega) (⟨by unfold mo_in; rw [if_neg (by omega)], rfl⟩)
    · have c2 : ¬ b < v := fun q => by rw [← pb_lc_gt] at q; omega
      refine pb_Ex.run rfl ?_
      refine pb_Ex.zret (ty := .boolean) rfl rfl (pb_nb (Or.inr rfl)).1 (by omega) (by omega) (⟨by unfold mo_in; rw [if_pos (by omega)], rfl⟩)
theorem mo_state (hW : mo_W h o A x F) (k : Nat) (hk : k < 6) : pb_Ctr G mX4_state 2 0 0 [pb_r o, pb_i k] h (pb_P (some (pb_i (F 0 (21 + 28 * k)))) h) := by
  refine pb_Ctr.of rfl rfl rfl tX4_state_ok rfl ?_
  (try refine pb_Ex.run rfl ?_)
  refine pb_Ex.getf rfl rfl hW.1 rfl ?_
  (try refine pb_Ex.run rfl ?_)
  refine pb_Ex.pS rfl rfl rfl rfl (mo_hullAt (k : Int)) (by omega) (by omega) (by omega) ?_
  (try refine pb_Ex.run rfl ?_)
  refine pb_Ex.iat (21 + 28 * k) rfl hW.2.1 (by omega) (by omega) ?_
  (try refine pb_Ex.run rfl ?_)
  refine pb_Ex.iret rfl rfl (by omega) (by omega) (⟨rfl, rfl⟩)
theorem mo_frames (hW : mo_W h o A x F) (k : Nat) (hk : k < 6) : pb_Ctr G mX4_frames 2 0 0 [pb_r o, pb_i k] h (pb_P (some (pb_i (F 0 (22 + 28 * k)))) h) := by
  refine pb_Ctr.of rfl rfl rfl tX4_frames_ok rfl ?_
  (try refine pb_Ex.run rfl ?_)
  refine pb_Ex.getf rfl rfl hW.1 rfl ?_
  (try refine pb_Ex.run rfl ?_)
  refine pb_Ex.pS rfl rfl rfl rfl (mo_hullAt (k : Int)) (by omega) (by omega) (by omega) ?_
  (try refine pb_Ex.run rfl ?_)
  refine pb_Ex.iat (22 + 28 * k) rfl hW.2.1 (by omega) (by omega) ?_
  (try refine pb_Ex.run rfl ?_)
  refine pb_Ex.iret rfl rfl (by omega) (by omega) (⟨rfl, rfl⟩)
theorem mo_width (hW : mo_W h o A x F) (k j s : Nat) (hk : k < 6) (hj : j < 8) (hs : s < 2) : pb_Ctr G mX4_width 2 0 0 [pb_r o, pb_i k, pb_i j, pb_i s] h (pb_P (some (pb_i (F 0 (25 + 28 * k + 2 * j + s)))) h) := by
  refine pb_Ctr.of rfl rfl rfl tX4_width_ok rfl ?_
  (try refine pb_Ex.run rfl ?_)
  refine pb_Ex.getf rfl rfl hW.1 rfl ?_
  (try refine pb_Ex.run rfl ?_)
  refine pb_Ex.pS rfl rfl rfl rfl (mo_hullAt (k : Int)) (by omega) (by omega) (by omega) ?_
  (try refine pb_Ex.run rfl ?_)
  refine pb_Ex.iat (25 + 28 * k + 2 * j + s) rfl hW.2.1 (by omega) (by omega) ?_
  (try refine pb_Ex.run rfl ?_)
  refine pb_Ex.iret rfl rfl (by omega) (by omega) (⟨rfl, rfl⟩)
theorem mo_isHull (hW : mo_W h o A x F) (ok : ya_ok t (F 0)) (z : Int) (hz : pb_rg z) : pb_Ctr G mX4_isHull 2 0 0 [pb_r o, pb_i z] h (pb_P (some (pb_i (mo_in z 0 (F 0 0 - 1)))) h) := by
  have := ok.num
  refine pb_Ctr.of rfl rfl rfl tX4_isHull_ok rfl ?_
  (try refine pb_Ex.run rfl ?_)
  refine pb_Ex.i2l rfl (by omega) ?_
  (try refine pb_Ex.run rfl ?_)
  refine pb_Ex.getf rfl rfl hW.1 rfl ?_
  (try refine pb_Ex.run rfl ?_)
  refine pb_Ex.iat (0) rfl hW.2.1 (by omega) (by omega) ?_
  (try refine pb_Ex.run rfl ?_)
  refine pb_Ex.i2l rfl (by omega) ?_
  (try refine pb_Ex.run rfl ?_)
  refine pb_Ex.pS rfl rfl rfl rfl (mo_inn z 0 (F 0 0 - 1) (by omega) (by omega) (by omega)) (by omega) (by omega) (by omega) ?_
  (try refine pb_Ex.run rfl ?_)
  refine pb_Ex.zret (ty := .boolean) rfl rfl (pb_nb (mo_in01 _ _ _)).1 (by omega) (by omega) (⟨rfl, rfl⟩)
theorem mo_seams (hW : mo_W h o A x F) (k : Nat) (hk : k < 6) (hn : ya_fr (F 0) k) : pb_Ctr G mX4_seams 3 0 0 [pb_r o, pb_i k] h (pb_P (some (pb_i (ya_se (F 0) k : Nat))) h) := by
  have h1 := hn.nn
  refine pb_Ctr.of rfl rfl rfl tX4_seams_ok rfl ?_
  (try refine pb_Ex.run rfl ?_)
  refine pb_Ex.pV rfl rfl rfl rfl hW.1 rfl rfl (mo_frames hW k hk) (by omega) (by omega) (by omega) ?_
  (try refine pb_Ex.run rfl ?_)
  refine pb_Ex.mmax rfl rfl (by omega) (by omega) rfl (by omega) (by omega) (by omega) ?_
  (try refine pb_Ex.run rfl ?_)
  refine pb_Ex.iret rfl rfl (by omega) (by omega) (⟨by congr 3; unfold ya_se; omega, rfl⟩)
theorem mo_isWorked (hW : mo_W h o A x F) (ok : ya_ok t (F 0)) (k : Nat) (hk : k < 6) : pb_Ctr G mX4_isWorked 3 0 0 [pb_r o, pb_i k] h (pb_P (some (pb_i (if F 0 (21 + 28 * k) = 0 ∨ F 0 (21 + 28 * k) = 1 then 1 else 0))) h) := by
  have h1 := ok.hull hk
  refine pb_Ctr.of rfl rfl rfl tX4_isWorked_ok rfl ?_
  (try refine pb_Ex.run rfl ?_)
  refine pb_Ex.pV rfl rfl rfl rfl hW.1 rfl rfl (mo_state hW k hk) (by omega) (by omega) (by omega) ?_
  (try refine pb_Ex.run rfl ?_)
  refine pb_Ex.if_eq rfl (by omega) (fun c => ?_) (fun c => ?_)
  · refine pb_Ex.run rfl ?_
    refine pb_Ex.zret (ty := .boolean) rfl rfl (pb_nb (Or.inr rfl)).1 (by omega) (by omega) (⟨by rw [if_pos (Or.inl c)], rfl⟩)
  · refine pb_Ex.run rfl ?_
    refine pb_Ex.pV rfl rfl rfl rfl hW.1 rfl rfl (mo_state hW k hk) (by omega) (by omega) (by omega) ?_
    (try refine pb_Ex.run rfl ?_)
    refine pb_Ex.icmp_ne rfl (by omega) (by omega) (fun c2 => ?_) (fun c2 => ?_)
    · refine pb_Ex.run rfl ?_
      refine pb_Ex.zret (ty := .boolean) rfl rfl (pb_nb (Or.inl rfl)).1 (by omega) (by omega) (⟨by rw [if_neg (by omega)], rfl⟩)
    · refine pb_Ex.run rfl ?_
      refine pb_Ex.zret (ty := .boolean) rfl rfl (pb_nb (Or.inr rfl)).1 (by omega) (by omega) (⟨by rw [if_pos (Or.inr c2)], rfl⟩)
theorem mo_isSeam (hW : mo_W h o A x F) (ok : ya_ok t (F 0)) (z y : Int) (hz : pb_rg z) (hy : pb_rg y) : pb_Ctr G mX4_isSeam 4 0 0 [pb_r o, pb_i z, pb_i y] h (pb_P (some (pb_i (if (0 ≤ z ∧ z < F 0 0) ∧ 0 ≤ y ∧ y < ya_se (F 0) z.toNat then 1 else 0))) h) := by
  have h0 := ok.num
  refine pb_Ctr.of rfl rfl rfl tX4_isSeam_ok rfl ?_
  (try refine pb_Ex.run rfl ?_)
  refine pb_Ex.pV rfl rfl rfl rfl hW.1 rfl rfl (mo_isHull hW ok z hz) (by omega) (by omega) (by omega) ?_
  (try refine pb_Ex.run rfl ?_)
  unfold mo_in
  by_cases c : 0 ≤ z ∧ z ≤ F 0 0 - 1
  · rw [if_pos c]
    obtain ⟨k, rfl⟩ := Int.eq_ofNat_of_zero_le c.1
    have h1 := ok.nn (k := k) (by omega)
    have h2 : ya_se (F 0) k ≤ 7 := by unfold ya_se; omega
    refine pb_Ex.ifF rfl (by omega) (by first | decide | (simp only [pb_cmp]; omega) | simp [pb_cmp]) ?_
    (try refine pb_Ex.run rfl ?_)
    refine pb_Ex.i2l rfl (by omega) ?_
    (try refine pb_Ex.run rfl ?_)
    refine pb_Ex.pV rfl rfl rfl rfl hW.1 rfl rfl (mo_seams hW k (by omega) (ok.fr (by omega))) (by omega) (by omega) (by omega) ?_
    (try refine pb_Ex.run rfl ?_)
    refine pb_Ex.i2l rfl (by omega) ?_
    (try refine pb_Ex.run rfl ?_)
    refine pb_Ex.pS rfl rfl rfl rfl (mo_inn y 0 (((ya_se (F 0) k : Nat) : Int) - 1) (by omega) (by omega) (by omega)) (by omega) (by omega) (by omega) ?_
    (try refine pb_Ex.run rfl ?_)
    unfold mo_in
    rw [Int.toNat_natCast]
    by_cases c2 : 0 ≤ y ∧ y ≤ ((ya_se (F 0) k : Nat) : Int) - 1
    · rw [if_pos c2, if_pos ⟨by omega, by omega⟩]
      refine pb_Ex.ifF rfl (by omega) (by first | decide | (simp only [pb_cmp]; omega) | simp [pb_cmp]) ?_
      (try refine pb_Ex.run rfl ?_)
      refine pb_Ex.zret (ty := .boolean) rfl rfl (pb_nb (Or.inr rfl)).1 (by omega) (by omega) (⟨rfl, rfl⟩)
    · rw [if_neg c2, if_neg (by omega)]
      refine pb_Ex.ifT rfl (by omega) (by first | decide | (simp only [pb_cmp]; omega) | simp [pb_cmp]) ?_
      (try refine pb_Ex.run rfl ?_)
      refine pb_Ex.zret (ty := .boolean) rfl rfl (pb_nb (Or.inl rfl)).1 (by omega) (by omega) (⟨rfl, rfl⟩)
  · rw [if_neg c, if_neg (by omega)]
    refine pb_Ex.ifT rfl (by omega) (by first | decide | (simp only [pb_cmp]; omega) | simp [pb_cmp]) ?_
    (try refine pb_Ex.run rfl ?_)
    refine pb_Ex.zret (ty := .boolean) rfl rfl (pb_nb (Or.inl rfl)).1 (by omega) (by omega) (⟨rfl, rfl⟩)
theorem mo_tide (hW : mo_W h o A x F) (z : Int) (hz : 0 ≤ z ∧ z < 2147483648) : pb_Ctr G mX4_tide 2 0 0 [pb_r o, pb_i z] h (pb_P (some (pb_i (F 0 (5 + (z % 12).toNat)))) h) := by
  refine pb_Ctr.of rfl rfl rfl tX4_tide_ok rfl ?_
  (try refine pb_Ex.run rfl ?_)
  refine pb_Ex.getf rfl rfl hW.1 rfl ?_
  (try refine pb_Ex.run rfl ?_)
  refine pb_Ex.irem rfl hz (by omega) ?_
  refine pb_Ex.run rfl ?_
  refine pb_Ex.iat (5 + (z % 12).toNat) rfl hW.2.1 (by omega) (by omega) ?_
  (try refine pb_Ex.run rfl ?_)
  refine pb_Ex.iret rfl rfl (by omega) (by omega) (⟨rfl, rfl⟩)
theorem mo_dry (hW : mo_W h o A x F) (k : Nat) (hk : k < 6) (hn : ya_fr (F 0) k) : pb_Ctr G mX4_dry 3 0 0 [pb_r o, pb_i k] h (pb_P (some (pb_i (ya_dry (F 0) k))) h) := by
  have h1 := hn.nn
  refine pb_Ctr.of rfl rfl rfl tX4_dry_ok rfl ?_
  (try refine pb_Ex.run rfl ?_)
  refine pb_Ex.getf rfl rfl hW.1 rfl ?_
  (try refine pb_Ex.run rfl ?_)
  refine pb_Ex.pS rfl rfl rfl rfl (mo_hullAt (k : Int)) (by omega) (by omega) (by omega) ?_
  (try refine pb_Ex.run rfl ?_)
  refine pb_Ex.iat (23 + 28 * k) rfl hW.2.1 (by omega) (by omega) ?_
  (try refine pb_Ex.run rfl ?_)
  have loop : ∀ (m j : Nat) (s z : Int), j + m = ya_n (F 0) k → z = j → s = F 0 (23 + 28 * k) + ya_sum (ya_fw (F 0) k) j → pb_Ex G mX4_dry 3 0 0 (pb_P (some (pb_i (ya_dry (F 0) k))) h) 0 0 14 [some (pb_r o), some (pb_i k), some (pb_i s), some (pb_i z)] [] h := by
    intro m
    induction m with
    | zero =>
      intro j s z hj hz hs
      refine pb_Ex.run rfl ?_
      refine pb_Ex.pV rfl rfl rfl rfl hW.1 rfl rfl (mo_frames hW k hk) (by omega) (by omega) (by omega) ?_
      (try refine pb_Ex.run rfl ?_)
      refine pb_Ex.icmpT rfl (by omega) (by omega) (by first | decide | (simp only [pb_cmp]; omega) | simp [pb_cmp]) ?_
      (try refine pb_Ex.run rfl ?_)
      refine pb_Ex.iret rfl rfl (by omega) (by omega) (⟨by rw [hs, show j = ya_n (F 0) k by omega]; rfl, rfl⟩)
    | succ m ih =>
      intro j s z hj hz hs
      refine pb_Ex.run rfl ?_
      refine pb_Ex.pV rfl rfl rfl rfl hW.1 rfl rfl (mo_frames hW k hk) (by omega) (by omega) (by omega) ?_
      (try refine pb_Ex.run rfl ?_)
      refine pb_Ex.icmpF rfl (by omega) (by omega) (by first | decide | (simp only [pb_cmp]; omega) | simp [pb_cmp]) ?_
      (try refine pb_Ex.run rfl ?_)
      subst hz
      refine pb_Ex.pV rfl rfl rfl rfl hW.1 rfl rfl (mo_width hW k j 0 hk (by omega) (by omega)) (by omega) (by omega) (by omega) ?_
      (try refine pb_Ex.run rfl ?_)
      refine pb_Ex.pV rfl rfl rfl rfl hW.1 rfl rfl (mo_width hW k j 1 hk (by omega) (by omega)) (by omega) (by omega) (by omega) ?_
      (try refine pb_Ex.run rfl ?_)
      exact ih (j + 1) _ _ (by omega) (by omega) (by rw [ya_sum_s, hs]; unfold ya_fw; omega)
  exact loop (ya_n (F 0) k) 0 _ 0 (by omega) rfl (by simp [ya_sum])
theorem mo_weight (hW : mo_W h o A x F) (k : Nat) (hk : k < 6) (hn : ya_fr (F 0) k) : pb_Ctr G mX4_weight 4 0 0 [pb_r o, pb_i k] h (pb_P (some (pb_i (ya_wt (F 0) k))) h) := by
  refine pb_Ctr.of rfl rfl rfl tX4_weight_ok rfl ?_
  (try refine pb_Ex.run rfl ?_)
  refine pb_Ex.pV rfl rfl rfl rfl hW.1 rfl rfl (mo_dry hW k hk hn) (by omega) (by omega) (by omega) ?_
  (try refine pb_Ex.run rfl ?_)
  refine pb_Ex.getf rfl rfl hW.1 rfl ?_
  (try refine pb_Ex.run rfl ?_)
  refine pb_Ex.pS rfl rfl rfl rfl (mo_hullAt (k : Int)) (by omega) (by omega) (by omega) ?_
  (try refine pb_Ex.run rfl ?_)
  refine pb_Ex.iat (24 + 28 * k) rfl hW.2.1 (by omega) (by omega) ?_
  (try refine pb_Ex.run rfl ?_)
  refine pb_Ex.iret rfl rfl (by omega) (by omega) (⟨rfl, rfl⟩)
theorem mo_draught (hW : mo_W h o A x F) (k : Nat) (hk : k < 6) (hn : ya_fr (F 0) k) (hwd : 0 ≤ ya_wd (F 0) k ∧ ya_wd (F 0) k ≤ 840) (w : Int) (hw : pb_rg w) : pb_Ctr G mX4_draught 4 0 0 [pb_r o, pb_i k, pb_i w] h (pb_P (some (pb_i (ya_dr (ya_wd (F 0) k) w))) h) := by
  have h1 := hn.nn
  have hse : ya_se (F 0) k ≤ 7 := by unfold ya_se; omega
  refine pb_Ctr.of rfl rfl rfl tX4_draught_ok rfl ?_
  (try refine pb_Ex.run rfl ?_)
  have loop2 : ∀ (m d : Nat) (z : Int), d + m = 41 → z = d → pb_Ex G mX4_draught 4 0 0 (pb_P (some (pb_i (ya_drF (ya_wd (F 0) k) w d m))) h) 0 0 66 [some (pb_r o), some (pb_i k), some (pb_i w), some (pb_i (ya_wd (F 0) k)), some (pb_i z)] [] h := by
    intro m
    induction m with
    | zero =>
      intro d z hd hz
      refine pb_Ex.run rfl ?_
      refine pb_Ex.icmpT rfl (by omega) (by omega) (by first | decide | (simp only [pb_cmp]; omega) | simp [pb_cmp]) ?_
      (try refine pb_Ex.run rfl ?_)
      refine pb_Ex.iret rfl rfl (by omega) (by omega) (⟨rfl, rfl⟩)
    | succ m ih =>
      intro d z hd hz
      refine pb_Ex.run rfl ?_
      refine pb_Ex.icmpF rfl (by omega) (by omega) (by first | decide | (simp only [pb_cmp]; omega) | simp [pb_cmp]) ?_
      (try refine pb_Ex.run rfl ?_)
      subst hz
      have hm0 : 0 ≤ ya_wd (F 0) k * d := Int.mul_nonneg hwd.1 (by omega)
      have hm1 : ya_wd (F 0) k * d ≤ 840 * 40 := Int.mul_le_mul hwd.2 (by omega) (by omega) (by omega)
      refine pb_Ex.idiv rfl (by omega) (by omega) ?_
      refine pb_Ex.run rfl ?_
      refine pb_Ex.icmp_lt rfl (by omega) (by omega) (fun c => ?_) (fun c => ?_)
      · refine pb_Ex.run rfl ?_
        unfold ya_drF
        rw [if_neg (by omega)]
        exact ih (d + 1) _ (by omega) (by omega)
      · refine pb_Ex.run rfl ?_
        unfold ya_drF
        rw [if_pos (by omega)]
        refine pb_Ex.iret rfl rfl (by omega) (by omega) (⟨rfl, rfl⟩)
  have loop : ∀ (m j : Nat) (s z : Int), j + m = ya_se (F 0) k → z = j → s = ya_sum (fun j => ya_fw (F 0) k j + ya_fw (F 0) k (j + 1)) j → pb_Ex G mX4_draught 4 0 0 (pb_P (some (pb_i (ya_dr (ya_wd (F 0) k) w))) h) 0 0 5 [some (pb_r o), some (pb_i k), some (pb_i w), some (pb_i s), some (pb_i z)] [] h := by
    intro m
    induction m with
    | zero =>
      intro j s z hj hz hs
      refine pb_Ex.run rfl ?_
      refine pb_Ex.pV rfl rfl rfl rfl hW.1 rfl rfl (mo_seams hW k hk hn) (by omega) (by omega) (by omega) ?_
      (try refine pb_Ex.run rfl ?_)
      refine pb_Ex.icmpT rfl (by omega) (by omega) (by first | decide | (simp only [pb_cmp]; omega) | simp [pb_cmp]) ?_
      (try refine pb_Ex.run rfl ?_)
      have e : s = ya_wd (F 0) k := by rw [hs, show j = ya_se (F 0) k by omega]; rfl
      subst e
      exact loop2 41 0 _ (by omega) rfl
    | succ m ih =>
      intro j s z hj hz hs
      refine pb_Ex.run rfl ?_
      refine pb_Ex.pV rfl rfl rfl rfl hW.1 rfl rfl (mo_seams hW k hk hn) (by omega) (by omega) (by omega) ?_
      (try refine pb_Ex.run rfl ?_)
      refine pb_Ex.icmpF rfl (by omega) (by omega) (by first | decide | (simp only [pb_cmp]; omega) | simp [pb_cmp]) ?_
      (try refine pb_Ex.run rfl ?_)
      subst hz
      refine pb_Ex.pV rfl rfl rfl rfl hW.1 rfl rfl (mo_width hW k j 0 hk (by omega) (by omega)) (by omega) (by omega) (by omega) ?_
      (try refine pb_Ex.run rfl ?_)
      refine pb_Ex.pV rfl rfl rfl rfl hW.1 rfl rfl (mo_width hW k j 1 hk (by omega) (by omega)) (by omega) (by omega) (by omega) ?_
      (try refine pb_Ex.run rfl ?_)
      refine pb_Ex.pV rfl rfl rfl rfl hW.1 rfl rfl (mo_width hW k (j + 1) 0 hk (by omega) (by omega)) (by omega) (by omega) (by omega) ?_
      (try refine pb_Ex.run rfl ?_)
      refine pb_Ex.pV rfl rfl rfl rfl hW.1 rfl rfl (mo_width hW k (j + 1) 1 hk (by omega) (by omega)) (by omega) (by omega) (by omega) ?_
      (try refine pb_Ex.run rfl ?_)
      exact ih (j + 1) _ _ (by omega) (by omega) (by rw [ya_sum_s, hs]; simp only [ya_fw]; omega)
  exact loop (ya_se (F 0) k) 0 _ 0 (by omega) rfl rfl
end MODEL1
