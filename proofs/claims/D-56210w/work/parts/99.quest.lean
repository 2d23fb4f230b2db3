set_option maxRecDepth 100000
/-! QUESTIONS to the use at o whose yard is at A 0 -/
section QUEST
variable {G : pb_G} {K : co_K} {h : pb_H} {A : Nat → Nat} {f : Nat → Int} {t o : Nat} {us : List pb_V}
theorem bo_stateOf1 (hG : co_G G K) (hU : h.2 o = some (pb_ob 0 (pb_r (A 0) :: us))) (hW : yd_W K h A f) (ok : ya_ok t f) (z : Int) (hz : 0 ≤ z ∧ z < f 0) : pb_Ctr G mX1_stateOf 4 0 0 [pb_r o, pb_i z] h (pb_P (some (pb_i (f (21 + 28 * z.toNat)))) h) := by
  have hn := ok.num
  have hh := hW.2.2.1 z.toNat (by omega)
  have oh := ok.hull (k := z.toNat) (by omega)
  refine pb_Ctr.of rfl rfl rfl tX1_stateOf_ok rfl ?_
  (try refine pb_Ex.run rfl ?_)
  refine pb_Ex.getf rfl rfl hU rfl ?_
  (try refine pb_Ex.run rfl ?_)
  refine pb_Ex.pV rfl rfl rfl rfl (hW.1) rfl rfl (yd_hull1 hW ok z hz) (by omega) (by omega) (by omega) ?_
  (try refine pb_Ex.run rfl ?_)
  refine pb_Ex.getf rfl rfl hh.1 rfl ?_
  (try refine pb_Ex.run rfl ?_)
  refine pb_Ex.ord rfl rfl hG (by omega) rfl rfl (by omega) (by omega) (by omega) ?_
  (try refine pb_Ex.run rfl ?_)
  rw [show (((f (21 + 28 * z.toNat)).toNat : Nat) : Int) = f (21 + 28 * z.toNat) by omega]
  refine pb_Ex.iret rfl rfl (by omega) (by omega) (⟨rfl, rfl⟩)
theorem bo_stateOf0 (hG : co_G G K) (hU : h.2 o = some (pb_ob 0 (pb_r (A 0) :: us))) (hW : yd_W K h A f) (ok : ya_ok t f) (z : Int) (hr : pb_rg z) (hz : ¬ (0 ≤ z ∧ z < f 0)) : pb_Ctr G mX1_stateOf 8 1 6 [pb_r o, pb_i z] h (th_Q xIOB h) := by
  refine pb_Ctr.of rfl rfl rfl tX1_stateOf_ok rfl ?_
  (try refine pb_Ex.run rfl ?_)
  refine pb_Ex.getf rfl rfl hU rfl ?_
  (try refine pb_Ex.run rfl ?_)
  refine pb_Ex.tV rfl rfl rfl rfl (hW.1) rfl rfl (yd_hull0 hG hW ok z hr hz) (by omega) (by omega) (by omega) (fun q h1 hx1 => pb_Xx.out rfl (by omega) (by omega) ?_)
  exact ⟨q, rfl, hx1.ho (by omega)⟩
theorem bo_frameCount1 (hU : h.2 o = some (pb_ob 0 (pb_r (A 0) :: us))) (hW : yd_W K h A f) (ok : ya_ok t f) (z : Int) (hz : 0 ≤ z ∧ z < f 0) : pb_Ctr G mX1_frameCount 4 0 0 [pb_r o, pb_i z] h (pb_P (some (pb_i (ya_n f z.toNat))) h) := by
  have hn := ok.num
  have hh := hW.2.2.1 z.toNat (by omega)
  refine pb_Ctr.of rfl rfl rfl tX1_frameCount_ok rfl ?_
  (try refine pb_Ex.run rfl ?_)
  refine pb_Ex.getf rfl rfl hU rfl ?_
  (try refine pb_Ex.run rfl ?_)
  refine pb_Ex.pV rfl rfl rfl rfl (hW.1) rfl rfl (yd_hull1 hW ok z hz) (by omega) (by omega) (by omega) ?_
  (try refine pb_Ex.run rfl ?_)
  refine pb_Ex.pV rfl rfl rfl rfl (hh.1) rfl rfl (hu_size hh) (by omega) (by omega) (by omega) ?_
  (try refine pb_Ex.run rfl ?_)
  refine pb_Ex.iret rfl rfl (by omega) (by omega) (⟨rfl, rfl⟩)
theorem bo_waterIn1 (hU : h.2 o = some (pb_ob 0 (pb_r (A 0) :: us))) (hW : yd_W K h A f) (ok : ya_ok t f) (z : Int) (hz : 0 ≤ z ∧ z < f 0) : pb_Ctr G mX1_waterIn 4 0 0 [pb_r o, pb_i z] h (pb_P (some (pb_i (f (24 + 28 * z.toNat)))) h) := by
  have hn := ok.num
  have hh := hW.2.2.1 z.toNat (by omega)
  refine pb_Ctr.of rfl rfl rfl tX1_waterIn_ok rfl ?_
  (try refine pb_Ex.run rfl ?_)
  refine pb_Ex.getf rfl rfl hU rfl ?_
  (try refine pb_Ex.run rfl ?_)
  refine pb_Ex.pV rfl rfl rfl rfl (hW.1) rfl rfl (yd_hull1 hW ok z hz) (by omega) (by omega) (by omega) ?_
  (try refine pb_Ex.run rfl ?_)
  refine pb_Ex.getf rfl rfl hh.1 rfl ?_
  (try refine pb_Ex.run rfl ?_)
  refine pb_Ex.iret rfl rfl (by omega) (by omega) (⟨rfl, rfl⟩)
theorem bo_frameCount0 (hG : co_G G K) (hU : h.2 o = some (pb_ob 0 (pb_r (A 0) :: us))) (hW : yd_W K h A f) (ok : ya_ok t f) (z : Int) (hr : pb_rg z) (hz : ¬ (0 ≤ z ∧ z < f 0)) : pb_Ctr G mX1_frameCount 8 1 6 [pb_r o, pb_i z] h (th_Q xIOB h) := by
  refine pb_Ctr.of rfl rfl rfl tX1_frameCount_ok rfl ?_
  (try refine pb_Ex.run rfl ?_)
  refine pb_Ex.getf rfl rfl hU rfl ?_
  (try refine pb_Ex.run rfl ?_)
  refine pb_Ex.tV rfl rfl rfl rfl (hW.1) rfl rfl (yd_hull0 hG hW ok z hr hz) (by omega) (by omega) (by omega) (fun q h1 hx1 => pb_Xx.out rfl (by omega) (by omega) ?_)
  exact ⟨q, rfl, hx1.ho (by omega)⟩
theorem bo_waterIn0 (hG : co_G G K) (hU : h.2 o = some (pb_ob 0 (pb_r (A 0) :: us))) (hW : yd_W K h A f) (ok : ya_ok t f) (z : Int) (hr : pb_rg z) (hz : ¬ (0 ≤ z ∧ z < f 0)) : pb_Ctr G mX1_waterIn 8 1 6 [pb_r o, pb_i z] h (th_Q xIOB h) := by
  refine pb_Ctr.of rfl rfl rfl tX1_waterIn_ok rfl ?_
  (try refine pb_Ex.run rfl ?_)
  refine pb_Ex.getf rfl rfl hU rfl ?_
  (try refine pb_Ex.run rfl ?_)
  refine pb_Ex.tV rfl rfl rfl rfl (hW.1) rfl rfl (yd_hull0 hG hW ok z hr hz) (by omega) (by omega) (by omega) (fun q h1 hx1 => pb_Xx.out rfl (by omega) (by omega) ?_)
  exact ⟨q, rfl, hx1.ho (by omega)⟩
theorem bo_weightOf0 (hG : co_G G K) (hU : h.2 o = some (pb_ob 0 (pb_r (A 0) :: us))) (hW : yd_W K h A f) (ok : ya_ok t f) (z : Int) (hr : pb_rg z) (hz : ¬ (0 ≤ z ∧ z < f 0)) : pb_Ctr G mX1_weightOf 8 1 6 [pb_r o, pb_i z] h (th_Q xIOB h) := by
  refine pb_Ctr.of rfl rfl rfl tX1_weightOf_ok rfl ?_
  (try refine pb_Ex.run rfl ?_)
  refine pb_Ex.getf rfl rfl hU rfl ?_
  (try refine pb_Ex.run rfl ?_)
  refine pb_Ex.tV rfl rfl rfl rfl (hW.1) rfl rfl (yd_hull0 hG hW ok z hr hz) (by omega) (by omega) (by omega) (fun q h1 hx1 => pb_Xx.out rfl (by omega) (by omega) ?_)
  exact ⟨q, rfl, hx1.ho (by omega)⟩
theorem bo_draughtOf0 (hG : co_G G K) (hU : h.2 o = some (pb_ob 0 (pb_r (A 0) :: us))) (hW : yd_W K h A f) (ok : ya_ok t f) (z : Int) (hr : pb_rg z) (hz : ¬ (0 ≤ z ∧ z < f 0)) : pb_Ctr G mX1_draughtOf 8 1 6 [pb_r o, pb_i z] h (th_Q xIOB h) := by
  refine pb_Ctr.of rfl rfl rfl tX1_draughtOf_ok rfl ?_
  (try refine pb_Ex.run rfl ?_)
  refine pb_Ex.getf rfl rfl hU rfl ?_
  (try refine pb_Ex.run rfl ?_)
  refine pb_Ex.tV rfl rfl rfl rfl (hW.1) rfl rfl (yd_hull0 hG hW ok z hr hz) (by omega) (by omega) (by omega) (fun q h1 hx1 => pb_Xx.out rfl (by omega) (by omega) ?_)
  exact ⟨q, rfl, hx1.ho (by omega)⟩
theorem bo_draughtByHalving0 (hG : co_G G K) (hU : h.2 o = some (pb_ob 0 (pb_r (A 0) :: us))) (hW : yd_W K h A f) (ok : ya_ok t f) (z : Int) (hr : pb_rg z) (hz : ¬ (0 ≤ z ∧ z < f 0)) : pb_Ctr G mX1_draughtByHalving 8 1 6 [pb_r o, pb_i z] h (th_Q xIOB h) := by
  refine pb_Ctr.of rfl rfl rfl tX1_draughtByHalving_ok rfl ?_
  (try refine pb_Ex.run rfl ?_)
  refine pb_Ex.getf rfl rfl hU rfl ?_
  (try refine pb_Ex.run rfl ?_)
  refine pb_Ex.tV rfl rfl rfl rfl (hW.1) rfl rfl (yd_hull0 hG hW ok z hr hz) (by omega) (by omega) (by omega) (fun q h1 hx1 => pb_Xx.out rfl (by omega) (by omega) ?_)
  exact ⟨q, rfl, hx1.ho (by omega)⟩
theorem bo_heelOf0 (hG : co_G G K) (hU : h.2 o = some (pb_ob 0 (pb_r (A 0) :: us))) (hW : yd_W K h A f) (ok : ya_ok t f) (z : Int) (hr : pb_rg z) (hz : ¬ (0 ≤ z ∧ z < f 0)) : pb_Ctr G mX1_heelOf 8 1 6 [pb_r o, pb_i z] h (th_Q xIOB h) := by
  refine pb_Ctr.of rfl rfl rfl tX1_heelOf_ok rfl ?_
  (try refine pb_Ex.run rfl ?_)
  refine pb_Ex.getf rfl rfl hU rfl ?_
  (try refine pb_Ex.run rfl ?_)
  refine pb_Ex.tV rfl rfl rfl rfl (hW.1) rfl rfl (yd_hull0 hG hW ok z hr hz) (by omega) (by omega) (by omega) (fun q h1 hx1 => pb_Xx.out rfl (by omega) (by omega) ?_)
  exact ⟨q, rfl, hx1.ho (by omega)⟩
theorem bo_weightOf1 (hG : co_G G K) (hU : h.2 o = some (pb_ob 0 (pb_r (A 0) :: us))) (hW : yd_W K h A f) (ok : ya_ok t f) (z : Int) (hz : 0 ≤ z ∧ z < f 0) : pb_Ctr G mX1_weightOf 4 1 2 [pb_r o, pb_i z] h (fr_Q (some (pb_i (ya_wt f z.toNat))) h) := by
  have hn := ok.num
  have hh := hW.2.2.1 z.toNat (by omega)
  refine pb_Ctr.of rfl rfl rfl tX1_weightOf_ok rfl ?_
  (try refine pb_Ex.run rfl ?_)
  refine pb_Ex.getf rfl rfl hU rfl ?_
  (try refine pb_Ex.run rfl ?_)
  refine pb_Ex.pV rfl rfl rfl rfl (hW.1) rfl rfl (yd_hull1 hW ok z hz) (by omega) (by omega) (by omega) ?_
  (try refine pb_Ex.run rfl ?_)
  refine pb_Ex.rV rfl rfl rfl rfl (hh.1) rfl rfl (hu_weight hG hh (ok.hu2 (by omega))) (by omega) (by omega) (by omega) (fun h1 hx1 => ?_)
  (try refine pb_Ex.run rfl ?_)
  refine pb_Ex.iret rfl rfl (by omega) (by omega) (⟨rfl, hx1⟩)
theorem bo_heelOf1 (hU : h.2 o = some (pb_ob 0 (pb_r (A 0) :: us))) (hW : yd_W K h A f) (ok : ya_ok t f) (z : Int) (hz : 0 ≤ z ∧ z < f 0) : pb_Ctr G mX1_heelOf 4 0 0 [pb_r o, pb_i z] h (pb_P (some (pb_i (ya_sum (ya_hd f z.toNat) (ya_n f z.toNat)))) h) := by
  have hn := ok.num
  have hh := hW.2.2.1 z.toNat (by omega)
  refine pb_Ctr.of rfl rfl rfl tX1_heelOf_ok rfl ?_
  (try refine pb_Ex.run rfl ?_)
  refine pb_Ex.getf rfl rfl hU rfl ?_
  (try refine pb_Ex.run rfl ?_)
  refine pb_Ex.pV rfl rfl rfl rfl (hW.1) rfl rfl (yd_hull1 hW ok z hz) (by omega) (by omega) (by omega) ?_
  (try refine pb_Ex.run rfl ?_)
  refine pb_Ex.pV rfl rfl rfl rfl (hh.1) rfl rfl (hu_heel hh (ok.hu2 (by omega))) (by omega) (by omega) (by omega) ?_
  (try refine pb_Ex.run rfl ?_)
  refine pb_Ex.iret rfl rfl (by omega) (by omega) (⟨rfl, rfl⟩)
theorem bo_draughtOf1 (hG : co_G G K) (hU : h.2 o = some (pb_ob 0 (pb_r (A 0) :: us))) (hW : yd_W K h A f) (ok : ya_ok t f) (z : Int) (hz : 0 ≤ z ∧ z < f 0) (hd : ya_dr (ya_wd f z.toNat) (ya_wt f z.toNat) ≠ -1) : pb_Ctr G mX1_draughtOf 6 41 82 [pb_r o, pb_i z] h (fr_Q (some (pb_i (ya_dr (ya_wd f z.toNat) (ya_wt f z.toNat)))) h) := by
  have hn := ok.num
  have hh := hW.2.2.1 z.toNat (by omega)
  have dr := ya_dr_rg (ya_wd f z.toNat) (ya_wt f z.toNat)
  refine pb_Ctr.of rfl rfl rfl tX1_draughtOf_ok rfl ?_
  (try refine pb_Ex.run rfl ?_)
  refine pb_Ex.getf rfl rfl hU rfl ?_
  (try refine pb_Ex.run rfl ?_)
  refine pb_Ex.pV rfl rfl rfl rfl (hW.1) rfl rfl (yd_hull1 hW ok z hz) (by omega) (by omega) (by omega) ?_
  (try refine pb_Ex.run rfl ?_)
  refine pb_Ex.rV rfl rfl rfl rfl (hh.1) rfl rfl (hu_draught hG hh (ok.hu2 (by omega))) (by omega) (by omega) (by omega) (fun h1 hx1 => ?_)
  (try refine pb_Ex.run rfl ?_)
  refine pb_Ex.pS rfl rfl rfl rfl (bo_found1 _ (by omega) hd) (by omega) (by omega) (by omega) ?_
  (try refine pb_Ex.run rfl ?_)
  refine pb_Ex.iret rfl rfl (by omega) (by omega) (⟨rfl, hx1⟩)
theorem bo_draughtOf2 (hG : co_G G K) (hU : h.2 o = some (pb_ob 0 (pb_r (A 0) :: us))) (hW : yd_W K h A f) (ok : ya_ok t f) (z : Int) (hz : 0 ≤ z ∧ z < f 0) (hd : ya_dr (ya_wd f z.toNat) (ya_wt f z.toNat) = -1) : pb_Ctr G mX1_draughtOf 8 42 88 [pb_r o, pb_i z] h (th_Q xNSE h) := by
  have hn := ok.num
  have hh := hW.2.2.1 z.toNat (by omega)
  refine pb_Ctr.of rfl rfl rfl tX1_draughtOf_ok rfl ?_
  (try refine pb_Ex.run rfl ?_)
  refine pb_Ex.getf rfl rfl hU rfl ?_
  (try refine pb_Ex.run rfl ?_)
  refine pb_Ex.pV rfl rfl rfl rfl (hW.1) rfl rfl (yd_hull1 hW ok z hz) (by omega) (by omega) (by omega) ?_
  (try refine pb_Ex.run rfl ?_)
  refine pb_Ex.rV rfl rfl rfl rfl (hh.1) rfl rfl (hu_draught hG hh (ok.hu2 (by omega))) (by omega) (by omega) (by omega) (fun h2 hx2 => ?_)
  (try refine pb_Ex.run rfl ?_)
  rw [hd]
  refine pb_Ex.tS rfl rfl rfl rfl (bo_found0 hG) (by omega) (by omega) (by omega) (fun q h1 hx1 => pb_Xx.out rfl (by omega) (by omega) ?_)
  exact ⟨q, rfl, (hx2.tr hx1).ho (by omega)⟩
end QUEST
