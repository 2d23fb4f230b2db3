set_option maxRecDepth 100000
section QUEST2
variable {G : pb_G} {K : co_K} {h : pb_H} {A : Nat → Nat} {f : Nat → Int} {t o : Nat} {us : List pb_V}
theorem bo_halving1 (hG : co_G G K) (hU : h.2 o = some (pb_ob 0 (pb_r (A 0) :: us))) (hW : yd_W K h A f) (ok : ya_ok t f) (z : Int) (hz : 0 ≤ z ∧ z < f 0) (hd : ya_dr (ya_wd f z.toNat) (ya_wt f z.toNat) ≠ -1) : pb_Ctr G mX1_draughtByHalving 7 42 84 [pb_r o, pb_i z] h (fr_Q (some (pb_i (ya_dr (ya_wd f z.toNat) (ya_wt f z.toNat)))) h) := by
  have hn := ok.num
  have hh := hW.2.2.1 z.toNat (by omega)
  have dr := ya_dr_rg (ya_wd f z.toNat) (ya_wt f z.toNat)
  refine pb_Ctr.of rfl rfl rfl tX1_draughtByHalving_ok rfl ?_
  (try refine pb_Ex.run rfl ?_)
  refine pb_Ex.getf rfl rfl hU rfl ?_
  (try refine pb_Ex.run rfl ?_)
  refine pb_Ex.pV rfl rfl rfl rfl (hW.1) rfl rfl (yd_hull1 hW ok z hz) (by omega) (by omega) (by omega) ?_
  (try refine pb_Ex.run rfl ?_)
  refine pb_Ex.rV rfl rfl rfl rfl (hh.1) rfl rfl (hu_halving hG hh (ok.hu2 (by omega))) (by omega) (by omega) (by omega) (fun h1 hx1 => ?_)
  (try refine pb_Ex.run rfl ?_)
  refine pb_Ex.pS rfl rfl rfl rfl (bo_found1 _ (by omega) hd) (by omega) (by omega) (by omega) ?_
  (try refine pb_Ex.run rfl ?_)
  refine pb_Ex.iret rfl rfl (by omega) (by omega) (⟨rfl, hx1⟩)
theorem bo_halving2 (hG : co_G G K) (hU : h.2 o = some (pb_ob 0 (pb_r (A 0) :: us))) (hW : yd_W K h A f) (ok : ya_ok t f) (z : Int) (hz : 0 ≤ z ∧ z < f 0) (hd : ya_dr (ya_wd f z.toNat) (ya_wt f z.toNat) = -1) : pb_Ctr G mX1_draughtByHalving 8 43 90 [pb_r o, pb_i z] h (th_Q xNSE h) := by
  have hn := ok.num
  have hh := hW.2.2.1 z.toNat (by omega)
  refine pb_Ctr.of rfl rfl rfl tX1_draughtByHalving_ok rfl ?_
  (try refine pb_Ex.run rfl ?_)
  refine pb_Ex.getf rfl rfl hU rfl ?_
  (try refine pb_Ex.run rfl ?_)
  refine pb_Ex.pV rfl rfl rfl rfl (hW.1) rfl rfl (yd_hull1 hW ok z hz) (by omega) (by omega) (by omega) ?_
  (try refine pb_Ex.run rfl ?_)
  refine pb_Ex.rV rfl rfl rfl rfl (hh.1) rfl rfl (hu_halving hG hh (ok.hu2 (by omega))) (by omega) (by omega) (by omega) (fun h2 hx2 => ?_)
  (try refine pb_Ex.run rfl ?_)
  rw [hd]
  refine pb_Ex.tS rfl rfl rfl rfl (bo_found0 hG) (by omega) (by omega) (by omega) (fun q h1 hx1 => pb_Xx.out rfl (by omega) (by omega) ?_)
  exact ⟨q, rfl, (hx2.tr hx1).ho (by omega)⟩
theorem bo_mostOnSlips (hG : co_G G K) (hU : h.2 o = some (pb_ob 0 (pb_r (A 0) :: us))) (hW : yd_W K h A f) (ok : ya_ok t f) : pb_Ctr G mX1_mostOnSlips 12 3 12 [pb_r o] h (fr_Q (some (pb_i (km f (f 0).toNat).2)) h) := by
  refine pb_Ctr.of rfl rfl rfl tX1_mostOnSlips_ok rfl ?_
  (try refine pb_Ex.run rfl ?_)
  refine pb_Ex.getf rfl rfl hU rfl ?_
  (try refine pb_Ex.run rfl ?_)
  refine pb_Ex.rV rfl rfl rfl rfl (hW.1) rfl rfl (yd_mostOnSlips hG hW ok) (by omega) (by omega) (by omega) (fun h1 hx1 => ?_)
  (try refine pb_Ex.run rfl ?_)
  refine pb_Ex.iret rfl rfl (by omega) (by omega) (⟨rfl, hx1⟩)
theorem bo_byLengths (hG : co_G G K) (hU : h.2 o = some (pb_ob 0 (pb_r (A 0) :: us))) (hW : yd_W K h A f) (ok : ya_ok t f) : pb_Ctr G mX1_mostOnSlipsByLengths 6 1 4 [pb_r o] h (fr_Q (some (pb_i (gl_l f 7).2)) h) := by
  refine pb_Ctr.of rfl rfl rfl tX1_mostOnSlipsByLengths_ok rfl ?_
  (try refine pb_Ex.run rfl ?_)
  refine pb_Ex.getf rfl rfl hU rfl ?_
  (try refine pb_Ex.run rfl ?_)
  refine pb_Ex.rV rfl rfl rfl rfl (hW.1) rfl rfl (yd_byLengths hG hW ok) (by omega) (by omega) (by omega) (fun h1 hx1 => ?_)
  (try refine pb_Ex.run rfl ?_)
  refine pb_Ex.iret rfl rfl (by omega) (by omega) (⟨rfl, hx1⟩)
theorem bo_bestDelivery (hG : co_G G K) (hU : h.2 o = some (pb_ob 0 (pb_r (A 0) :: us))) (hW : yd_W K h A f) (ok : ya_ok t f) : pb_Ctr G mX1_bestDelivery 5 7 42 [pb_r o] h (fr_Q (some (pb_i (bd_a f 7))) h) := by
  refine pb_Ctr.of rfl rfl rfl tX1_bestDelivery_ok rfl ?_
  (try refine pb_Ex.run rfl ?_)
  refine pb_Ex.getf rfl rfl hU rfl ?_
  (try refine pb_Ex.run rfl ?_)
  refine pb_Ex.rV rfl rfl rfl rfl (hW.1) rfl rfl (yd_bestDelivery hG hW ok) (by omega) (by omega) (by omega) (fun h1 hx1 => ?_)
  (try refine pb_Ex.run rfl ?_)
  refine pb_Ex.iret rfl rfl (by omega) (by omega) (⟨rfl, hx1⟩)
theorem bo_hullCount (hU : h.2 o = some (pb_ob 0 (pb_r (A 0) :: us))) (hW : yd_W K h A f) : pb_Ctr G mX1_hullCount 1 0 0 [pb_r o] h (pb_P (some (pb_i ((f 0).toNat : Nat))) h) := by
  obtain ⟨mc, ho⟩ := hW.2.1.obj
  refine pb_Ctr.of rfl rfl rfl tX1_hullCount_ok rfl ?_
  (try refine pb_Ex.run rfl ?_)
  refine pb_Ex.getf rfl rfl hU rfl ?_
  (try refine pb_Ex.run rfl ?_)
  refine pb_Ex.getf rfl rfl hW.1 rfl ?_
  (try refine pb_Ex.run rfl ?_)
  refine pb_Ex.pV rfl rfl rfl rfl (ho) rfl rfl (ja_size hW.2.1) (by omega) (by omega) (by omega) ?_
  (try refine pb_Ex.run rfl ?_)
  refine pb_Ex.iret rfl rfl (by omega) (by omega) (⟨rfl, rfl⟩)
theorem bo_hour (hU : h.2 o = some (pb_ob 0 (pb_r (A 0) :: us))) (hW : yd_W K h A f) : pb_Ctr G mX1_hour 1 0 0 [pb_r o] h (pb_P (some (pb_i (f 1))) h) := by
  refine pb_Ctr.of rfl rfl rfl tX1_hour_ok rfl ?_
  (try refine pb_Ex.run rfl ?_)
  refine pb_Ex.getf rfl rfl hU rfl ?_
  (try refine pb_Ex.run rfl ?_)
  refine pb_Ex.getf rfl rfl hW.1 rfl ?_
  (try refine pb_Ex.run rfl ?_)
  refine pb_Ex.iret rfl rfl (by omega) (by omega) (⟨rfl, rfl⟩)
end QUEST2
