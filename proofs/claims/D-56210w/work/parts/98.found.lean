set_option maxRecDepth 100000
section FOUND
variable {G : pb_G} {K : co_K} {h : pb_H}
theorem bo_found1 (z : Int) (hr : pb_rg z) (hz : z ≠ -1) : pb_Ctr G mX1_found 1 0 0 [pb_i z] h (pb_P (some (pb_i z)) h) := by
  refine pb_Ctr.of rfl rfl rfl tX1_found_ok rfl ?_
  (try refine pb_Ex.run rfl ?_)
  refine pb_Ex.icmpF rfl (by omega) (by omega) (by first | decide | (simp only [pb_cmp]; omega) | simp [pb_cmp]) ?_
  (try refine pb_Ex.run rfl ?_)
  refine pb_Ex.pS rfl rfl rfl rfl (ck_el1) (by omega) (by omega) (by omega) ?_
  (try refine pb_Ex.run rfl ?_)
  refine pb_Ex.iret rfl rfl (by omega) (by omega) (⟨rfl, rfl⟩)
theorem bo_found0 (hG : co_G G K) : pb_Ctr G mX1_found 7 1 6 [pb_i (-1)] h (th_Q xNSE h) := by
  refine pb_Ctr.of rfl rfl rfl tX1_found_ok rfl ?_
  (try refine pb_Ex.run rfl ?_)
  refine pb_Ex.icmpT rfl (by omega) (by omega) (by first | decide | (simp only [pb_cmp]; omega) | simp [pb_cmp]) ?_
  (try refine pb_Ex.run rfl ?_)
  refine pb_Ex.tS rfl rfl rfl rfl (ck_el0 hG) (by omega) (by omega) (by omega) (fun q h1 hx1 => pb_Xx.out rfl (by omega) (by omega) ?_)
  exact ⟨q, rfl, hx1.ho (by omega)⟩
end FOUND
